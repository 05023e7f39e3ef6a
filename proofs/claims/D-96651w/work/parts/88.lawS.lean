/-! In deed: the image, back -/
theorem pRel.im {n b : Nat} {x x' : xS} {m m' : mS} (r1 : pR1 n x m) (r2 : pR2 n x m) (r3 : pR3 x m) (r4 : pLaw m (xY x)) (r6 : pR6 x m) (r7 : pR7 b x m) (r8 : pR8 b x m) (r9 : xI x 17 = -2 ∧ m.1 48 = -2)
    (hi : ∀ k, (k < 15 ∨ k = 17 ∨ 38 < k) → xI x' k = xI x k) (j8 : xJ x' 8 = xJ x 8) (j40 : xJ x' 40 = xJ x 40) (hE : ∀ s k, k < 6 → xE x' s k = xE x s k) (hN : xn x' = xn x) (hr : x'.2.2.2.2 = x.2.2.2.2) (mi : ∀ k, k ≠ 29 → k ≠ 30 → (k < 18 ∨ 21 < k) → k ≠ 44 → k ≠ 49 → k ≠ 50 → k ≠ 51 → k ≠ 52 → m'.1 k = m.1 k) (mj : ∀ k, k ≠ 8 → k ≠ 9 → (k < 22 ∨ 33 < k) → k < 45 → m'.2.1 k = m.2.1 k) (m22 : m'.2.2 = m.2.2)
    (h6 : ∀ s, s < n → xE x' s 6 = m'.2.1 8 s ∧ xE x' s 7 = m'.2.1 9 s) (r5 : pR5 n x' m') : pRel x' m' := by
  have hC : xC x' = xC x := by show x'.2.2.2.2.1 = _; rw [hr]
  have hm : xm x' = xm x := by show x'.2.2.2.2.2.1 = _; rw [hr]
  have hB : xB x' = xB x := by show x'.2.2.2.2.2.2.1 = _; rw [hr]
  have hk : xk x' = xk x := by show x'.2.2.2.2.2.2.2.1 = _; rw [hr]
  have hH : xH x' = xH x := by show x'.2.2.2.2.2.2.2.2.1 = _; rw [hr]
  have hY : xY x' = xY x := by show x'.2.2.2.2.2.2.2.2.2 = _; rw [hr]
  have mi' : ∀ k, k ≠ 29 → k ≠ 30 → k < 18 ∨ (30 < k ∧ k < 44) ∨ k = 48 → m'.1 k = m.1 k := fun k h1 h2 h3 => mi k h1 h2 (by omega) (by omega) (by omega) (by omega) (by omega) (by omega)
  refine ⟨n, b, ?_, ?_, ?_, ?_, r5, ?_, ?_, ?_, ?_⟩
  · obtain ⟨a1, a2, a3, a4, a5, a6, ⟨a7, a8, a9⟩, a10, a11, a12, a13⟩ := r1
    have m7 := mj 7 (by decide) (by decide) (by decide) (by decide)
    refine ⟨a1, (hi 1 (by decide)).trans a2, hN.trans a3, (mi' 0 (by decide) (by decide) (by decide)).trans a4, fun s hs k hk => ?_, h6, ⟨?_, ?_, ?_⟩, fun s hs k hk => ?_, ?_, ?_, ?_⟩
    · rw [hE s k hk, mj (k + 1) (by omega) (by omega) (by omega) (by omega)]; exact a5 s hs k hk
    · rw [m7]; exact (hi 2 (by decide)).trans a7
    · rw [m7]; exact (hi 3 (by decide)).trans a8
    · rw [m7]; exact (hi 4 (by decide)).trans a9
    · rw [mj (k + 1) (by omega) (by omega) (by omega) (by omega)]; exact a10 s hs k hk
    · rw [m7]; exact a11
    · rw [m7]; exact a12
    · rw [m7]; exact a13
  · exact r2.to (hi 6 (by decide)) (hi 7 (by decide)) hm hC (mi' 34 (by decide) (by decide) (by decide)) (mi' 35 (by decide) (by decide) (by decide)) (mj 36 (by decide) (by decide) (by decide) (by decide))
  · exact r3.to (hi 9 (by decide)) j8 (mi' 10 (by decide) (by decide) (by decide)) (mj 11 (by decide) (by decide) (by decide) (by decide))
  · rw [hY]; exact pLaw.to (m := m) (mi' 12 (by decide) (by decide) (by decide)) (mi' 13 (by decide) (by decide) (by decide)) (fun k h1 h2 => mj k (by omega) (by omega) (by omega) (by omega)) r4
  · exact r6.to (hi 39 (by decide)) j40 (mi' 39 (by decide) (by decide) (by decide)) (mj 40 (by decide) (by decide) (by decide) (by decide))
  · exact r7.to (hi 42 (by decide)) hk hB (mi' 37 (by decide) (by decide) (by decide)) (mj 38 (by decide) (by decide) (by decide) (by decide))
  · exact r8.to hH (mj 41 (by decide) (by decide) (by decide) (by decide)) (mj 42 (by decide) (by decide) (by decide) (by decide)) m22
  · exact ⟨(hi 17 (by decide)).trans r9.1, (mi' 48 (by decide) (by decide) (by decide)).trans r9.2⟩
theorem pl_i2 (k : Nat) : (2 : Int32) * nI k = nI (2 * k) := by rw [show (2 : Int32) = nI 2 from rfl, nI_mul]
theorem op_image {x : xS} {m : mS} (R : pRel x m) {N : Nat} (hN : 400 < N) : Sim (fX_image N x) (fM_image N m) := by
  obtain ⟨n, b, r1, r2, r3, r4, r5, r6, r7, r8, r9⟩ := R
  have o1 := r1.1
  have hx1 := r1.2.1
  have hxn := r1.2.2.1
  have hm0 := r1.2.2.2.1
  have hled := r5.1
  -- the class
  obtain ⟨q, y, ⟨y1, y2, y3, y4⟩, ey⟩ := pl_for (fun q j t => fX_image_b7 N q t (nI j)) n (fun j t => t.1 = (xSi x 31 1).1 ∧ (∀ k, k ≠ 32 → xJ t k = xJ x k) ∧ t.2.2 = x.2.2 ∧ ∀ s, s < j → xJ t 32 (2 * s) = xE x s 6 ∧ xJ t 32 (2 * s + 1) = xE x s 7) (by
    intro j t hj ⟨t1, t2, t3, t4⟩
    have tn : xn t = n := by show t.2.2.2.1 = _; rw [t3]; exact hxn
    have tE : ∀ s k, xE t s k = xE x s k := fun s k => by show t.2.2.1 s k = _; rw [t3]
    have ti : xI t 1 = nI n := by show t.1 1 = _; rw [t1]; exact (xSi_n _ (by decide) _).trans hx1
    refine ⟨xSj (xSj t 32 (2 * j) (xE x j 6)) 32 (2 * j + 1) (xE x j 7), ⟨t1, fun k hk => ?_, t3, fun s hs => ?_⟩, fun q => ?_⟩
    · rw [xSj_n _ hk, xSj_n _ hk]; exact t2 k hk
    · rw [xSj_s, xSj_s]
      by_cases hsj : s = j
      · subst hsj
        rw [upd_s, upd_n _ (by omega), upd_s]
        exact ⟨rfl, rfl⟩
      · rw [upd_n _ (by omega), upd_n _ (by omega), upd_n _ (by omega), upd_n _ (by omega)]
        exact t4 s (by omega)
    · simp only [fX_image_b7, nmvE, ti]
      rw [if_neg (nI_ge hj (by omega)), pl_i2]
      simp only [nI_clamp (show j < 2 ^ 31 by omega), nI_clamp (show 2 * j < 2 ^ 31 by omega), tE, pl_ck (rfl : nI j = nI j) (show j < 8 by omega) (show 8 < 2 ^ 31 by decide)]
      rw [pl_cl (by omega), pl_cl (by omega), pl_ck rfl (show 2 * j < 16 by omega) (by decide), nI_1, pl_cl (show j < xn t by omega), pl_cl (show j < xn t by omega), pl_ck rfl (show 2 * j + 1 < 16 by omega) (by decide), nI_clamp (by omega), nI_1]
      have e7 : xE (xSj t 32 (2 * j) (xE x j 6)) j 7 = xE x j 7 := tE j 7
      rw [e7]) N 0 (xSi x 31 1) (by omega) (Nat.zero_le _) ⟨rfl, fun _ _ => rfl, rfl, fun s hs => absurd hs (Nat.not_lt_zero _)⟩
  have yI : ∀ k, k ≠ 31 → xI y k = xI x k := fun k hk => by show y.1 k = _; rw [y1]; exact xSi_n _ hk _
  have yI31 : xI y 31 = 1 := by show y.1 31 = _; rw [y1]; exact xSi_s _ _ _
  have ex : fX_image N x = some (xSi (xSi (xSi (xSi (xSi (xSi y 33 (nI n)) 34 (xI x 26)) 35 (xI x 27)) 36 (xI x 28)) 37 (xI x 29)) 38 (xI x 30), xI x 26) := by
    have e2 : fX_image N x = fX_image_b7 N (q + 1) y (nI n) := by
      unfold fX_image
      rw [nmvE]
      exact ey
    rw [e2]
    simp only [fX_image_b7, nmvE, (yI 1 (by decide)).trans hx1]
    rw [if_pos (nI_le (Nat.le_refl _) (by omega))]
    have z26 : xI (xSi y 33 (nI n)) 26 = xI x 26 := (xSi_n _ (by decide) _).trans (yI 26 (by decide))
    have z27 : xI (xSi (xSi y 33 (nI n)) 34 (xI x 26)) 27 = xI x 27 := (xSi_n _ (by decide) _).trans ((xSi_n _ (by decide) _).trans (yI 27 (by decide)))
    have z28 : xI (xSi (xSi (xSi y 33 (nI n)) 34 (xI x 26)) 35 (xI x 27)) 28 = xI x 28 := (xSi_n _ (by decide) _).trans ((xSi_n _ (by decide) _).trans ((xSi_n _ (by decide) _).trans (yI 28 (by decide))))
    have z29 : xI (xSi (xSi (xSi (xSi y 33 (nI n)) 34 (xI x 26)) 35 (xI x 27)) 36 (xI x 28)) 29 = xI x 29 := (xSi_n _ (by decide) _).trans ((xSi_n _ (by decide) _).trans ((xSi_n _ (by decide) _).trans ((xSi_n _ (by decide) _).trans (yI 29 (by decide)))))
    have z30 : xI (xSi (xSi (xSi (xSi (xSi y 33 (nI n)) 34 (xI x 26)) 35 (xI x 27)) 36 (xI x 28)) 37 (xI x 29)) 30 = xI x 30 := (xSi_n _ (by decide) _).trans ((xSi_n _ (by decide) _).trans ((xSi_n _ (by decide) _).trans ((xSi_n _ (by decide) _).trans ((xSi_n _ (by decide) _).trans (yI 30 (by decide))))))
    have zz : xI (xSi (xSi (xSi (xSi (xSi (xSi y 33 (nI n)) 34 (xI x 26)) 35 (xI x 27)) 36 (xI x 28)) 37 (xI x 29)) 38 (xI x 30)) 26 = xI x 26 := (xSi_n _ (by decide) _).trans ((xSi_n _ (by decide) _).trans ((xSi_n _ (by decide) _).trans ((xSi_n _ (by decide) _).trans ((xSi_n _ (by decide) _).trans z26))))
    rw [z26, z27, z28, z29, z30, zz]
  -- the reference
  obtain ⟨q2, w, ⟨w1, w2, w3, w4⟩, ew⟩ := pl_for (fun q j t => fM_image_b15 N q t (nI j)) 8 (fun j t => t.1 = (mSi (mSi m 29 1) 30 (nI n)).1 ∧ (∀ k, k ≠ 31 → k ≠ 32 → t.2.1 k = m.2.1 k) ∧ t.2.2 = m.2.2 ∧ ∀ s, s < j → t.2.1 31 s = m.2.1 8 s ∧ t.2.1 32 s = m.2.1 9 s) (by
    intro j t hj ⟨t1, t2, t3, t4⟩
    refine ⟨mSj (mSj t 31 j (m.2.1 8 j)) 32 j (m.2.1 9 j), ⟨t1, fun k h1 h2 => ?_, t3, fun s hs => ?_⟩, fun q => ?_⟩
    · rw [mSj_n _ h2, mSj_n _ h1]; exact t2 k h1 h2
    · rw [mSj_n _ (by decide), mSj_s, mSj_s, mSj_n _ (by decide)]
      by_cases hsj : s = j
      · subst hsj; rw [upd_s, upd_s]; exact ⟨rfl, rfl⟩
      · rw [upd_n _ hsj, upd_n _ hsj]; exact t4 s (by omega)
    · simp only [fM_image_b15, nmvE, nI_clamp (show j < 2 ^ 31 by omega)]
      have e9 : va_up t.2.1 31 (upd (t.2.1 31) j (t.2.1 8 j)) 9 j = m.2.1 9 j := by rw [va_up_n (by decide)]; exact congrFun (t2 9 (by decide) (by decide)) j
      rw [if_neg (show ¬ (8 : Int32) ≤ nI j from nI_ge (b := 8) hj (by decide)), pl_ck rfl hj (by decide), pl_ck rfl hj (by decide), pl_ck rfl hj (by decide), pl_ck rfl hj (by decide), e9, t2 8 (by decide) (by decide), nI_1]) N 0 (mSi (mSi m 29 1) 30 (nI n)) (by omega) (Nat.zero_le _) ⟨rfl, fun _ _ _ => rfl, rfl, fun s hs => absurd hs (Nat.not_lt_zero _)⟩
  obtain ⟨q3, z, ⟨z1, z2, z3, z4⟩, ez⟩ := pl_for (fun q j t => fM_image_b53 N q t (nI j)) 5 (fun j t => t.1 = w.1 ∧ (∀ k, k ≠ 33 → t.2.1 k = w.2.1 k) ∧ t.2.2 = w.2.2 ∧ ∀ s, s < j → t.2.1 33 s = m.2.1 28 s) (by
    intro j t hj ⟨t1, t2, t3, t4⟩
    refine ⟨mSj t 33 j (m.2.1 28 j), ⟨t1, fun k h1 => ?_, t3, fun s hs => ?_⟩, fun q => ?_⟩
    · rw [mSj_n _ h1]; exact t2 k h1
    · rw [mSj_s]
      by_cases hsj : s = j
      · subst hsj; rw [upd_s]
      · rw [upd_n _ hsj]; exact t4 s (by omega)
    · simp only [fM_image_b53, nmvE, nI_clamp (show j < 2 ^ 31 by omega)]
      rw [if_neg (show ¬ (5 : Int32) ≤ nI j from nI_ge (b := 5) hj (by decide)), pl_ck rfl hj (by decide), pl_ck rfl hj (by decide), t2 28 (by decide), w2 28 (by decide) (by decide), nI_1]) N 0 w (by omega) (Nat.zero_le _) ⟨rfl, fun _ _ => rfl, rfl, fun s hs => absurd hs (Nat.not_lt_zero _)⟩
  have em : fM_image N m = some (z, m.2.1 28 0) := by
    have e2 : fM_image N m = fM_image_b15 N (q2 + 1) w (nI 8) := by
      unfold fM_image
      rw [nmvE]
      have : (mSi m 29 1).1 0 = nI n := (mSi_n _ (by decide) _).trans hm0
      rw [nmvE, this, nmvE]
      exact ew
    have e3 : fM_image_b53 N N w 0 = fM_image_b53 N (q3 + 1) z (nI 5) := ez
    rw [e2]
    simp only [fM_image_b15]
    rw [if_pos (show (8 : Int32) ≤ nI 8 from Int32.le_refl _), e3]
    simp only [fM_image_b53, nmvE, pl_c05, show (0 : Int32).toNatClampNeg = 0 from rfl]
    rw [if_pos (show (5 : Int32) ≤ nI 5 from Int32.le_refl _), z2 28 (by decide), w2 28 (by decide) (by decide)]
  have zi : ∀ k, k ≠ 29 → k ≠ 30 → z.1 k = m.1 k := fun k h1 h2 => by rw [z1, w1]; exact (mSi_n _ h2 _).trans (mSi_n _ h1 _)
  refine ⟨xSi (xSi (xSi (xSi (xSi (xSi y 33 (nI n)) 34 (xI x 26)) 35 (xI x 27)) 36 (xI x 28)) 37 (xI x 29)) 38 (xI x 30), z, m.2.1 28 0, by rw [ex, ← hled 0 (by decide)], em, pRel.im r1 r2 r3 r4 r6 r7 r8 r9 (fun k hk => ?_) (y2 8 (by decide)) (y2 40 (by decide)) (fun s k _ => by show y.2.2.1 s k = _; rw [y3]) (by show y.2.2.2.1 = _; rw [y3]) (by show y.2.2.2.2 = _; rw [y3]) (fun k h1 h2 _ _ _ _ _ _ => zi k h1 h2) (fun k h1 h2 h3 _ => by rw [z2 k (by omega), w2 k (by omega) (by omega)]) (by rw [z3, w3]) (fun s hs => ?_) ⟨fun i hi => ?_, Or.inr ⟨?_, ?_, n, Nat.le_refl _, ?_, ?_, fun s hs => ?_, fun i hi => ?_⟩⟩⟩
  · rw [xSi_n _ (by omega), xSi_n _ (by omega), xSi_n _ (by omega), xSi_n _ (by omega), xSi_n _ (by omega), xSi_n _ (by omega)]
    exact yI k (by omega)
  · rw [z2 8 (by decide), z2 9 (by decide), w2 8 (by decide) (by decide), w2 9 (by decide) (by decide)]
    have := r1.2.2.2.2.2.1 s hs
    show y.2.2.1 s 6 = _ ∧ y.2.2.1 s 7 = _
    rw [y3]
    exact this
  · rw [xSi_n _ (by omega), xSi_n _ (by omega), xSi_n _ (by omega), xSi_n _ (by omega), xSi_n _ (by omega), xSi_n _ (by omega), z2 28 (by decide), w2 28 (by decide) (by decide)]
    exact (yI (26 + i) (by omega)).trans (hled i hi)
  · rw [z1, w1]; exact (mSi_n _ (by decide) _).trans (mSi_s _ _ _)
  · rw [xSi_n _ (by decide), xSi_n _ (by decide), xSi_n _ (by decide), xSi_n _ (by decide), xSi_n _ (by decide), xSi_n _ (by decide)]
    exact yI31
  · rw [xSi_n _ (by decide), xSi_n _ (by decide), xSi_n _ (by decide), xSi_n _ (by decide), xSi_n _ (by decide), xSi_s]
  · rw [z1, w1]; exact mSi_s _ _ _
  · rw [z2 31 (by decide), z2 32 (by decide), (w4 s (by omega)).1, (w4 s (by omega)).2]
    have := r1.2.2.2.2.2.1 s hs
    rw [← this.1, ← this.2]
    exact y4 s hs
  · rw [z4 i hi]
    match i, hi with
    | 0, _ => rw [← hled 0 (by decide), xSi_n _ (by decide), xSi_n _ (by decide), xSi_n _ (by decide), xSi_n _ (by decide), xSi_s]
    | 1, _ => rw [← hled 1 (by decide), xSi_n _ (by decide), xSi_n _ (by decide), xSi_n _ (by decide), xSi_s]
    | 2, _ => rw [← hled 2 (by decide), xSi_n _ (by decide), xSi_n _ (by decide), xSi_s]
    | 3, _ => rw [← hled 3 (by decide), xSi_n _ (by decide), xSi_s]
    | 4, _ => rw [← hled 4 (by decide), xSi_s]
