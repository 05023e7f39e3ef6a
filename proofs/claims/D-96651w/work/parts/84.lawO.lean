/-! Part by part -/
theorem pR1.to {n : Nat} {x x' : xS} {m m' : mS} (h : pR1 n x m) (iI : ∀ k, 1 ≤ k → k ≤ 4 → xI x' k = xI x k) (hn : xn x' = xn x) (hE : xE x' = xE x) (m0 : m'.1 0 = m.1 0) (mj : ∀ k, 1 ≤ k → k ≤ 9 → m'.2.1 k = m.2.1 k) : pR1 n x' m' := by
  obtain ⟨a1, a2, a3, a4, a5, a6, ⟨a7, a8, a9⟩, a10, a11, a12, a13⟩ := h
  have m7 := mj 7 (by decide) (by decide)
  refine ⟨a1, (iI 1 (by decide) (by decide)).trans a2, hn.trans a3, m0.trans a4, fun s hs k hk => ?_, fun s hs => ?_, ⟨?_, ?_, ?_⟩, fun s hs k hk => ?_, ?_, ?_, ?_⟩
  · rw [hE, mj (k + 1) (by omega) (by omega)]; exact a5 s hs k hk
  · rw [hE, mj 8 (by decide) (by decide), mj 9 (by decide) (by decide)]; exact a6 s hs
  · rw [m7]; exact (iI 2 (by decide) (by decide)).trans a7
  · rw [m7]; exact (iI 3 (by decide) (by decide)).trans a8
  · rw [m7]; exact (iI 4 (by decide) (by decide)).trans a9
  · rw [mj (k + 1) (by omega) (by omega)]; exact a10 s hs k hk
  · rw [m7]; exact a11
  · rw [m7]; exact a12
  · rw [m7]; exact a13
theorem pR2.to {n : Nat} {x x' : xS} {m m' : mS} (h : pR2 n x m) (i6 : xI x' 6 = xI x 6) (i7 : xI x' 7 = xI x 7) (hm : xm x' = xm x) (hC : xC x' = xC x) (m34 : m'.1 34 = m.1 34) (m35 : m'.1 35 = m.1 35) (m36 : m'.2.1 36 = m.2.1 36) : pR2 n x' m' := by
  obtain ⟨d, u, b1, b2, b3, b4, b5, b6, b7⟩ := h
  refine ⟨d, u, b1, by rw [hm]; exact b2, i6.trans b3, i7.trans b4, m35.trans b5, m34.trans b6, fun i hi => ?_⟩
  unfold pCh
  rw [hC, m36]
  exact b7 i hi
theorem pR3.to {x x' : xS} {m m' : mS} (h : pR3 x m) (i9 : xI x' 9 = xI x 9) (j8 : xJ x' 8 = xJ x 8) (m10 : m'.1 10 = m.1 10) (m11 : m'.2.1 11 = m.2.1 11) : pR3 x' m' := by
  obtain ⟨t, c1, c2, c3, c4⟩ := h
  exact ⟨t, c1, i9.trans c2, m10.trans c3, fun i hi => by rw [m11, j8]; exact c4 i hi⟩
theorem pR5.to {n : Nat} {x x' : xS} {m m' : mS} (h : pR5 n x m) (iI : ∀ k, 26 ≤ k → k ≤ 38 → xI x' k = xI x k) (j32 : xJ x' 32 = xJ x 32) (m29 : m'.1 29 = m.1 29) (m30 : m'.1 30 = m.1 30) (mj : ∀ k, 28 ≤ k → k ≤ 33 → m'.2.1 k = m.2.1 k) : pR5 n x' m' := by
  obtain ⟨e1, e2⟩ := h
  refine ⟨fun i hi => ?_, ?_⟩
  · rw [mj 28 (by decide) (by decide)]; exact (iI (26 + i) (by omega) (by omega)).trans (e1 i hi)
  · rcases e2 with ⟨q1, q2⟩ | ⟨q1, q2, n0, q3, q4, q5, q6, q7⟩
    · exact Or.inl ⟨m29.trans q1, (iI 31 (by decide) (by decide)).trans q2⟩
    · refine Or.inr ⟨m29.trans q1, (iI 31 (by decide) (by decide)).trans q2, n0, q3, (iI 33 (by decide) (by decide)).trans q4, m30.trans q5, fun s hs => ?_, fun i hi => ?_⟩
      · rw [j32, mj 31 (by decide) (by decide), mj 32 (by decide) (by decide)]; exact q6 s hs
      · rw [mj 33 (by decide) (by decide)]; exact (iI (34 + i) (by omega) (by omega)).trans (q7 i hi)
theorem pR6.to {x x' : xS} {m m' : mS} (h : pR6 x m) (i39 : xI x' 39 = xI x 39) (j40 : xJ x' 40 = xJ x 40) (m39 : m'.1 39 = m.1 39) (m40 : m'.2.1 40 = m.2.1 40) : pR6 x' m' := by
  obtain ⟨t, c1, c2, c3, c4⟩ := h
  exact ⟨t, c1, i39.trans c2, m39.trans c3, fun i hi h24 => by rw [m40, j40]; exact c4 i hi h24⟩
theorem pR7.to {b : Nat} {x x' : xS} {m m' : mS} (h : pR7 b x m) (i42 : xI x' 42 = xI x 42) (hk : xk x' = xk x) (hB : xB x' = xB x) (m37 : m'.1 37 = m.1 37) (m38 : m'.2.1 38 = m.2.1 38) : pR7 b x' m' := by
  obtain ⟨g1, g2, g3, g4, g5⟩ := h
  exact ⟨g1, i42.trans g2, m37.trans g3, hk.trans g4, fun i hi => by rw [hB, m38]; exact g5 i hi⟩
theorem pR8.to {b : Nat} {x x' : xS} {m m' : mS} (h : pR8 b x m) (hH : xH x' = xH x) (m41 : m'.2.1 41 = m.2.1 41) (m42 : m'.2.1 42 = m.2.1 42) (m22 : m'.2.2 = m.2.2) : pR8 b x' m' := by
  intro j hj
  rw [hH]
  unfold pShf
  rw [m41, m42, m22]
  exact h j hj
theorem op_count {x : xS} {m : mS} (R : pRel x m) (N : Nat) (a0 : Int32) : Sim (fX_count N x a0) (fM_count N m a0) := by
  have R' := R
  obtain ⟨n, b, r1, r2, r3, r4, r5, r6, r7, r8, r9⟩ := R
  simp only [fX_count, fM_count, nmvE]
  by_cases c0 : a0 = 0
  · rw [if_pos c0, if_pos c0]; exact ⟨x, m, nI n, by rw [r1.2.1], by rw [r1.2.2.2.1], R'⟩
  rw [if_neg c0, if_neg c0]
  by_cases c1 : a0 = 1
  · rw [if_pos c1, if_pos c1]
    obtain ⟨t, _, h1, h2, _⟩ := r3
    exact ⟨x, m, nI t, by rw [h1], by rw [h2], R'⟩
  rw [if_neg c1, if_neg c1]
  by_cases c2 : a0 = 2
  · rw [if_pos c2, if_pos c2]
    obtain ⟨d, u, _, _, h1, _, h2, _⟩ := r2
    exact ⟨x, m, nI d, by rw [h1], by rw [h2], R'⟩
  rw [if_neg c2, if_neg c2]
  by_cases c3 : a0 = 3
  · rw [if_pos c3, if_pos c3]; exact ⟨x, m, nI b, by rw [r7.2.1], by rw [r7.2.2.1], R'⟩
  rw [if_neg c3, if_neg c3]
  by_cases c4 : a0 = 4
  · rw [if_pos c4, if_pos c4]
    obtain ⟨t, _, h1, h2, _⟩ := r6
    exact ⟨x, m, nI t, by rw [h1], by rw [h2], R'⟩
  rw [if_neg c4, if_neg c4]
  exact ⟨x, m, _, rfl, rfl, R'⟩
theorem op_led {x : xS} {m : mS} (R : pRel x m) (N : Nat) (a0 : Int32) : Sim (fX_led N x a0) (fM_led N m a0) := by
  have R' := R
  obtain ⟨n, b, r1, r2, r3, r4, r5, r6, r7, r8, r9⟩ := R
  have e := r5.1
  simp only [fX_led, fM_led, nmvE, pl_wi, obi, pl_if0]
  by_cases h0 : 0 ≤ a0 ∧ a0 ≤ 4
  · rw [if_pos h0]
    obtain ⟨i, hi, rfl⟩ := pl_rng (b := 4) (by decide) h0
    rw [pl_ck rfl (show i < 5 by omega) (by decide), nI_clamp (by omega)]
    match i, hi with
    | 0, _ => exact ⟨x, m, m.2.1 28 0, by rw [← e 0 (by decide)]; rfl, rfl, R'⟩
    | 1, _ => exact ⟨x, m, m.2.1 28 1, by rw [← e 1 (by decide)]; rfl, rfl, R'⟩
    | 2, _ => exact ⟨x, m, m.2.1 28 2, by rw [← e 2 (by decide)]; rfl, rfl, R'⟩
    | 3, _ => exact ⟨x, m, m.2.1 28 3, by rw [← e 3 (by decide)]; rfl, rfl, R'⟩
    | 4, _ => exact ⟨x, m, m.2.1 28 4, by rw [← e 4 (by decide)]; rfl, rfl, R'⟩
  · rw [if_neg h0]
    have hne : ∀ k : Int32, 0 ≤ k → k ≤ 4 → ¬ a0 = k := fun k h1 h2 z => h0 (by rw [z]; exact ⟨h1, h2⟩)
    rw [if_neg (hne 0 (by decide) (by decide)), if_neg (hne 1 (by decide) (by decide)), if_neg (hne 2 (by decide) (by decide)), if_neg (hne 3 (by decide) (by decide)), if_neg (hne 4 (by decide) (by decide))]
    exact ⟨x, m, _, rfl, rfl, R'⟩
theorem op_trace {x : xS} {m : mS} (R : pRel x m) (N : Nat) (a0 : Int32) : Sim (fX_trace N x a0) (fM_trace N m a0) := by
  have R' := R
  obtain ⟨n, b, r1, r2, r3, r4, r5, ⟨t, t1, t2, t3, t4⟩, r7, r8, r9⟩ := R
  have hmin : (if nI t < 24 then nI t else 24) = nI (min t 24) := by
    by_cases h : t < 24
    · rw [if_pos (show nI t < (24 : Int32) from nI_lt (b := 24) h (by decide)), Nat.min_eq_left (by omega)]
    · rw [if_neg (show ¬ nI t < (24 : Int32) from nI_nlt (b := 24) (by omega) (by omega)), Nat.min_eq_right (by omega)]; rfl
  simp only [fX_trace, fM_trace, nmvE, pl_wi, obi, pl_if0, t2, t3, hmin]
  by_cases h0 : a0 < 0
  · rw [if_pos h0, if_neg (fun z => absurd z.1 (Int32.not_le.mpr h0))]
    exact ⟨x, m, _, rfl, rfl, R'⟩
  · rw [if_neg h0]
    obtain ⟨i, hi, rfl⟩ := pl_pos h0
    by_cases h1 : t ≤ i
    · rw [if_pos (nI_le h1 hi), if_neg (fun z => by
        obtain ⟨k, hk, ek⟩ := pl_one (n := min t 24) (by omega) z
        have := (nI_eq hi (by omega)).mp ek
        omega)]
      exact ⟨x, m, _, rfl, rfl, R'⟩
    · rw [if_neg (nI_ge (by omega) (by omega))]
      by_cases h2 : 24 ≤ i
      · rw [if_pos (show (24 : Int32) ≤ nI i from nI_le (a := 24) h2 hi), if_neg (fun z => by
          obtain ⟨k, hk, ek⟩ := pl_one (n := min t 24) (by omega) z
          have := (nI_eq hi (by omega)).mp ek
          omega)]
        exact ⟨x, m, _, rfl, rfl, R'⟩
      · rw [if_neg (show ¬ (24 : Int32) ≤ nI i from nI_ge (b := 24) (by omega) (by decide)), if_pos (pl_oneI (by omega) (show i < min t 24 by omega)), pl_ck rfl (show i < 24 by omega) (by decide), pl_ck rfl (show i < 24 by omega) (by decide), nI_clamp hi]
        exact ⟨x, m, m.2.1 40 i, by rw [t4 i (by omega) (by omega)], rfl, R'⟩
theorem i8_twice (x : Int32) : (x.toInt8.toInt32).toInt8.toInt32 = x.toInt8.toInt32 := by rw [Int8.toInt8_toInt32]
theorem op_feed {x : xS} {m : mS} (R : pRel x m) (N : Nat) (a0 : Int32) : Sim (fX_feed N x a0) (fM_feed N m a0) := by
  have R' := R
  obtain ⟨n, b, r1, r2, ⟨t, t1, t2, t3, t4⟩, r4, r5, r6, r7, r8, r9⟩ := R
  simp only [fX_feed, fM_feed, nmvE, pl_wi, pl_in, obi, pl_if0, t2, t3]
  by_cases h0 : 0 ≤ a0 ∧ a0 ≤ 255
  · rw [if_pos h0, if_pos h0]
    obtain ⟨v, hv, rfl⟩ := pl_rng (b := 255) (by decide) h0
    by_cases h1 : t = 120
    · rw [if_pos (show nI t = (120 : Int32) from by rw [h1]; rfl), if_pos (show nI t = (120 : Int32) from by rw [h1]; rfl)]
      exact ⟨x, m, _, rfl, rfl, R'⟩
    · have hne : ¬ nI t = (120 : Int32) := fun z => h1 ((nI_eq (b := 120) (by omega) (by decide)).mp z)
      rw [if_neg hne, if_neg hne, pl_ck rfl (show t < 120 by omega) (by decide), pl_ck rfl (show t < 120 by omega) (by decide), nI_clamp (by omega), nI_1, i8_twice]
      have gm : ∀ k, k ≠ 10 → (mSj (mSi m 10 (nI (t + 1))) 11 t (nI v)).1 k = m.1 k := fun k hk => by
        show (mSi m 10 (nI (t + 1))).1 k = _
        exact mSi_n _ hk _
      have gm10 : (mSj (mSi m 10 (nI (t + 1))) 11 t (nI v)).1 10 = nI (t + 1) := by
        show (mSi m 10 (nI (t + 1))).1 10 = _
        exact mSi_s _ _ _
      have gj : ∀ k, k ≠ 11 → (mSj (mSi m 10 (nI (t + 1))) 11 t (nI v)).2.1 k = m.2.1 k := fun k hk => mSj_n _ hk _ _
      refine ⟨xSi (xSj x 8 t (nI v).toInt8.toInt32) 9 (nI (t + 1)), mSj (mSi m 10 (nI (t + 1))) 11 t (nI v), nI (t + 1), ?_, ?_, ⟨n, b, ?_, ?_, ?_, ?_, ?_, ?_, ?_, ?_, ?_⟩⟩
      · have : xI (xSj x 8 t (nI v).toInt8.toInt32) 9 = nI t := t2
        rw [this, nI_1, xSi_s]
      · exact congrArg some (Prod.ext rfl gm10)
      · exact r1.to (fun k h1 h2 => xSi_n _ (by omega) _) rfl rfl (gm 0 (by decide)) (fun k h1 h2 => gj k (by omega))
      · exact r2.to (xSi_n _ (by decide) _) (xSi_n _ (by decide) _) rfl rfl (gm 34 (by decide)) (gm 35 (by decide)) (gj 36 (by decide))
      · refine ⟨t + 1, by omega, xSi_s _ _ _, gm10, fun i hi => ?_⟩
        show ∃ v', v' < 256 ∧ (mSj (mSi m 10 (nI (t + 1))) 11 t (nI v)).2.1 11 i = nI v' ∧ xJ (xSj x 8 t (nI v).toInt8.toInt32) 8 i = _
        rw [mSj_s, xSj_s]
        by_cases hit : i = t
        · subst hit
          exact ⟨v, by omega, upd_s _ _ _, upd_s _ _ _⟩
        · rw [upd_n _ hit, upd_n _ hit]
          exact t4 i (by omega)
      · exact pLaw.to (m := m) (gm 12 (by decide)) (gm 13 (by decide)) (fun k h1 h2 => gj k (by omega)) r4
      · exact r5.to (fun k h1 h2 => xSi_n _ (by omega) _) (xSj_n _ (by decide) _ _) (gm 29 (by decide)) (gm 30 (by decide)) (fun k h1 h2 => gj k (by omega))
      · exact r6.to (xSi_n _ (by decide) _) (xSj_n _ (by decide) _ _) (gm 39 (by decide)) (gj 40 (by decide))
      · exact r7.to (xSi_n _ (by decide) _) rfl rfl (gm 37 (by decide)) (gj 38 (by decide))
      · exact r8.to rfl (gj 41 (by decide)) (gj 42 (by decide)) rfl
      · exact ⟨(xSi_n _ (by decide) _).trans r9.1, (gm 48 (by decide)).trans r9.2⟩
  · rw [if_neg h0, if_neg h0]
    exact ⟨x, m, _, rfl, rfl, R'⟩
/-- a view outside any routine: the reference's own state, with what the class has of it -/
theorem op_loses {x : xS} {m : mS} (R : pRel x m) {N : Nat} (hN : 400 < N) (a0 a1 a2 : Int32) : Sim (fX_loses N x a0 a1 a2) (fM_loses N m a0 a1 a2) := by
  have R' := R
  obtain ⟨n, b, r1, r2, r3, r4, r5, r6, r7, r8, r9⟩ := R
  have hmany : xI x 1 = m.1 0 := by rw [r1.2.1, r1.2.2.2.1]
  have hm0 : m.1 0 = nI n := r1.2.2.2.1
  have o1 := r1.1
  simp only [fX_loses, fM_loses, fM_areTwo, pl_wi, pl_in, pl_xone, pl_mone, obi, pl_if0, hmany, pl_cz10, pl_cz100]
  have bad : Sim (some (x, -1)) (some (m, -1)) := ⟨x, m, -1, rfl, rfl, R'⟩
  have badM : ∀ (f : mS × Int32 → Option (mS × Int32)), f (m, 0) = some (m, -1) → Sim (some (x, -1)) (match chb 0 (some (m, 0)) with
      | none => none
      | some q => f q) := by
    intro f hf
    rw [pl_b0]
    simp only [hf]
    exact bad
  by_cases h0 : a0 < 0
  · rw [if_pos h0, if_pos h0, pl_b0]
    simp only [if_true]
    exact bad
  rw [if_neg h0, if_neg h0]
  obtain ⟨ab, hab, rfl⟩ := pl_pos h0
  have ed : nI ab / 10 = nI (ab / 10) := pl_div hab (by decide) (by decide)
  have em : nI ab - nI ab / 10 * 10 = nI (ab % 10) := pl_mod hab (by decide) (by decide)
  rw [em, ed, hm0]
  by_cases h1 : 0 ≤ nI (ab / 10) ∧ nI (ab / 10) ≤ nI n - 1
  · rw [if_pos h1, if_pos h1]
    by_cases h2 : 0 ≤ nI (ab % 10) ∧ nI (ab % 10) ≤ nI n - 1
    · rw [if_pos h2, if_pos h2]
      by_cases h3 : nI (ab / 10) = nI (ab % 10)
      · rw [if_pos h3, if_pos h3, pl_b0]
        simp only [if_true]
        exact bad
      · rw [if_neg h3, if_neg h3, pl_b1]
        simp only [show ¬ (1 : Int32) = 0 from by decide, if_false]
        by_cases h4 : 0 ≤ a1 ∧ a1 ≤ 9999
        · rw [if_pos h4, if_pos h4]
          by_cases h5 : a2 < 0
          · rw [if_pos h5, if_pos h5]; exact bad
          rw [if_neg h5, if_neg h5]
          obtain ⟨ek, hek, rfl⟩ := pl_pos h5
          have ed2 : nI ek / 100 = nI (ek / 100) := pl_div hek (by decide) (by decide)
          have em2 : nI ek - nI ek / 100 * 100 = nI (ek % 100) := pl_mod hek (by decide) (by decide)
          rw [em2, ed2]
          by_cases h6 : 4 < nI (ek / 100)
          · rw [if_pos h6, if_pos h6]; exact bad
          rw [if_neg h6, if_neg h6]
          by_cases h7 : ek % 100 < 60
          · rw [if_pos (show nI (ek % 100) < (60 : Int32) from nI_lt (b := 60) h7 (by decide)), if_pos (show nI (ek % 100) ≤ (59 : Int32) from nI_le (b := 59) (by omega) (by decide))]
            obtain ⟨p, hp, ep⟩ := pl_one (n := n) (by omega) h1
            obtain ⟨q, hq, eq⟩ := pl_one (n := n) (by omega) h2
            obtain ⟨o, ho, rfl⟩ := pl_rng (b := 9999) (by decide) h4
            rw [ep, eq]
            simp only [nmvE, nI_clamp (show p < 2 ^ 31 by omega), nI_clamp (show q < 2 ^ 31 by omega)]
            have hxn : xn x = n := r1.2.2.1
            rw [pl_ck rfl (show p < 8 by omega) (by decide), pl_cl (by rw [hxn]; exact hp), pl_ck rfl (show q < 8 by omega) (by decide), pl_cl (by rw [hxn]; exact hq)]
            have h7' : ∃ j, 1 ≤ j ∧ j ≤ 999 ∧ m.2.1 7 1 = nI j := okW_ps (a := 1) (b := 999) (by decide) (by decide) r1.2.2.2.2.2.2.2.2.2.1
            obtain ⟨x2, e5, f5⟩ := X_losesBy0 r1.2.2.1 r1.2.2.2.2.1 r1.2.2.2.2.2.2.1.2.1 h7' hN hp hq (nI o) (nI (ek / 100)) (nI (ek % 100))
            obtain ⟨m2, e6, f6⟩ := M_loss0 o1 h7' r4 hN mFr.rf hp hq (show o ≤ 13278 by omega) (nI (ek / 100)) (nI (ek % 100))
            rw [e5, e6]
            exact ⟨x2, m2, _, rfl, rfl, R'.qu f5.fr.qu f6.fr.qu⟩
          · rw [if_neg (show ¬ nI (ek % 100) < (60 : Int32) from nI_nlt (b := 60) (by omega) (by omega)), if_neg (show ¬ nI (ek % 100) ≤ (59 : Int32) from nI_ge (a := 59) (by omega) (by omega))]
            exact bad
        · rw [if_neg h4, if_neg h4]; exact bad
    · rw [if_neg h2, if_neg h2, pl_b0]
      simp only [if_true]
      exact bad
  · rw [if_neg h1, if_neg h1, pl_b0]
    simp only [if_true]
    exact bad
