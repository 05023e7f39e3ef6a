/-! Changes -/
theorem pR1.setE {n : Nat} {x : xS} {m : mS} (h : pR1 n x m) {s k : Nat} (hs : s < n) (hk : k < 6) {v : Int32} (hv : okW k v) : pR1 n (xSe x s k v) (mSj m (k + 1) s v) := by
  obtain ⟨a1, a2, a3, a4, a5, a6, ⟨a7, a8, a9⟩, a10, a11, a12, a13⟩ := h
  have m7 : (mSj m (k + 1) s v).2.1 7 = m.2.1 7 := mSj_n _ (by omega) _ _
  refine ⟨a1, a2, a3, a4, fun q hq j hj => ?_, fun q hq => ?_, ⟨?_, ?_, ?_⟩, fun q hq j hj => ?_, ?_, ?_, ?_⟩
  · show va_up x.2.2.1 s (upd (x.2.2.1 s) k v) q j = _
    by_cases hqs : q = s
    · subst hqs
      rw [va_up_s]
      by_cases hjk : j = k
      · subst hjk; rw [upd_s, mSj_s, upd_s]
      · rw [upd_n _ hjk, mSj_n _ (by omega)]; exact a5 q hq j hj
    · rw [va_up_n hqs]
      by_cases hjk : j = k
      · subst hjk; rw [mSj_s, upd_n _ hqs]; exact a5 q hq j hj
      · rw [mSj_n _ (by omega)]; exact a5 q hq j hj
  · rw [mSj_n _ (by omega), mSj_n _ (by omega)]
    show va_up x.2.2.1 s (upd (x.2.2.1 s) k v) q 6 = _ ∧ va_up x.2.2.1 s (upd (x.2.2.1 s) k v) q 7 = _
    by_cases hqs : q = s
    · subst hqs
      rw [va_up_s, upd_n _ (by omega), upd_n _ (by omega)]; exact a6 q hq
    · rw [va_up_n hqs]; exact a6 q hq
  · rw [m7]; exact a7
  · rw [m7]; exact a8
  · rw [m7]; exact a9
  · by_cases hjk : j = k
    · subst hjk
      rw [mSj_s]
      by_cases hqs : q = s
      · subst hqs; rw [upd_s]; exact hv
      · rw [upd_n _ hqs]; exact a10 q hq j hj
    · rw [mSj_n _ (by omega)]; exact a10 q hq j hj
  · rw [m7]; exact a11
  · rw [m7]; exact a12
  · rw [m7]; exact a13
theorem pR1.setW {n : Nat} {x : xS} {m : mS} (h : pR1 n x m) {k : Nat} (hk : 6 ≤ k ∧ k ≤ 8) {v : Int32} (hv : okW k v) : pR1 n (xSi x (k - 4) v) (mSj m 7 (k - 6) v) := by
  obtain ⟨a1, a2, a3, a4, a5, a6, ⟨a7, a8, a9⟩, a10, a11, a12, a13⟩ := h
  have mj : ∀ j, j ≠ 7 → (mSj m 7 (k - 6) v).2.1 j = m.2.1 j := fun j hj => mSj_n _ hj _ _
  refine ⟨a1, (xSi_n _ (by omega) _).trans a2, a3, a4, fun q hq j hj => ?_, fun q hq => ?_, ⟨?_, ?_, ?_⟩, fun q hq j hj => ?_, ?_, ?_, ?_⟩
  · rw [mj (j + 1) (by omega)]; exact a5 q hq j hj
  · rw [mj 8 (by decide), mj 9 (by decide)]; exact a6 q hq
  · rw [mSj_s]
    by_cases h6 : k = 6
    · subst h6; rw [upd_s]; exact xSi_s _ _ _
    · rw [upd_n _ (by omega), xSi_n _ (by omega)]; exact a7
  · rw [mSj_s]
    by_cases h6 : k = 7
    · subst h6; rw [upd_s]; exact xSi_s _ _ _
    · rw [upd_n _ (by omega), xSi_n _ (by omega)]; exact a8
  · rw [mSj_s]
    by_cases h6 : k = 8
    · subst h6; rw [upd_s]; exact xSi_s _ _ _
    · rw [upd_n _ (by omega), xSi_n _ (by omega)]; exact a9
  · rw [mj (j + 1) (by omega)]; exact a10 q hq j hj
  · rw [mSj_s]
    by_cases h6 : k = 6
    · subst h6; rw [upd_s]; exact hv
    · rw [upd_n _ (by omega)]; exact a11
  · rw [mSj_s]
    by_cases h6 : k = 7
    · subst h6; rw [upd_s]; exact hv
    · rw [upd_n _ (by omega)]; exact a12
  · rw [mSj_s]
    by_cases h6 : k = 8
    · subst h6; rw [upd_s]; exact hv
    · rw [upd_n _ (by omega)]; exact a13
/-- both set a value -/
theorem set_both (N : Nat) {n : Nat} {x : xS} {m : mS} (r1 : pR1 n x m) {k s : Nat} (hk : k ≤ 8) (hs : k < 6 → s < n) (hs2 : 6 ≤ k → s = 0) {v : Int32} (hv : okW k v) : ∃ x' m', fX_setTo N x (nI k) (nI s) v = some (x', ()) ∧ fM_becomes N m (nI s) (nI k) v = some (m', ()) ∧ pR1 n x' m' ∧ (∀ j, j ≠ 2 → j ≠ 3 → j ≠ 4 → xI x' j = xI x j) ∧ x'.2.1 = x.2.1 ∧ x'.2.2.2 = x.2.2.2 ∧ m'.1 = m.1 ∧ (∀ j, 7 < j → m'.2.1 j = m.2.1 j) ∧ m'.2.2 = m.2.2 := by
  have o1 := r1.1
  have hn := r1.2.2.1
  by_cases h6 : k < 6
  · have hsn := hs h6
    refine ⟨xSe x s k v, mSj m (k + 1) s v, ?_, ?_, r1.setE hsn h6 hv, fun _ _ _ _ => rfl, rfl, rfl, rfl, fun j hj => mSj_n _ (by omega) _ _, rfl⟩
    · unfold fX_setTo
      simp only [nmvE, nI_clamp (show s < 2 ^ 31 by omega), pl_ck (rfl : nI s = nI s) (show s < 8 by omega) (show 8 < 2 ^ 31 by decide), pl_cl (show s < xn x by rw [hn]; exact hsn)]
      match k, h6 with
      | 0, _ => rfl
      | 1, _ => rfl
      | 2, _ => rfl
      | 3, _ => rfl
      | 4, _ => rfl
      | 5, _ => rfl
    · unfold fM_becomes
      simp only [nmvE, nI_clamp (show s < 2 ^ 31 by omega), pl_ck (rfl : nI s = nI s) (show s < 8 by omega) (show 8 < 2 ^ 31 by decide)]
      match k, h6 with
      | 0, _ => rfl
      | 1, _ => rfl
      | 2, _ => rfl
      | 3, _ => rfl
      | 4, _ => rfl
      | 5, _ => rfl
  · refine ⟨xSi x (k - 4) v, mSj m 7 (k - 6) v, ?_, ?_, r1.setW ⟨by omega, hk⟩ hv, fun j h2 h3 h4 => xSi_n _ (by omega) _, rfl, rfl, rfl, fun j hj => mSj_n _ (by omega) _ _, rfl⟩
    · unfold fX_setTo
      simp only [nmvE]
      match k, hk, h6 with
      | 6, _, _ => rfl
      | 7, _, _ => rfl
      | 8, _, _ => rfl
    · unfold fM_becomes
      simp only [nmvE]
      match k, hk, h6 with
      | 6, _, _ => rfl
      | 7, _, _ => rfl
      | 8, _, _ => rfl
/-- what changes write leaves the rest as it is -/
theorem pRel.ch {x x' : xS} {m m' : mS} {n b : Nat} (r1 : pR1 n x' m') (r2 : pR2 n x' m') (r3 : pR3 x m) (r4 : pLaw m (xY x)) (r5 : pR5 n x m) (r6 : pR6 x m) (r7 : pR7 b x m) (r8 : pR8 b x m) (r9 : xI x 17 = -2 ∧ m.1 48 = -2)
    (hi : ∀ k, 8 < k → xI x' k = xI x k) (hj : x'.2.1 = x.2.1) (hr : x'.2.2.2.2.2.2 = x.2.2.2.2.2.2) (mi : ∀ k, k ≠ 34 → k ≠ 35 → m'.1 k = m.1 k) (mj : ∀ k, 9 < k → k ≠ 36 → m'.2.1 k = m.2.1 k) (m22 : m'.2.2 = m.2.2) : pRel x' m' := by
  have hB : xB x' = xB x := by show x'.2.2.2.2.2.2.1 = _; rw [hr]
  have hk : xk x' = xk x := by show x'.2.2.2.2.2.2.2.1 = _; rw [hr]
  have hH : xH x' = xH x := by show x'.2.2.2.2.2.2.2.2.1 = _; rw [hr]
  have hY : xY x' = xY x := by show x'.2.2.2.2.2.2.2.2.2 = _; rw [hr]
  have hJ : ∀ k, xJ x' k = xJ x k := fun k => by show x'.2.1 k = _; rw [hj]
  refine ⟨n, b, r1, r2, ?_, ?_, ?_, ?_, ?_, ?_, ?_⟩
  · exact r3.to (hi 9 (by decide)) (hJ 8) (mi 10 (by decide) (by decide)) (mj 11 (by decide) (by decide))
  · rw [hY]; exact pLaw.to (m := m) (mi 12 (by decide) (by decide)) (mi 13 (by decide) (by decide)) (fun k h1 h2 => mj k (by omega) (by omega)) r4
  · exact r5.to (fun k h1 h2 => hi k (by omega)) (hJ 32) (mi 29 (by decide) (by decide)) (mi 30 (by decide) (by decide)) (fun k h1 h2 => mj k (by omega) (by omega))
  · exact r6.to (hi 39 (by decide)) (hJ 40) (mi 39 (by decide) (by decide)) (mj 40 (by decide) (by decide))
  · exact r7.to (hi 42 (by decide)) hk hB (mi 37 (by decide) (by decide)) (mj 38 (by decide) (by decide))
  · exact r8.to hH (mj 41 (by decide) (by decide)) (mj 42 (by decide) (by decide)) m22
  · exact ⟨(hi 17 (by decide)).trans r9.1, (mi 48 (by decide) (by decide)).trans r9.2⟩
theorem pl_i4 (k j : Nat) : ((4 : Int32) * nI k) + nI j = nI (4 * k + j) := by rw [show (4 : Int32) = nI 4 from rfl, nI_mul, nI_add]
theorem pl_i40 (k : Nat) : (4 : Int32) * nI k = nI (4 * k) := by rw [show (4 : Int32) = nI 4 from rfl, nI_mul]
theorem op_undo {x : xS} {m : mS} (R : pRel x m) (N : Nat) : Sim (fX_undo N x) (fM_undo N m) := by
  have R' := R
  obtain ⟨n, b, r1, ⟨d, u, b1, b2, b3, b4, b5, b6, b7⟩, r3, r4, r5, r6, r7, r8, r9⟩ := R
  simp only [fX_undo, fM_undo, nmvE, b3, b5]
  cases d with
  | zero =>
    rw [if_pos nI_0, if_pos nI_0]
    exact ⟨x, m, _, rfl, rfl, R'⟩
  | succ d =>
    have hne : ¬ nI (d + 1) = 0 := nI_ne0 (by omega) (by omega)
    rw [if_neg hne, if_neg hne, nI_pred]
    obtain ⟨w, a, w1, w2, w3, w4, w5, w6, w7, w8, w9, w10, w11⟩ := b7 d (by omega)
    have i7 : xI (xSi x 6 (nI d)) 7 = nI u := (xSi_n _ (by decide) _).trans b4
    have i6 : xI (xSi (xSi x 6 (nI d)) 7 (nI (u + 1))) 6 = nI d := (xSi_n _ (by decide) _).trans (xSi_s _ _ _)
    have m35 : (mSi m 35 (nI d)).1 35 = nI d := mSi_s _ _ _
    have hm : d < xm (xSi (xSi x 6 (nI d)) 7 (nI (u + 1))) := by show d < xm x; omega
    rw [i7, nI_1]
    simp only [i6]
    rw [pl_ck rfl (show d < 40 by omega) (by decide)]
    simp only [nI_clamp (show d < 2 ^ 31 by omega), pl_cl hm, pl_ck (rfl : nI d = nI d) (show d < 40 by omega) (show 40 < 2 ^ 31 by decide)]
    have c0 : xC (xSi (xSi x 6 (nI d)) 7 (nI (u + 1))) d 0 = nI w := w4
    have c1 : xC (xSi (xSi x 6 (nI d)) 7 (nI (u + 1))) d 1 = nI a := w6
    rw [c0, c1]
    have r1' : pR1 n (xSi (xSi x 6 (nI d)) 7 (nI (u + 1))) (mSi m 35 (nI d)) := r1.to (fun k h1 h2 => (xSi_n _ (by omega) _).trans (xSi_n _ (by omega) _)) rfl rfl (mSi_n _ (by decide) _) (fun _ _ _ => rfl)
    obtain ⟨x2, m2, e1, e2, s1, s2, s3, s4, s5, s6, s7⟩ := set_both N r1' w1 w2 w3 (v := xC x d 2) w10
    have e1' : fX_setTo N (xSi (xSi x 6 (nI d)) 7 (nI (u + 1))) (nI w) (nI a) (xC (xSi (xSi x 6 (nI d)) 7 (nI (u + 1))) d 2) = some (x2, ()) := e1
    rw [e1']
    have me : fM_becomes N (mSi m 35 (nI d)) (m.2.1 36 (4 * d)) (m.2.1 36 (4 * d + 1)) (m.2.1 36 (4 * d + 2)) = some (m2, ()) := by rw [w7, w5, ← w8]; exact e2
    simp only [mSi_s, upd_s, pl_i40]
    rw [show nI (4 * d) + 1 = nI (4 * d + 1) from nI_1 _, show nI (4 * d) + 2 = nI (4 * d + 2) from nI_add _ 2, pl_ck rfl (show 4 * d < 160 by omega) (by decide), pl_ck rfl (show 4 * d + 1 < 160 by omega) (by decide), pl_ck rfl (show 4 * d + 2 < 160 by omega) (by decide), nI_clamp (by omega), nI_clamp (by omega), nI_clamp (by omega), me]
    simp only [obi]
    refine ⟨x2, m2, nI d, ?_, ?_, pRel.ch s1 ?_ r3 r4 r5 r6 r7 r8 r9 ?_ s3 ?_ ?_ ?_ s7⟩
    · rw [s2 6 (by decide) (by decide) (by decide), i6]
    · rw [s5]; exact congrArg some (Prod.ext rfl m35)
    · refine ⟨d, u + 1, by omega, ?_, (s2 6 (by decide) (by decide) (by decide)).trans i6, (s2 7 (by decide) (by decide) (by decide)).trans (xSi_s _ _ _), by rw [s5]; exact m35, by rw [s5, show d + (u + 1) = d + 1 + u from by omega]; exact (mSi_n _ (by decide) _).trans b6, fun i hi => ?_⟩
      · show d + (u + 1) ≤ x2.2.2.2.2.2.1
        rw [s4]
        show d + (u + 1) ≤ xm x
        omega
      · have h := b7 i (by omega)
        unfold pCh at h ⊢
        have hC : xC x2 = xC x := by show x2.2.2.2.2.1 = _; rw [s4]
        rw [hC, s6 36 (by decide)]
        exact h
    · intro k hk
      rw [s2 k (by omega) (by omega) (by omega), xSi_n _ (by omega), xSi_n _ (by omega)]
    · rw [s4]
    · intro k h1 h2
      rw [s5]
      exact mSi_n _ h2 _
    · intro k h1 h2
      exact s6 k (by omega)
theorem op_redo {x : xS} {m : mS} (R : pRel x m) (N : Nat) : Sim (fX_redo N x) (fM_redo N m) := by
  have R' := R
  obtain ⟨n, b, r1, ⟨d, u, b1, b2, b3, b4, b5, b6, b7⟩, r3, r4, r5, r6, r7, r8, r9⟩ := R
  simp only [fX_redo, fM_redo, nmvE, b3, b4, b5, b6]
  cases u with
  | zero =>
    rw [if_pos nI_0, if_pos (show nI d = nI (d + 0) from rfl)]
    exact ⟨x, m, _, rfl, rfl, R'⟩
  | succ u =>
    rw [if_neg (nI_ne0 (n := u + 1) (by omega) (by omega)), if_neg (fun z => by have := (nI_eq (by omega) (by omega)).mp z; omega)]
    obtain ⟨w, a, w1, w2, w3, w4, w5, w6, w7, w8, w9, w10, w11⟩ := b7 d (by omega)
    have hm : d < xm x := by omega
    simp only [nI_clamp (show d < 2 ^ 31 by omega), pl_cl hm, pl_ck (rfl : nI d = nI d) (show d < 40 by omega) (show 40 < 2 ^ 31 by decide), w4, w6]
    obtain ⟨x2, m2, e1, e2, s1, s2, s3, s4, s5, s6, s7⟩ := set_both N r1 w1 w2 w3 (v := xC x d 3) w11
    rw [e1]
    have me : fM_becomes N m (m.2.1 36 (4 * d)) (m.2.1 36 (4 * d + 1)) (m.2.1 36 (4 * d + 3)) = some (m2, ()) := by rw [w7, w5, ← w9]; exact e2
    simp only [pl_i40]
    rw [show nI (4 * d) + 1 = nI (4 * d + 1) from nI_1 _, show nI (4 * d) + 3 = nI (4 * d + 3) from nI_add _ 3, pl_ck rfl (show 4 * d < 160 by omega) (by decide), pl_ck rfl (show 4 * d + 1 < 160 by omega) (by decide), pl_ck rfl (show 4 * d + 3 < 160 by omega) (by decide), nI_clamp (by omega), nI_clamp (by omega), nI_clamp (by omega), me]
    simp only [obi]
    have x6 : xI x2 6 = nI d := (s2 6 (by decide) (by decide) (by decide)).trans b3
    have x7 : xI (xSi x2 6 (nI (d + 1))) 7 = nI (u + 1) := (xSi_n _ (by decide) _).trans ((s2 7 (by decide) (by decide) (by decide)).trans b4)
    have y35 : m2.1 35 = nI d := by rw [s5]; exact b5
    have y34 : m2.1 34 = nI (d + (u + 1)) := by rw [s5]; exact b6
    rw [x6, nI_1, x7, nI_pred, y35, nI_1]
    have z34 : (mSi m2 35 (nI (d + 1))).1 34 = nI (d + (u + 1)) := (mSi_n _ (by decide) _).trans y34
    have z35 : (mSi m2 35 (nI (d + 1))).1 35 = nI (d + 1) := mSi_s _ _ _
    refine ⟨xSi (xSi x2 6 (nI (d + 1))) 7 (nI u), mSi m2 35 (nI (d + 1)), nI u, ?_, ?_, pRel.ch (s1.to (fun k h1 h2 => (xSi_n _ (by omega) _).trans (xSi_n _ (by omega) _)) rfl rfl (mSi_n _ (by decide) _) (fun _ _ _ => rfl)) ?_ r3 r4 r5 r6 r7 r8 r9 ?_ s3 ?_ ?_ ?_ s7⟩
    · rw [xSi_s]
    · refine congrArg some (Prod.ext rfl ?_)
      show (mSi m2 35 (nI (d + 1))).1 34 - (mSi m2 35 (nI (d + 1))).1 35 = nI u
      rw [z34, z35, show d + (u + 1) = u + (d + 1) from by omega, ← nI_add, Int32.add_sub_cancel]
    · refine ⟨d + 1, u, by omega, ?_, (xSi_n _ (by decide) _).trans (xSi_s _ _ _), xSi_s _ _ _, z35, by rw [z34]; congr 1; omega, fun i hi => ?_⟩
      · show d + 1 + u ≤ x2.2.2.2.2.2.1
        rw [s4]
        show d + 1 + u ≤ xm x
        omega
      · have h := b7 i (by omega)
        unfold pCh at h ⊢
        have hC : xC (xSi (xSi x2 6 (nI (d + 1))) 7 (nI u)) = xC x := by show x2.2.2.2.2.1 = _; rw [s4]
        rw [hC, show (mSi m2 35 (nI (d + 1))).2.1 36 = m.2.1 36 from s6 36 (by decide)]
        exact h
    · intro k hk
      rw [xSi_n _ (by omega), xSi_n _ (by omega), s2 k (by omega) (by omega) (by omega)]
    · show x2.2.2.2.2.2.2 = _
      rw [s4]
    · intro k h1 h2
      exact (mSi_n _ h2 _).trans (by rw [s5])
    · intro k h1 h2
      exact s6 k (by omega)
/-- one more swimmer -/
def mNew (m : mS) (n : Nat) (px py t q : Int32) : mS := mSi (mSj (mSj (mSj (mSj (mSj (mSj (mSj (mSj m 1 n px) 2 n py) 3 n t) 4 n 12) 5 n q) 6 n 0) 8 n 0) 9 n 0) 0 (nI (n + 1))
theorem M_new (N : Nat) {m : mS} {n : Nat} (hn : n < 8) (h0 : m.1 0 = nI n) (px py t q : Int32) : fM_newSwimmer N m px py t q = some (mNew m n px py t q, nI n) := by
  simp only [fM_newSwimmer, nmvE, h0, nI_clamp (show n < 2 ^ 31 by omega), pl_ck (rfl : nI n = nI n) hn (show 8 < 2 ^ 31 by decide), nI_1]
  rfl
theorem pR1.add {n : Nat} {x x' : xS} {m : mS} (h : pR1 n x m) (hn : n < 8) {px py t q : Int32} (c0 : okW 0 px) (c1 : okW 1 py) (c2 : okW 2 t) (c4 : okW 4 q) {e : Nat → Int32} (he : e 0 = px ∧ e 1 = py ∧ e 2 = t ∧ e 3 = 12 ∧ e 4 = q ∧ e 5 = 0 ∧ e 6 = 0 ∧ e 7 = 0)
    (i1 : xI x' 1 = nI (n + 1)) (ii : ∀ k, k ≠ 1 → xI x' k = xI x k) (hE : xE x' = va_up (xE x) n e) (hN : xn x' = n + 1) : pR1 (n + 1) x' (mNew m n px py t q) := by
  obtain ⟨a1, a2, a3, a4, a5, a6, ⟨a7, a8, a9⟩, a10, a11, a12, a13⟩ := h
  obtain ⟨e0, e1, e2, e3, e4, e5, e6, e7⟩ := he
  have f1 : (mNew m n px py t q).2.1 1 = upd (m.2.1 1) n px := rfl
  have f2 : (mNew m n px py t q).2.1 2 = upd (m.2.1 2) n py := rfl
  have f3 : (mNew m n px py t q).2.1 3 = upd (m.2.1 3) n t := rfl
  have f4 : (mNew m n px py t q).2.1 4 = upd (m.2.1 4) n 12 := rfl
  have f5 : (mNew m n px py t q).2.1 5 = upd (m.2.1 5) n q := rfl
  have f6 : (mNew m n px py t q).2.1 6 = upd (m.2.1 6) n 0 := rfl
  have f7 : (mNew m n px py t q).2.1 7 = m.2.1 7 := rfl
  have f8 : (mNew m n px py t q).2.1 8 = upd (m.2.1 8) n 0 := rfl
  have f9 : (mNew m n px py t q).2.1 9 = upd (m.2.1 9) n 0 := rfl
  have g : ∀ k, k < 6 → (mNew m n px py t q).2.1 (k + 1) = upd (m.2.1 (k + 1)) n (e k) := fun k hk => by
    match k, hk with
    | 0, _ => rw [e0]; exact f1
    | 1, _ => rw [e1]; exact f2
    | 2, _ => rw [e2]; exact f3
    | 3, _ => rw [e3]; exact f4
    | 4, _ => rw [e4]; exact f5
    | 5, _ => rw [e5]; exact f6
  refine ⟨by omega, i1, hN, mSi_s _ _ _, fun s hs k hk => ?_, fun s hs => ?_, ⟨?_, ?_, ?_⟩, fun s hs k hk => ?_, ?_, ?_, ?_⟩
  · rw [hE, g k hk]
    by_cases hsn : s = n
    · subst hsn; rw [va_up_s, upd_s]
    · rw [va_up_n hsn, upd_n _ hsn]; exact a5 s (by omega) k hk
  · rw [hE, f8, f9]
    by_cases hsn : s = n
    · subst hsn; rw [va_up_s, upd_s, upd_s]; exact ⟨e6, e7⟩
    · rw [va_up_n hsn, upd_n _ hsn, upd_n _ hsn]; exact a6 s (by omega)
  · rw [f7]; exact (ii 2 (by decide)).trans a7
  · rw [f7]; exact (ii 3 (by decide)).trans a8
  · rw [f7]; exact (ii 4 (by decide)).trans a9
  · rw [g k hk]
    by_cases hsn : s = n
    · subst hsn
      rw [upd_s]
      match k, hk with
      | 0, _ => rw [e0]; exact c0
      | 1, _ => rw [e1]; exact c1
      | 2, _ => rw [e2]; exact c2
      | 3, _ => rw [e3]; exact ⟨by decide, by decide⟩
      | 4, _ => rw [e4]; exact c4
      | 5, _ => rw [e5]; exact ⟨by decide, by decide⟩
    · rw [upd_n _ hsn]; exact a10 s (by omega) k hk
  · rw [f7]; exact a11
  · rw [f7]; exact a12
  · rw [f7]; exact a13
/-- the rest stands beside one more swimmer -/
theorem pRel.add {n b : Nat} {x x' : xS} {m : mS} (r1 : pR1 n x m) (r2 : pR2 n x m) (r3 : pR3 x m) (r4 : pLaw m (xY x)) (r5 : pR5 n x m) (r6 : pR6 x m) (r7 : pR7 b x m) (r8 : pR8 b x m) (r9 : xI x 17 = -2 ∧ m.1 48 = -2) (hn : n < 8) {px py t q : Int32} (c0 : okW 0 px) (c1 : okW 1 py) (c2 : okW 2 t) (c4 : okW 4 q) {e : Nat → Int32} (he : e 0 = px ∧ e 1 = py ∧ e 2 = t ∧ e 3 = 12 ∧ e 4 = q ∧ e 5 = 0 ∧ e 6 = 0 ∧ e 7 = 0)
    (i1 : xI x' 1 = nI (n + 1)) (ii : ∀ k, k ≠ 1 → xI x' k = xI x k) (hj : x'.2.1 = x.2.1) (hE : xE x' = va_up (xE x) n e) (hN : xn x' = n + 1) (hr : x'.2.2.2.2 = x.2.2.2.2) : pRel x' (mNew m n px py t q) := by
  have hC : xC x' = xC x := by show x'.2.2.2.2.1 = _; rw [hr]
  have hm : xm x' = xm x := by show x'.2.2.2.2.2.1 = _; rw [hr]
  have hB : xB x' = xB x := by show x'.2.2.2.2.2.2.1 = _; rw [hr]
  have hk : xk x' = xk x := by show x'.2.2.2.2.2.2.2.1 = _; rw [hr]
  have hH : xH x' = xH x := by show x'.2.2.2.2.2.2.2.2.1 = _; rw [hr]
  have hY : xY x' = xY x := by show x'.2.2.2.2.2.2.2.2.2 = _; rw [hr]
  have hJ : ∀ k, xJ x' k = xJ x k := fun k => by show x'.2.1 k = _; rw [hj]
  have mi : ∀ k, k ≠ 0 → (mNew m n px py t q).1 k = m.1 k := fun k hk => mSi_n _ hk _
  have mj : ∀ k, 9 < k → (mNew m n px py t q).2.1 k = m.2.1 k := fun k hk => by
    show (mSj (mSj (mSj (mSj (mSj (mSj (mSj (mSj m 1 n px) 2 n py) 3 n t) 4 n 12) 5 n q) 6 n 0) 8 n 0) 9 n 0).2.1 k = _
    rw [mSj_n _ (by omega), mSj_n _ (by omega), mSj_n _ (by omega), mSj_n _ (by omega), mSj_n _ (by omega), mSj_n _ (by omega), mSj_n _ (by omega), mSj_n _ (by omega)]
  refine ⟨n + 1, b, r1.add hn c0 c1 c2 c4 he i1 ii hE hN, ?_, ?_, ?_, ?_, ?_, ?_, ?_, ?_⟩
  · obtain ⟨d, u, b1, b2, b3, b4, b5, b6, b7⟩ := r2.to (x' := x') (m' := mNew m n px py t q) (ii 6 (by decide)) (ii 7 (by decide)) hm hC (mi 34 (by decide)) (mi 35 (by decide)) (mj 36 (by decide))
    refine ⟨d, u, b1, b2, b3, b4, b5, b6, fun i hi => ?_⟩
    obtain ⟨w, a, w1, w2, w3⟩ := b7 i hi
    exact ⟨w, a, w1, fun h => by have := w2 h; omega, w3⟩
  · exact r3.to (ii 9 (by decide)) (hJ 8) (mi 10 (by decide)) (mj 11 (by decide))
  · rw [hY]; exact pLaw.to (m := m) (mi 12 (by decide)) (mi 13 (by decide)) (fun k h1 h2 => mj k (by omega)) r4
  · obtain ⟨e1, e2⟩ := r5.to (x' := x') (m' := mNew m n px py t q) (fun k h1 h2 => ii k (by omega)) (hJ 32) (mi 29 (by decide)) (mi 30 (by decide)) (fun k h1 h2 => mj k (by omega))
    refine ⟨e1, ?_⟩
    rcases e2 with h | ⟨q1, q2, n0, q3, q4⟩
    · exact Or.inl h
    · exact Or.inr ⟨q1, q2, n0, by omega, q4⟩
  · exact r6.to (ii 39 (by decide)) (hJ 40) (mi 39 (by decide)) (mj 40 (by decide))
  · exact r7.to (ii 42 (by decide)) hk hB (mi 37 (by decide)) (mj 38 (by decide))
  · exact r8.to hH (mj 41 (by decide)) (mj 42 (by decide)) rfl
  · exact ⟨(ii 17 (by decide)).trans r9.1, (mi 48 (by decide)).trans r9.2⟩
theorem X_addOne (N : Nat) {x : xS} {n : Nat} (hn : n < 8) (h1 : xI x 1 = nI n) (h2 : xn x = n) (px py t : Int32) : fX_addOne N x px py t = some (xSi (xSn x (swI px py t)) 1 (nI (n + 1)), n) := by
  simp only [fX_addOne, nmvE, h1]
  have e1 : xI (xSn x (swI px py t)) 1 = nI n := h1
  have hc : ∀ {α : Type} (o : Option α), ceq n (xn x) o = o := fun o => by unfold ceq; rw [h2]; exact if_pos rfl
  rw [pl_ck rfl hn (by decide), nI_clamp (by omega), hc, e1, nI_1, xSi_s, nI_pred, pl_ck rfl hn (by decide), nI_clamp (by omega), pl_cl (show n < xn x + 1 by omega)]
theorem op_swimmer {x : xS} {m : mS} (R : pRel x m) (N : Nat) (a0 a1 : Int32) : Sim (fX_swimmer N x a0 a1) (fM_swimmer N m a0 a1) := by
  have R' := R
  obtain ⟨n, b, r1, r2, r3, r4, r5, r6, r7, r8, r9⟩ := R
  have hx1 := r1.2.1
  have hm0 := r1.2.2.2.1
  have o1 := r1.1
  simp only [fX_swimmer, fM_swimmer, nmvE, pl_wi, pl_in, pl_xcell, obi, pl_if0, pl_cz100, hx1, hm0]
  have bad : Sim (some (x, -1)) (some (m, -1)) := ⟨x, m, -1, rfl, rfl, R'⟩
  by_cases h0 : a0 < 0
  · rw [if_pos h0, if_pos h0]; exact bad
  rw [if_neg h0, if_neg h0]
  obtain ⟨xy, hxy, rfl⟩ := pl_pos h0
  have ed : nI xy / 100 = nI (xy / 100) := pl_div hxy (by decide) (by decide)
  have em : nI xy - nI xy / 100 * 100 = nI (xy % 100) := pl_mod hxy (by decide) (by decide)
  rw [em, ed]
  by_cases h1 : xy / 100 ≤ 15
  · rw [if_pos (show 0 ≤ nI (xy / 100) ∧ nI (xy / 100) ≤ 15 from ⟨nI_pos' (by omega), nI_le (b := 15) h1 (by decide)⟩), if_neg (show ¬ (15 : Int32) < nI (xy / 100) from nI_nlt (a := 15) h1 (by decide))]
    by_cases h2 : xy % 100 ≤ 15
    · rw [if_pos (show 0 ≤ nI (xy % 100) ∧ nI (xy % 100) ≤ 15 from ⟨nI_pos' (by omega), nI_le (b := 15) h2 (by decide)⟩), if_neg (show ¬ (15 : Int32) < nI (xy % 100) from nI_nlt (a := 15) h2 (by decide))]
      by_cases h3 : 1 ≤ a1 ∧ a1 ≤ 9
      · rw [if_pos h3, if_pos h3]
        by_cases h4 : n = 8
        · rw [if_pos (show nI n = (8 : Int32) from by rw [h4]; rfl), if_pos (show nI n = (8 : Int32) from by rw [h4]; rfl)]
          exact ⟨x, m, _, rfl, rfl, R'⟩
        · have hne : ¬ nI n = (8 : Int32) := fun z => h4 ((nI_eq (b := 8) (by omega) (by decide)).mp z)
          rw [if_neg hne, if_neg hne]
          rw [X_addOne N (show n < 8 by omega) hx1 r1.2.2.1, M_new N (show n < 8 by omega) hm0]
          simp only [xSi_s, nI_pred]
          refine ⟨_, _, nI n, rfl, rfl, pRel.add (e := swI (nI (xy % 100)) (nI (xy / 100)) a1) r1 r2 r3 r4 r5 r6 r7 r8 r9 (show n < 8 by omega) ⟨nI_pos' (by omega), nI_le (b := 15) h2 (by decide)⟩ ⟨nI_pos' (by omega), nI_le (b := 15) h1 (by decide)⟩ h3 ⟨by decide, by decide⟩ ⟨rfl, rfl, rfl, rfl, rfl, rfl, rfl, rfl⟩ (xSi_s _ _ _) (fun k hk => xSi_n _ hk _) rfl ?_ ?_ rfl⟩
          · show va_up x.2.2.1 (xn x) _ = _
            rw [r1.2.2.1]
          · show xn x + 1 = _
            rw [r1.2.2.1]
      · rw [if_neg h3, if_neg h3]; exact bad
    · rw [if_neg (show ¬ (0 ≤ nI (xy % 100) ∧ nI (xy % 100) ≤ 15) from fun z => nI_ge (a := 15) (by omega) (by omega) z.2), if_pos (show (15 : Int32) < nI (xy % 100) from nI_lt (a := 15) (by omega) (by omega))]; exact bad
  · rw [if_neg (show ¬ (0 ≤ nI (xy / 100) ∧ nI (xy / 100) ≤ 15) from fun z => nI_ge (a := 15) (by omega) (by omega) z.2), if_pos (show (15 : Int32) < nI (xy / 100) from nI_lt (a := 15) (by omega) (by omega))]; exact bad
