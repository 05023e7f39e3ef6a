/-! Calls that read a routine -/
theorem z00 : (0 : Int32) ≤ 0 := by decide
def Sim (X : Option (xS × Int32)) (M : Option (mS × Int32)) : Prop := ∃ x' m' r, X = some (x', r) ∧ M = some (m', r) ∧ pRel x' m'
theorem okW_bd {v : Int32} (h : okW 4 v) : pBd v 9 := by
  have h1 := Int32.le_iff_toInt_le.mp h.1
  have h2 := Int32.le_iff_toInt_le.mp h.2
  have e1 : (-9 : Int32).toInt = -9 := by decide
  have e2 : (9 : Int32).toInt = 9 := by decide
  unfold pBd
  omega
theorem okW_bd5 {v : Int32} (h : okW 5 v) : pBd v 99 := by
  have h1 := Int32.le_iff_toInt_le.mp h.1
  have h2 := Int32.le_iff_toInt_le.mp h.2
  have e1 : (0 : Int32).toInt = 0 := by decide
  have e2 : (99 : Int32).toInt = 99 := by decide
  unfold pBd
  omega
theorem okW_ps {v : Int32} {a b : Nat} (ha : 1 ≤ a ∧ a < 2 ^ 31) (hb : b < 2 ^ 31) (h : nI a ≤ v ∧ v ≤ nI b) : ∃ j, a ≤ j ∧ j ≤ b ∧ v = nI j := by
  have h1 := Int32.le_iff_toInt_le.mp h.1
  have h2 := Int32.le_iff_toInt_le.mp h.2
  rw [nI_toInt ha.2] at h1
  rw [nI_toInt hb] at h2
  have h0 : (0 : Int32).toInt = 0 := by decide
  obtain ⟨j, hj, e⟩ := pl_rng hb ⟨Int32.le_iff_toInt_le.mpr (by omega), h.2⟩
  rw [e, nI_toInt (by omega)] at h1
  exact ⟨j, by omega, hj, e⟩
theorem pVw_of {n b c : Nat} {x x' : xS} {m m' : mS} (R : pR1 n x m) (hl : pLaw m (xY x)) (hs : xI x 17 = -2 ∧ m.1 48 = -2) (hc : c ≤ 60) (hx : xQu x x') (hm : mQu m m') (h15 : xI x' 15 = nI c) (h44 : m'.1 44 = nI c) (hd : ∀ k, k < c → xJ x' 12 k = m'.2.1 45 k) : pVw n c m' x' ∧ pOk n c m' ∧ m'.1 48 = -2 := by
  obtain ⟨a1, a2, a3, a4, a5, a6, ⟨a7, a8, a9⟩, a10, a11, a12, a13⟩ := R
  obtain ⟨x1, ⟨x2, x3, x4⟩, x5⟩ := hx
  have mj := hm.2.1
  have m7 := mj 7 (by decide) (by decide)
  have e48 : m'.1 48 = -2 := (hm.1 48 (by decide) (by decide) (by decide) (by decide) (by decide) (by decide)).trans hs.2
  refine ⟨⟨(x1 1 (by decide) (by decide) (by decide) (by decide) (by decide) (by decide) (by decide)).trans a2, ?_, fun s hs k hk => ?_, ⟨?_, ?_, ?_⟩, h15, hd, Or.inl ⟨e48, (x1 17 (by decide) (by decide) (by decide) (by decide) (by decide) (by decide) (by decide)).trans hs.1⟩, ?_⟩, ⟨a1, hc, (hm.1 0 (by decide) (by decide) (by decide) (by decide) (by decide) (by decide)).trans a4, h44, ?_, ?_, ?_, fun s hs => ⟨?_, ?_⟩, Or.inl e48⟩, e48⟩
  · show x'.2.2.2.1 = n; rw [x5]; exact a3
  · show x'.2.2.1 s k = _; rw [x5, mj (k + 1) (by omega) (by omega)]; exact a5 s hs k hk
  · rw [m7]; exact (x1 2 (by decide) (by decide) (by decide) (by decide) (by decide) (by decide) (by decide)).trans a7
  · rw [m7]; exact (x1 3 (by decide) (by decide) (by decide) (by decide) (by decide) (by decide) (by decide)).trans a8
  · rw [m7]; exact (x1 4 (by decide) (by decide) (by decide) (by decide) (by decide) (by decide) (by decide)).trans a9
  · show pLaw m' x'.2.2.2.2.2.2.2.2.2; rw [x5]; exact hl.qu hm
  · rw [m7]; exact okW_ps (a := 1) (b := 999) (by decide) (by decide) a12
  · rw [m7]; exact okW_ps (a := 1) (b := 9) (by decide) (by decide) a13
  · rw [m7]; exact (pl_rng (b := 7) (by decide) a11)
  · rw [mj 5 (by decide) (by decide)]; exact okW_bd (a10 s hs 4 (by decide))
  · rw [mj 6 (by decide) (by decide)]; exact okW_bd5 (a10 s hs 5 (by decide))
/-- a routine is laid: nothing there, another kind, or both have read the same -/
theorem lay {x : xS} {m : mS} (R : pRel x m) {N : Nat} (hN : 400 < N) {j : Nat} (hj : j < 6) : ∃ x' r, fX_layRoutine N x (nI j) = some (x', r) ∧ xQu x x' ∧ fM_noRow N m (nI j) 0 = some (m, r) ∧ (∀ k, k ≠ 15 → xI x' k = xI x k) ∧ (∀ k, k ≠ 12 → xJ x' k = xJ x k) ∧
    (r = -11 ∨ r = -12 ∨ (r = 0 ∧ ∃ n c m', fM_reads N m (nI j) = some (m', ()) ∧ mQu m m' ∧ pVw n c m' x' ∧ pOk n c m' ∧ m'.1 48 = -2 ∧ pRel x' m' ∧ (∀ k, k ≠ 44 → m'.1 k = m.1 k) ∧ (∀ k, k ≠ 45 → m'.2.1 k = m.2.1 k))) := by
  have R' := R
  obtain ⟨n, b, r1, r2, r3, r4, r5, r6, r7, r8, r9⟩ := R
  have hx0 : xQu x (xSi x 15 0) := xQu.rf.si (Or.inl rfl) 0
  have fi : ∀ k, k ≠ 15 → xI (xSi x 15 0) k = xI x k := fun k hk => xSi_n _ hk _
  have hH : xH (xSi x 15 0) j = xH x j := rfl
  rcases r8 j hj with ⟨h1, h2⟩ | ⟨h1, h2, h3, h4, h5, h6⟩ | ⟨q, h1, h2, h3⟩
  · refine ⟨xSi x 15 0, -11, ?_, hx0, ?_, fi, fun _ _ => rfl, Or.inl rfl⟩
    · simp only [fX_layRoutine, nmvE]
      rw [pl_ck rfl hj (by decide), nI_clamp (by omega), hH, if_pos h1]
    · simp only [fM_noRow, nmvE]
      rw [pl_ck rfl hj (by decide), nI_clamp (by omega), if_pos h2]
  · by_cases h1b : (xH x j).1 = 1
    · obtain ⟨x', e1, p1, p2, p3, p4, p5⟩ := X_layLp (xH x j).2.2 h4 hN (xSi x 15 0) (xSi_s _ _ _)
      obtain ⟨m', e2, q1, q2, q3, q4, q5⟩ := M_reads (N := N) h4 hj hN m h5 (fun i hi => ⟨(h6 i hi).1, (h6 i hi).2 (by omega)⟩)
      have hx : xQu x x' := hx0.tr ⟨fun k c1 _ _ _ _ _ _ => p3 k c1, ⟨p4 8 (by decide), p4 32 (by decide), p4 40 (by decide)⟩, p5⟩
      have hm : mQu m m' := ⟨fun k _ c2 _ _ _ _ => q3 k c2, fun k _ c2 => q4 k (by omega), q5⟩
      have hc := cnS_le (fun i => ((xH x j).2.2 i).toInt32) (xH x j).2.1 0
      obtain ⟨V, O, s48⟩ := pVw_of (b := b) (c := cnS (fun i => ((xH x j).2.2 i).toInt32) (xH x j).2.1 0) r1 r4 r9 (by omega) hx hm p1 q1 (fun k hk => by rw [p2 k hk, q2 k hk])
      refine ⟨x', 0, ?_, hx, ?_, fun k hk => (p3 k hk).trans (fi k hk), fun k hk => p4 k hk, Or.inr (Or.inr ⟨rfl, n, _, m', e2, hm, V, O, s48, R'.qu hx hm, q3, q4⟩)⟩
      · simp only [fX_layRoutine, nmvE]
        rw [pl_ck rfl hj (by decide), nI_clamp (by omega), hH, if_neg (by omega), if_pos h1b]
        exact e1
      · have h3' : m.2.1 41 j = 0 := by rw [h3, h1b]; rfl
        simp only [fM_noRow, nmvE]
        rw [pl_ck rfl hj (by decide), nI_clamp (by omega), h3', if_neg (by decide), pl_ck rfl hj (by decide)]
        simp only [if_true]
    · refine ⟨xSi x 15 0, -12, ?_, hx0, ?_, fi, fun _ _ => rfl, Or.inr (Or.inl rfl)⟩
      · simp only [fX_layRoutine, nmvE]
        rw [pl_ck rfl hj (by decide), nI_clamp (by omega), hH, if_neg (by omega), if_neg h1b]
      · simp only [fM_noRow, nmvE]
        have hz : ¬ nI ((xH x j).1 - 1) = 0 := nI_ne0 (by omega) (by omega)
        rw [pl_ck rfl hj (by decide), nI_clamp (by omega), h3, if_neg (pl_m1 (by omega)), pl_ck rfl hj (by decide), if_neg hz]
  · refine ⟨xSi x 15 0, -12, ?_, hx0, ?_, fi, fun _ _ => rfl, Or.inr (Or.inl rfl)⟩
    · simp only [fX_layRoutine, nmvE]
      rw [pl_ck rfl hj (by decide), nI_clamp (by omega), hH, if_neg (by omega), if_neg (by omega)]
    · simp only [fM_noRow, nmvE]
      have hb := r7.1
      have hz : ¬ nI (10 + q) = 0 := nI_ne0 (by omega) (by omega)
      rw [pl_ck rfl hj (by decide), nI_clamp (by omega), h3, if_neg (pl_m1 (by omega)), pl_ck rfl hj (by decide), if_neg hz]
def totS (n c : Nat) (P : mS) (Y : Option (List (List Int32 × List Int32))) : Int32 := smS (fun k => prS n (fS P Y ex0 k)) c
theorem M_marksNow {n c : Nat} {P : mS} (O : pOk n c P) {Y : Option (List (List Int32 × List Int32))} (hL : pLaw P Y) {N : Nat} (hN : 400 < N) (hs0 : P.1 48 = -2 ∨ ∃ s, s < n ∧ P.1 48 = nI s) {μ : mS} (hf : mFr P μ) :
    ∃ μ', fM_marksNow N μ = some (μ', totS n c P Y) ∧ mFr P μ' ∧ mRows n (drS P ex0) c μ' ∧ ∀ a b, a < b → b < n → μ'.2.1 47 (10 * a + b) = smS (fun k => fS P Y ex0 k a b) c := by
  obtain ⟨μ1, e1, f1, r1, _⟩ := M_drifts0 O hN hs0 hf
  obtain ⟨μ2, e2, f2, r2, _, g2⟩ := M_marks O hL hN (dr0_bd O) f1 r1
  refine ⟨μ2, ?_, f2, r2, g2⟩
  simp only [fM_marksNow, e1, obi, e2]
  exact congrArg some (Prod.ext rfl (prS_sm n (fun k a b => fdS P Y k (drS P ex0 (k + 1)) a b) c))
theorem op_routine {x : xS} {m : mS} (R : pRel x m) {N : Nat} (hN : 400 < N) (a0 a1 : Int32) : Sim (fX_routine N x a0 a1) (fM_routine N m a0 a1) := by
  simp only [fX_routine, fM_routine, pl_xsh, pl_msh, obi, pl_if0, pl_in, pl_wi]
  by_cases h0 : 0 ≤ a0 ∧ a0 ≤ 5
  · rw [if_pos h0, if_pos h0]
    by_cases h1 : 0 ≤ a1 ∧ a1 ≤ 3
    · rw [if_pos h1, if_pos h1]
      obtain ⟨j, hj, rfl⟩ := pl_rng (b := 5) (by decide) h0
      obtain ⟨x1, r, e1, q1, e2, -, -, hr⟩ := lay R hN (show j < 6 by omega)
      rw [e1, e2]
      simp only [obi]
      rcases hr with rfl | rfl | ⟨rfl, n, c, m1, e3, q2, V, O, s48, R1, -, -⟩
      · rw [if_neg (by decide), if_neg (by decide)]
        exact ⟨x1, m, -11, rfl, rfl, R.qu q1 mQu.rf⟩
      · rw [if_neg (by decide), if_neg (by decide)]
        exact ⟨x1, m, -12, rfl, rfl, R.qu q1 mQu.rf⟩
      · rw [if_pos z00, if_pos z00, e3]
        simp only [obi]
        have hL := V.2.2.2.2.2.2.2
        obtain ⟨m2, e4, f4, r4, g4⟩ := M_marksNow O hL hN (Or.inl s48) (mFr.rf (σ := m1))
        rw [e4]
        simp only [obi]
        by_cases c0 : a1 = 0
        · rw [if_pos c0, if_pos c0]
          simp only [nmvE]
          exact ⟨x1, m2, nI c, by rw [V.2.2.2.2.1], by rw [f4.1 44 (by decide), O.2.2.2.1], R1.qu xQu.rf f4.qu⟩
        rw [if_neg c0, if_neg c0]
        by_cases c1 : a1 = 1
        · rw [if_pos c1, if_pos c1]
          obtain ⟨x2, e5, f5, _⟩ := X_marks V O hN
          rw [e5]
          exact ⟨x2, m2, _, rfl, rfl, R1.qu f5.qu f4.qu⟩
        rw [if_neg c1, if_neg c1]
        by_cases c2 : a1 = 2
        · rw [if_pos c2, if_pos c2]
          obtain ⟨x2, e5, f5⟩ := X_firstSeen V O hN
          rw [e5, M_firstApart O hN f4 r4]
          exact ⟨x2, m2, _, rfl, rfl, R1.qu f5.qu f4.qu⟩
        rw [if_neg c2, if_neg c2]
        obtain ⟨x2, e5, f5, g5⟩ := X_marks V O hN
        simp only [fX_worstTwo, e5, obi]
        rw [X_worst (f := fun a b => smS (fun k => fS m1 (xY x1) ex0 k a b) c) O hN g5, M_losers (f := fun a b => smS (fun k => fS m1 (xY x1) ex0 k a b) c) O hN f4 g4]
        exact ⟨x2, m2, _, rfl, rfl, R1.qu f5.qu f4.qu⟩
    · rw [if_neg h1, if_neg h1]
      exact ⟨x, m, -1, rfl, rfl, R⟩
  · rw [if_neg h0, if_neg h0]
    exact ⟨x, m, -1, rfl, rfl, R⟩
theorem op_off {x : xS} {m : mS} (R : pRel x m) {N : Nat} (hN : 400 < N) (a0 a1 a2 : Int32) : Sim (fX_off N x a0 a1 a2) (fM_off N m a0 a1 a2) := by
  have hmany : xI x 1 = m.1 0 := by obtain ⟨n, b, ⟨_, h1, _, h2, _⟩, _⟩ := R; rw [h1, h2]
  simp only [fX_off, fM_off, pl_xsh, pl_msh, obi, pl_if0, pl_in, pl_wi, pl_xone, pl_mone, hmany]
  by_cases h0 : 0 ≤ a0 ∧ a0 ≤ 5
  · rw [if_pos h0, if_pos h0]
    by_cases h1 : 0 ≤ a1 ∧ a1 ≤ 60
    · rw [if_pos h1, if_pos h1]
      by_cases h2 : 0 ≤ a2 ∧ a2 ≤ m.1 0 - 1
      · rw [if_pos h2, if_pos h2]
        obtain ⟨j, hj, rfl⟩ := pl_rng (b := 5) (by decide) h0
        obtain ⟨a, ha, rfl⟩ := pl_rng (b := 60) (by decide) h1
        obtain ⟨x1, r, e1, q1, e2, -, -, hr⟩ := lay R hN (show j < 6 by omega)
        rw [e1, e2]
        simp only [obi]
        rcases hr with rfl | rfl | ⟨rfl, n, c, m1, e3, q2, V, O, s48, R1, fi, -⟩
        · rw [if_neg (by decide), if_neg (by decide)]
          exact ⟨x1, m, _, rfl, rfl, R.qu q1 mQu.rf⟩
        · rw [if_neg (by decide), if_neg (by decide)]
          exact ⟨x1, m, _, rfl, rfl, R.qu q1 mQu.rf⟩
        · rw [if_pos z00, if_pos z00, e3]
          simp only [obi]
          obtain ⟨m2, e4, f4, r4, g4⟩ := M_drifts0 O hN (Or.inl s48) (mFr.rf (σ := m1))
          obtain ⟨x2, e5, f5, g5⟩ := X_goCounts V O (show 100 < N by omega) ha
          have hm0 : m.1 0 = nI n := (fi 0 (by decide)).symm.trans O.2.2.1
          rw [hm0] at h2
          obtain ⟨s, hs, rfl⟩ := pl_one (n := n) (by have := O.1; omega) h2
          have hmin : (if nI c < nI a then nI c else nI a) = nI (min a c) := by
            have := O.2.1
            by_cases hca : c < a
            · rw [if_pos (nI_lt hca (by omega)), Nat.min_eq_right (by omega)]
            · rw [if_neg (nI_nlt (by omega) (by omega)), Nat.min_eq_left (by omega)]
          rw [e4, e5]
          simp only [obi, nmvE, f4.1 44 (by decide), O.2.2.2.1]
          rw [hmin, X_off (V.fr f5) O g5 hs, M_off O f4 (Nat.min_le_right _ _) r4 hs]
          exact ⟨x2, m2, _, rfl, rfl, R1.qu f5.qu f4.qu⟩
      · rw [if_neg h2, if_neg h2]
        exact ⟨x, m, _, rfl, rfl, R⟩
    · rw [if_neg h1, if_neg h1]
      exact ⟨x, m, _, rfl, rfl, R⟩
  · rw [if_neg h0, if_neg h0]
    exact ⟨x, m, _, rfl, rfl, R⟩
theorem op_apart {x : xS} {m : mS} (R : pRel x m) {N : Nat} (hN : 400 < N) (a0 a1 a2 : Int32) : Sim (fX_apart N x a0 a1 a2) (fM_apart N m a0 a1 a2) := by
  simp only [fX_apart, fM_apart, pl_xsh, pl_msh, obi, pl_if0, pl_in, pl_wi]
  by_cases h0 : 0 ≤ a0 ∧ a0 ≤ 5
  · rw [if_pos h0, if_pos h0]
    by_cases h1 : 0 ≤ a1 ∧ a1 ≤ 60
    · rw [if_pos h1, if_pos h1]
      by_cases h2 : 0 ≤ a2 ∧ a2 ≤ 1
      · rw [if_pos h2, if_pos h2]
        obtain ⟨j, hj, rfl⟩ := pl_rng (b := 5) (by decide) h0
        obtain ⟨a, ha, rfl⟩ := pl_rng (b := 60) (by decide) h1
        obtain ⟨x1, r, e1, q1, e2, -, -, hr⟩ := lay R hN (show j < 6 by omega)
        rw [e1, e2]
        simp only [obi]
        rcases hr with rfl | rfl | ⟨rfl, n, c, m1, e3, q2, V, O, s48, R1, fi, -⟩
        · rw [if_neg (by decide), if_neg (by decide)]
          exact ⟨x1, m, _, rfl, rfl, R.qu q1 mQu.rf⟩
        · rw [if_neg (by decide), if_neg (by decide)]
          exact ⟨x1, m, _, rfl, rfl, R.qu q1 mQu.rf⟩
        · rw [if_pos z00, if_pos z00, e3]
          simp only [obi]
          obtain ⟨m2, e4, f4, r4, g4⟩ := M_drifts0 O hN (Or.inl s48) (mFr.rf (σ := m1))
          obtain ⟨x2, e5, f5, g5⟩ := X_goCounts V O (show 100 < N by omega) ha
          have o2 := O.2.1
          have hmin : (if nI c < nI a then nI c else nI a) = nI (min a c) := by
            by_cases hca : c < a
            · rw [if_pos (nI_lt hca (by omega)), Nat.min_eq_right (by omega)]
            · rw [if_neg (nI_nlt (by omega) (by omega)), Nat.min_eq_left (by omega)]
          rw [e4, e5]
          simp only [obi, nmvE, f4.1 44 (by decide), O.2.2.2.1]
          rw [hmin]
          by_cases c0 : a2 = 0
          · rw [if_pos c0, if_pos c0, X_apartNow (V.fr f5) O (show 100 < N by omega) g5, M_greatest O f4 (show 100 < N by omega) (Nat.min_le_right _ _) r4 (dr0_bd O _ (by omega))]
            exact ⟨x2, m2, _, rfl, rfl, R1.qu f5.qu f4.qu⟩
          · rw [if_neg c0, if_neg c0, X_firstApart (V.fr f5) O (show 100 < N by omega) g5, M_farthest O f4 (show 100 < N by omega) (Nat.min_le_right _ _) r4]
            exact ⟨x2, m2, _, rfl, rfl, R1.qu f5.qu f4.qu⟩
      · rw [if_neg h2, if_neg h2]
        exact ⟨x, m, _, rfl, rfl, R⟩
    · rw [if_neg h1, if_neg h1]
      exact ⟨x, m, _, rfl, rfl, R⟩
  · rw [if_neg h0, if_neg h0]
    exact ⟨x, m, _, rfl, rfl, R⟩
