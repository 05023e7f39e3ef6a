/-! Ripples -/
theorem X_layTp {N : Nat} (f : Nat → Int64) {n : Nat} (hn : n ≤ 60) (hN : 400 < N) (x : xS) (h25 : xI x 25 = 0) : ∃ x', fX_layTp f n N x 0 = some (x', 0) ∧ xI x' 25 = nI n ∧ (∀ k, k < n → xJ x' 24 k = (f k).toInt32) ∧ (∀ k, k ≠ 25 → xI x' k = xI x k) ∧ (∀ k, k ≠ 24 → xJ x' k = xJ x k) ∧ x'.2.2 = x.2.2 := by
  obtain ⟨m, t, ⟨h2, h3, h4, h5, h6⟩, e⟩ := pl_for (fun m j t => fX_layTp f n m t (nI j)) n (fun j t => xI t 25 = nI j ∧ (∀ k, k < j → xJ t 24 k = (f k).toInt32) ∧ (∀ k, k ≠ 25 → xI t k = xI x k) ∧ (∀ k, k ≠ 24 → xJ t k = xJ x k) ∧ t.2.2 = x.2.2) (by
    intro j t hj ⟨h2, h3, h4, h5, h6⟩
    refine ⟨xSi (xSj t 24 j (f j).toInt32) 25 (nI (j + 1)), ⟨xSi_s _ _ _, fun k hk => ?_, fun k hk => ?_, fun k hk => ?_, h6⟩, fun m => ?_⟩
    · show xJ (xSj t 24 j _) 24 k = _
      rw [xSj_s]
      by_cases hkj : k = j
      · subst hkj; exact upd_s _ _ _
      · rw [upd_n _ hkj]; exact h3 k (by omega)
    · rw [xSi_n _ hk]; exact h4 k hk
    · show xJ (xSj t 24 j _) k = _
      rw [xSj_n _ hk]; exact h5 k hk
    · simp only [fX_layTp, nmvE]
      have h2' : xI (xSj t 24 j (f j).toInt32) 25 = nI j := h2
      rw [if_neg (nI_ge (by omega) (by omega)), pl_ck rfl (show j < n by omega) (by omega), nI_clamp (by omega), pl_ck rfl (show j < 60 by omega) (by decide), h2', nI_1]) N 0 x (by omega) (Nat.zero_le _) ⟨h25, fun k hk => absurd hk (Nat.not_lt_zero _), fun _ _ => rfl, fun _ _ => rfl, rfl⟩
  refine ⟨t, ?_, h2, h3, h4, h5, h6⟩
  have e2 : fX_layTp f n N x 0 = fX_layTp f n (m + 1) t (nI n) := e
  rw [e2]
  simp only [fX_layTp]
  exact if_pos (nI_le (Nat.le_refl _) (by omega))
theorem pl_xsr (N : Nat) (σ : xS) (sr : Int32) : fX_areShelves N σ sr = some (σ, if ¬ sr < 0 ∧ (0 ≤ sr / 10 ∧ sr / 10 ≤ 5) ∧ (0 ≤ sr - sr / 10 * 10 ∧ sr - sr / 10 * 10 ≤ 5) then 1 else 0) := by
  simp only [fX_areShelves, pl_cz10, pl_xsh, obi, pl_if0]
  by_cases h1 : sr < 0
  · rw [if_pos h1, if_neg (fun z => z.1 h1), pl_b0]
  · rw [if_neg h1]
    by_cases h2 : 0 ≤ sr / 10 ∧ sr / 10 ≤ 5
    · rw [if_pos h2]
      by_cases h3 : 0 ≤ sr - sr / 10 * 10 ∧ sr - sr / 10 * 10 ≤ 5
      · rw [if_pos h3, if_pos ⟨h1, h2, h3⟩, pl_b1]
      · rw [if_neg h3, if_neg (fun z => h3 z.2.2), pl_b0]
    · rw [if_neg h2, if_neg (fun z => h2 z.2.1), pl_b0]
theorem pl_msr (N : Nat) (σ : mS) (sr : Int32) : fM_areShelves N σ sr = some (σ, if ¬ sr < 0 ∧ (0 ≤ sr / 10 ∧ sr / 10 ≤ 5) ∧ (0 ≤ sr - sr / 10 * 10 ∧ sr - sr / 10 * 10 ≤ 5) then 1 else 0) := by
  simp only [fM_areShelves, pl_cz10, pl_msh, obi, pl_if0]
  by_cases h1 : sr < 0
  · rw [if_pos h1, if_neg (fun z => z.1 h1), pl_b0]
  · rw [if_neg h1]
    by_cases h2 : 0 ≤ sr / 10 ∧ sr / 10 ≤ 5
    · rw [if_pos h2]
      by_cases h3 : 0 ≤ sr - sr / 10 * 10 ∧ sr - sr / 10 * 10 ≤ 5
      · rw [if_pos h3, if_pos ⟨h1, h2, h3⟩, pl_b1]
      · rw [if_neg h3, if_neg (fun z => h3 z.2.2), pl_b0]
    · rw [if_neg h2, if_neg (fun z => h2 z.2.1), pl_b0]
theorem pl_sr {sr : Int32} (h : ¬ sr < 0 ∧ (0 ≤ sr / 10 ∧ sr / 10 ≤ 5) ∧ (0 ≤ sr - sr / 10 * 10 ∧ sr - sr / 10 * 10 ≤ 5)) : ∃ s, s < 60 ∧ sr = nI s ∧ s / 10 < 6 ∧ s % 10 < 6 ∧ sr / 10 = nI (s / 10) ∧ sr - sr / 10 * 10 = nI (s % 10) := by
  obtain ⟨h1, h2, h3⟩ := h
  obtain ⟨s, hs, rfl⟩ := pl_pos h1
  have ed : nI s / 10 = nI (s / 10) := pl_div hs (by decide) (by decide)
  have em : nI s - nI s / 10 * 10 = nI (s % 10) := pl_mod hs (by decide) (by decide)
  rw [em] at h3
  rw [ed] at h2
  have g2 := (nI_leI (a := s / 10) (b := 5) (by omega) (by decide)).mp h2.2
  have g3 := (nI_leI (a := s % 10) (b := 5) (by omega) (by decide)).mp h3.2
  exact ⟨s, by omega, rfl, by omega, by omega, ed, em⟩
theorem noRow_val {N : Nat} {m : mS} {j : Nat} (hj : j < 6) : fM_noRow N m (nI j) 0 = some (m, if m.2.1 41 j = -1 then -11 else if m.2.1 41 j = 0 then 0 else -12) := by
  simp only [fM_noRow, nmvE]
  rw [pl_ck rfl hj (by decide), nI_clamp (by omega), pl_ck rfl hj (by decide)]
  split
  · rfl
  · split <;> rfl
/-- both rows are laid -/
theorem layB {x : xS} {m : mS} (R : pRel x m) {N : Nat} (hN : 400 < N) {s : Nat} (hs : s < 60) (hi : s / 10 < 6) (hj : s % 10 < 6) : ∃ x' r, fX_layBoth N x (nI s) = some (x', r) ∧ xQu x x' ∧ fM_noRipples N m (nI s) = some (m, r) ∧
    (r = -11 ∨ r = -12 ∨ (r = 0 ∧ ∃ n c m' tm, ∃ tl : Nat → Int32, fM_reads N m (nI (s / 10)) = some (m', ()) ∧ mQu m m' ∧ pVw n c m' x' ∧ pOk n c m' ∧ m'.1 48 = -2 ∧ pRel x' m' ∧ (∀ k, k ≠ 44 → m'.1 k = m.1 k) ∧ tm ≤ 60 ∧ xI x' 25 = nI tm ∧ (∀ k, k < tm → xJ x' 24 k = tl k) ∧ m'.2.1 42 (s % 10) = nI tm ∧ ∀ k, k < tm → m'.2.2 (60 * (s % 10) + k) = (tl k).toInt64)) := by
  have ed : nI s / 10 = nI (s / 10) := pl_div (by omega) (by decide) (by decide)
  have em : nI s - nI (s / 10) * 10 = nI (s % 10) := by rw [← ed]; exact pl_mod (by omega) (by decide) (by decide)
  obtain ⟨x1, r1, e1, q1, e2, fi, fj, hr⟩ := lay R hN hi
  have ev := noRow_val (N := N) (m := m) hi
  rw [e2] at ev
  have ev1 : r1 = if m.2.1 41 (s / 10) = -1 then -11 else if m.2.1 41 (s / 10) = 0 then 0 else -12 := congrArg Prod.snd (Option.some.inj ev)
  have hH : xH x1 = xH x := by show x1.2.2.2.2.2.2.2.2.1 = _; rw [q1.2.2]
  -- what was told
  have told : ∃ x2 r2, fX_layTold N x1 (nI (s % 10)) = some (x2, r2) ∧ (∀ k, k ≠ 25 → xI x2 k = xI x1 k) ∧ (∀ k, k ≠ 24 → xJ x2 k = xJ x1 k) ∧ x2.2.2 = x1.2.2 ∧ (r2 = if m.2.1 41 (s % 10) = -1 then -11 else if m.2.1 41 (s % 10) = 1 then 0 else -12) ∧ (r2 = 0 → ∃ tm, ∃ tl : Nat → Int32, tm ≤ 60 ∧ xI x2 25 = nI tm ∧ (∀ k, k < tm → xJ x2 24 k = tl k) ∧ m.2.1 42 (s % 10) = nI tm ∧ ∀ k, k < tm → m.2.2 (60 * (s % 10) + k) = (tl k).toInt64) := by
    obtain ⟨n, b, r1', r2', r3, r4, r5, r6, r7, r8, r9⟩ := R
    have fi0 : ∀ k, k ≠ 25 → xI (xSi x1 25 0) k = xI x1 k := fun k hk => xSi_n _ hk _
    have hHj : xH (xSi x1 25 0) (s % 10) = xH x (s % 10) := by show xH x1 (s % 10) = _; rw [hH]
    rcases r8 (s % 10) hj with ⟨h1, h2⟩ | ⟨h1, h2, h3, h4, h5, h6⟩ | ⟨q, h1, h2, h3⟩
    · refine ⟨xSi x1 25 0, -11, ?_, fi0, fun _ _ => rfl, rfl, by rw [if_pos h2], fun z => absurd z (by decide)⟩
      simp only [fX_layTold, nmvE]
      rw [pl_ck rfl hj (by decide), nI_clamp (by omega), hHj, if_pos h1]
    · by_cases h1b : (xH x (s % 10)).1 = 2
      · obtain ⟨x2, e3, p1, p2, p3, p4, p5⟩ := X_layTp (xH x (s % 10)).2.2 h4 hN (xSi x1 25 0) (xSi_s _ _ _)
        refine ⟨x2, 0, ?_, fun k hk => (p3 k hk).trans (fi0 k hk), fun k hk => p4 k hk, p5, ?_, fun _ => ⟨(xH x (s % 10)).2.1, fun k => ((xH x (s % 10)).2.2 k).toInt32, h4, p1, p2, h5, fun k hk => ?_⟩⟩
        · simp only [fX_layTold, nmvE]
          rw [pl_ck rfl hj (by decide), nI_clamp (by omega), hHj, if_neg (by omega), if_pos h1b]
          exact e3
        · rw [h3, h1b, if_neg (by decide), if_pos (by decide)]
        · obtain ⟨g1, g2⟩ := h6 k hk
          rw [g1, g2 (by omega)]
      · refine ⟨xSi x1 25 0, -12, ?_, fi0, fun _ _ => rfl, rfl, ?_, fun z => absurd z (by decide)⟩
        · simp only [fX_layTold, nmvE]
          rw [pl_ck rfl hj (by decide), nI_clamp (by omega), hHj, if_neg (by omega), if_neg h1b]
        · rw [h3, if_neg (pl_m1 (by omega)), if_neg (fun z => h1b (by have := (nI_eq (a := (xH x (s % 10)).1 - 1) (b := 1) (by omega) (by decide)).mp z; omega))]
    · refine ⟨xSi x1 25 0, -12, ?_, fi0, fun _ _ => rfl, rfl, ?_, fun z => absurd z (by decide)⟩
      · simp only [fX_layTold, nmvE]
        rw [pl_ck rfl hj (by decide), nI_clamp (by omega), hHj, if_neg (by omega), if_neg (by omega)]
      · have hb := r7.1
        rw [h3, if_neg (pl_m1 (by omega)), if_neg (fun z => by have := (nI_eq (a := 10 + q) (b := 1) (by omega) (by decide)).mp z; omega)]
  obtain ⟨x2, r2, e3, gi, gj, g2, ev2, ht⟩ := told
  have q2 : xQu x x2 := q1.tr ⟨fun k c1 c2 c3 c4 c5 c6 c7 => gi k c7, ⟨gj 8 (by decide), gj 32 (by decide), gj 40 (by decide)⟩, g2⟩
  have mr : ∀ r, (if m.2.1 41 (s / 10) = -1 then (-11 : Int32) else if m.2.1 41 (s % 10) = -1 then -11 else if m.2.1 41 (s / 10) = 0 then (if m.2.1 41 (s % 10) = 1 then 0 else -12) else -12) = r → fM_noRipples N m (nI s) = some (m, r) := by
    intro r hr
    simp only [fM_noRipples, nmvE, pl_cz10, em, ed]
    rw [pl_ck rfl hi (by decide), nI_clamp (by omega), pl_ck rfl hj (by decide), nI_clamp (by omega), pl_ck rfl hi (by decide), pl_ck rfl hj (by decide), ← hr]
    split
    · rfl
    · split
      · rfl
      · split
        · split <;> rfl
        · rfl
  have xr : ∀ r, (if r1 = -11 then (-11 : Int32) else if r2 = -11 then -11 else if r1 < 0 then -12 else if 0 ≤ r2 then 0 else -12) = r → fX_layBoth N x (nI s) = some (x2, r) := by
    intro r hr
    simp only [fX_layBoth, pl_cz10, em, ed, e1, obi, e3]
    rw [← hr]
    split
    · rfl
    · split
      · rfl
      · split
        · rfl
        · split <;> rfl
  by_cases c1 : m.2.1 41 (s / 10) = -1
  · rw [if_pos c1] at ev1
    exact ⟨x2, -11, xr _ (by rw [ev1]; rfl), q2, mr _ (by rw [if_pos c1]), Or.inl rfl⟩
  rw [if_neg c1] at ev1
  by_cases c2 : m.2.1 41 (s % 10) = -1
  · rw [if_pos c2] at ev2
    refine ⟨x2, -11, xr _ ?_, q2, mr _ (by rw [if_neg c1, if_pos c2]), Or.inl rfl⟩
    rw [ev1, ev2]
    split <;> rfl
  rw [if_neg c2] at ev2
  by_cases c3 : m.2.1 41 (s / 10) = 0
  · rw [if_pos c3] at ev1
    by_cases c4 : m.2.1 41 (s % 10) = 1
    · rw [if_pos c4] at ev2
      subst ev1
      subst ev2
      refine ⟨x2, 0, xr _ (by decide), q2, mr _ (by rw [if_neg c1, if_neg c2, if_pos c3, if_pos c4]), Or.inr (Or.inr ⟨rfl, ?_⟩)⟩
      rcases hr with h | h | ⟨-, n, c, m1, e4, p2, V, O, s48, R1, hi', hj'⟩
      · exact absurd h (by decide)
      · exact absurd h (by decide)
      · obtain ⟨tm, tl, t1, t2, t3, t4, t5⟩ := ht rfl
        refine ⟨n, c, m1, tm, tl, e4, p2, V.to (fun k hk => gi k (by omega)) (gj 12 (by decide)) g2, O, s48, R1.qu ⟨fun k _ _ _ _ _ _ c7 => gi k c7, ⟨gj 8 (by decide), gj 32 (by decide), gj 40 (by decide)⟩, g2⟩ mQu.rf, hi', t1, t2, t3, ?_, fun k hk => ?_⟩
        · rw [hj' 42 (by decide)]; exact t4
        · rw [p2.2.2]; exact t5 k hk
    · rw [if_neg c4] at ev2
      refine ⟨x2, -12, xr _ ?_, q2, mr _ (by rw [if_neg c1, if_neg c2, if_pos c3, if_neg c4]), Or.inr (Or.inl rfl)⟩
      rw [ev1, ev2]
      rfl
  · rw [if_neg c3] at ev1
    refine ⟨x2, -12, xr _ ?_, q2, mr _ (by rw [if_neg c1, if_neg c2, if_neg c3]), Or.inr (Or.inl rfl)⟩
    by_cases c4 : m.2.1 41 (s % 10) = 1
    · rw [ev1, ev2, if_pos c4]
      decide
    · rw [ev1, ev2, if_neg c4]
      decide
theorem op_judge {x : xS} {m : mS} (R : pRel x m) {N : Nat} (hN : 400 < N) (a0 : Int32) : Sim (fX_judge N x a0) (fM_judge N m a0) := by
  simp only [fX_judge, fM_judge, pl_xsr, pl_msr, obi, pl_if0, pl_cz10]
  by_cases h0 : ¬ a0 < 0 ∧ (0 ≤ a0 / 10 ∧ a0 / 10 ≤ 5) ∧ (0 ≤ a0 - a0 / 10 * 10 ∧ a0 - a0 / 10 * 10 ≤ 5)
  · rw [if_pos h0, if_pos h0]
    obtain ⟨s, hs, rfl, hi, hj, ed, em⟩ := pl_sr h0
    obtain ⟨x1, r, e1, q1, e2, hr⟩ := layB R hN hs hi hj
    rw [e1, e2, ed]
    simp only
    rcases hr with rfl | rfl | ⟨rfl, n, c, m1, tm, tl, e3, q2, V, O, s48, R1, fi, t1, t2, t3, t4, t5⟩
    · rw [if_neg (by decide), if_neg (by decide)]
      exact ⟨x1, m, -11, rfl, rfl, R.qu q1 mQu.rf⟩
    · rw [if_neg (by decide), if_neg (by decide)]
      exact ⟨x1, m, -12, rfl, rfl, R.qu q1 mQu.rf⟩
    · rw [if_pos z00, if_pos z00, e3]
      obtain ⟨x2, e5, f5⟩ := X_wrongAt V O hN t1 t2 t3
      obtain ⟨m2, e6, f6⟩ := M_wrong O hN (Or.inl s48) (mFr.rf (σ := m1)) t1 hs rfl hj t4 t5
      simp only [e5, e6]
      exact ⟨x2, m2, _, rfl, rfl, R1.qu f5.qu f6.qu⟩
  · rw [if_neg h0, if_neg h0]
    exact ⟨x, m, -1, rfl, rfl, R⟩
/-- who may have led -/
def ledB (n c tm : Nat) (P : mS) (tl : Nat → Int32) (s : Nat) : Bool := decide (fstS (wrB (mSj P 7 0 (nI s)) n tl) (min c tm) 0 = -2)
theorem X_whoLed {n c : Nat} {P : mS} {σ0 : xS} (V : pVw n c P σ0) (O : pOk n c P) {N : Nat} (hN : 400 < N) {tm : Nat} (htm : tm ≤ 60) {tl : Nat → Int32} (h25 : xI σ0 25 = nI tm) (h24 : ∀ k, k < tm → xJ σ0 24 k = tl k) : ∃ σ', fX_whoLed_b32 N N σ0 (xI σ0 2) 0 0 = some (σ', bitsS (ledB n c tm P tl) n) ∧ qFr σ0 σ' := by
  have o1 := O.1
  obtain ⟨m, t, ⟨h1, h2⟩, e⟩ := pl_for (fun m j (t : xS × Int32) => fX_whoLed_b32 N m t.1 (xI σ0 2) t.2 (nI j)) n (fun j t => qFr σ0 (xSi t.1 2 (xI σ0 2)) ∧ t.2 = bitsS (ledB n c tm P tl) j) (by
    intro j t hj ⟨h1, h2⟩
    obtain ⟨t0, b⟩ := t
    simp only at h1 h2 ⊢
    have V2 := V.lead h1 (nI j)
    have O2 := O.lead (show j ≤ 7 by omega)
    have k25 : xI (xSi t0 2 (nI j)) 25 = nI tm := by
      have := h1.1 25 (by decide)
      rw [xSi_n _ (by decide)] at this ⊢
      exact this.trans h25
    have k24 : xJ (xSi t0 2 (nI j)) 24 = xJ σ0 24 := h1.2.1 24 (by decide) (by decide) (by decide)
    obtain ⟨t1, e1, f1⟩ := X_wrongAt V2 O2 hN htm (tl := tl) k25 (fun k hk => by rw [k24]; exact h24 k hk)
    have hm : xI t0 1 = nI n := by
      have := h1.1 1 (by decide)
      rw [xSi_n _ (by decide)] at this
      exact this.trans V.1
    refine ⟨(t1, bitsS (ledB n c tm P tl) (j + 1)), ⟨h1.lead f1, rfl⟩, fun m => ?_⟩
    simp only [fX_whoLed_b32, nmvE, hm]
    rw [if_neg (nI_ge hj (by omega)), e1, bitsS_succ]
    simp only [obi, h2]
    by_cases hz : fstS (wrB (mSj P 7 0 (nI j)) n tl) (min c tm) 0 = -2
    · rw [if_pos hz, if_pos (show ledB n c tm P tl j = true from by unfold ledB; simp [hz])]
      simp only [fX_whoLed_b65, nmvE, nI_1]
    · rw [if_neg hz, if_neg (show ¬ ledB n c tm P tl j = true from by unfold ledB; simp [hz])]
      simp only [fX_whoLed_b65, nmvE, nI_1]) N 0 (σ0, 0) (by omega) (Nat.zero_le _) ⟨by
      have : xSi σ0 2 (xI σ0 2) = σ0 := by
        show (upd σ0.1 2 (σ0.1 2), σ0.2) = σ0
        rw [upd_self]
      simp only [this]
      exact qFr.rf, rfl⟩
  obtain ⟨t0, b⟩ := t
  simp only at h1 h2
  have hm : xI t0 1 = nI n := by
    have := h1.1 1 (by decide)
    rw [xSi_n _ (by decide)] at this
    exact this.trans V.1
  refine ⟨xSi t0 2 (xI σ0 2), ?_, h1⟩
  have e2 : fX_whoLed_b32 N N σ0 (xI σ0 2) 0 0 = fX_whoLed_b32 N (m + 1) t0 (xI σ0 2) b (nI n) := e
  rw [e2]
  simp only [fX_whoLed_b32, nmvE, hm]
  rw [if_pos (nI_le (Nat.le_refl _) (by omega)), h2]
theorem M_whoLed {n c : Nat} {P : mS} (O : pOk n c P) {N : Nat} (hN : 400 < N) (hs0 : P.1 48 = -2) {tm s : Nat} (htm : tm ≤ 60) (hs : s < 60) (hj : s % 10 < 6) {tl : Nat → Int32} (h42 : P.2.1 42 (s % 10) = nI tm) (h43 : ∀ k, k < tm → P.2.2 (60 * (s % 10) + k) = (tl k).toInt64) : ∃ μ', fM_whoLed_b42 N N P (nI s) (P.2.1 7 0) 0 0 = some (μ', bitsS (ledB n c tm P tl) n) ∧ mFr P μ' := by
  have o1 := O.1
  obtain ⟨m, t, ⟨⟨v, h1⟩, h2⟩, e⟩ := pl_for (fun m j (t : mS × Int32) => fM_whoLed_b42 N m t.1 (nI s) (P.2.1 7 0) t.2 (nI j)) n (fun j t => (∃ v, mFr (mSj P 7 0 v) t.1) ∧ t.2 = bitsS (ledB n c tm P tl) j) (by
    intro j t hj' ⟨⟨v, h1⟩, h2⟩
    obtain ⟨t0, b⟩ := t
    simp only at h1 h2 ⊢
    have h1' := h1.cell (by decide) (nI j)
    have O2 := O.lead (show j ≤ 7 by omega)
    obtain ⟨t1, e1, f1⟩ := M_wrong O2 hN (Or.inl hs0) h1' htm hs rfl hj (tl := tl) (by rw [mSj_n _ (by decide)]; exact h42) h43
    have hm : t0.1 0 = nI n := (h1.1 0 (by decide)).trans O.2.2.1
    refine ⟨(t1, bitsS (ledB n c tm P tl) (j + 1)), ⟨⟨nI j, f1⟩, rfl⟩, fun m => ?_⟩
    simp only [fM_whoLed_b42, nmvE, hm, pl_c03, show (0 : Int32).toNatClampNeg = 0 from rfl]
    rw [if_neg (nI_ge hj' (by omega)), e1, bitsS_succ]
    simp only [obi, h2]
    by_cases hz : fstS (wrB (mSj P 7 0 (nI j)) n tl) (min c tm) 0 = -2
    · rw [if_pos hz, if_pos (show ledB n c tm P tl j = true from by unfold ledB; simp [hz])]
      simp only [fM_whoLed_b78, nmvE, nI_1]
    · rw [if_neg hz, if_neg (show ¬ ledB n c tm P tl j = true from by unfold ledB; simp [hz])]
      simp only [fM_whoLed_b78, nmvE, nI_1]) N 0 (P, 0) (by omega) (Nat.zero_le _) ⟨⟨P.2.1 7 0, by simp only [mSj_self]; exact mFr.rf⟩, rfl⟩
  obtain ⟨t0, b⟩ := t
  simp only at h1 h2
  refine ⟨mSj t0 7 0 (P.2.1 7 0), ?_, h1.back (by decide)⟩
  have e2 : fM_whoLed_b42 N N P (nI s) (P.2.1 7 0) 0 0 = fM_whoLed_b42 N (m + 1) t0 (nI s) (P.2.1 7 0) b (nI n) := e
  rw [e2]
  simp only [fM_whoLed_b42, nmvE, (h1.1 0 (by decide)).trans O.2.2.1, pl_c03, show (0 : Int32).toNatClampNeg = 0 from rfl]
  rw [if_pos (nI_le (Nat.le_refl _) (by omega)), h2]
theorem op_whoLed {x : xS} {m : mS} (R : pRel x m) {N : Nat} (hN : 400 < N) (a0 : Int32) : Sim (fX_whoLed N x a0) (fM_whoLed N m a0) := by
  simp only [fX_whoLed, fM_whoLed, pl_xsr, pl_msr, obi, pl_if0, pl_cz10]
  by_cases h0 : ¬ a0 < 0 ∧ (0 ≤ a0 / 10 ∧ a0 / 10 ≤ 5) ∧ (0 ≤ a0 - a0 / 10 * 10 ∧ a0 - a0 / 10 * 10 ≤ 5)
  · rw [if_pos h0, if_pos h0]
    obtain ⟨s, hs, rfl, hi, hj, ed, em⟩ := pl_sr h0
    obtain ⟨x1, r, e1, q1, e2, hr⟩ := layB R hN hs hi hj
    rw [e1, e2, ed]
    simp only
    rcases hr with rfl | rfl | ⟨rfl, n, c, m1, tm, tl, e3, q2, V, O, s48, R1, fi, t1, t2, t3, t4, t5⟩
    · rw [if_neg (by decide), if_neg (by decide)]
      exact ⟨x1, m, -11, rfl, rfl, R.qu q1 mQu.rf⟩
    · rw [if_neg (by decide), if_neg (by decide)]
      exact ⟨x1, m, -12, rfl, rfl, R.qu q1 mQu.rf⟩
    · rw [if_pos z00, if_pos z00, e3]
      obtain ⟨x2, e5, f5⟩ := X_whoLed V O hN t1 t2 t3
      obtain ⟨m2, e6, f6⟩ := M_whoLed O hN s48 t1 hs hj t4 t5
      simp only [nmvE, pl_c03, show (0 : Int32).toNatClampNeg = 0 from rfl, e5, e6]
      exact ⟨x2, m2, _, rfl, rfl, R1.qu f5.qu f6.qu⟩
  · rw [if_neg h0, if_neg h0]
    exact ⟨x, m, -1, rfl, rfl, R⟩
/-- the first that fits, from below -/
def fvS (p : Nat → Bool) (lo d : Int32) : Nat → Nat → Int32
  | 0, _ => d
  | m + 1, k => if p k = true then lo + nI k else fvS p lo d m (k + 1)
theorem fvS_step {p : Nat → Bool} {lo d : Int32} {T k : Nat} (h : k < T) : fvS p lo d (T - k) k = if p k = true then lo + nI k else fvS p lo d (T - (k + 1)) (k + 1) := by
  rw [show T - k = (T - (k + 1)) + 1 from by omega]
  rfl
theorem lo_int {lo : Int32} {a i : Nat} (hlo : lo.toInt = -(a : Int)) (ha : a ≤ 99) (hi : i ≤ 200) : (lo + nI i).toInt = (i : Int) - a := by
  have h1 : pBd lo 99 := by unfold pBd; omega
  have h2 : pBd (nI i) 200 := by unfold pBd; rw [nI_toInt (by omega)]; omega
  rw [(h1.add h2 (by omega)).1, nI_toInt (by omega)]
  omega
/-- whose lateness, whose quickness it may be -/
def setB (n c tm f one : Nat) (P : mS) (tl : Nat → Int32) (lo : Int32) (k : Nat) : Bool := decide (fstS (wrB (mSj P (f + 1) one (lo + nI k)) n tl) (min c tm) 0 = -2)
theorem setB_t {n c tm f one : Nat} {P : mS} {tl : Nat → Int32} {lo : Int32} {k : Nat} (h : fstS (wrB (mSj P (f + 1) one (lo + nI k)) n tl) (min c tm) 0 = -2) : setB n c tm f one P tl lo k = true := by
  unfold setB
  exact decide_eq_true h
theorem setB_f {n c tm f one : Nat} {P : mS} {tl : Nat → Int32} {lo : Int32} {k : Nat} (h : ¬ fstS (wrB (mSj P (f + 1) one (lo + nI k)) n tl) (min c tm) 0 = -2) : ¬ setB n c tm f one P tl lo k = true := by
  unfold setB
  exact fun z => h (of_decide_eq_true z)
theorem X_later {n c : Nat} {P : mS} {σ0 : xS} (V : pVw n c P σ0) (O : pOk n c P) {N : Nat} (hN : 400 < N) {tm : Nat} (htm : tm ≤ 60) {tl : Nat → Int32} (h25 : xI σ0 25 = nI tm) (h24 : ∀ k, k < tm → xJ σ0 24 k = tl k) {one : Nat} (ho : one < n) : ∃ σ', fX_later_b47 N N σ0 (nI one) (xE σ0 one 5) (-2) 0 = some (σ', fvS (setB n c tm 5 one P tl 0) 0 (-2) 100 0) ∧ qFr σ0 σ' := by
  have o1 := O.1
  have hlo : (0 : Int32).toInt = -(0 : Nat) := by decide
  have hhi : (99 : Int32).toInt = 99 := by decide
  have h00 : (0 : Int32).toInt = 0 := by decide
  have fin : ∀ (t0 : xS) (v : Int32), qFr σ0 (xSe t0 one 5 (xE σ0 one 5)) → fX_later_b89 N t0 (nI one) (xE σ0 one 5) v = some (xSe t0 one 5 (xE σ0 one 5), v) := by
    intro t0 v h1
    have hn : xn t0 = n := by
      have : (xSe t0 one 5 (xE σ0 one 5)).2.2.2.1 = σ0.2.2.2.1 := by rw [h1.2.2]
      exact this.trans V.2.1
    simp only [fX_later_b89, nmvE]
    rw [pl_ck rfl (show one < 8 by omega) (by decide), nI_clamp (by omega), pl_cl (by rw [hn]; exact ho), pl_cl (by rw [hn]; exact ho)]
  obtain ⟨u, hu, e⟩ := pl_lp (fun m k (t : xS × Int32) => fX_later_b47 N m t.1 (nI one) (xE σ0 one 5) t.2 (0 + nI k)) (fun t : xS => some (t, fvS (setB n c tm 5 one P tl 0) 0 (-2) 100 0)) 100 (fun k t => qFr σ0 (xSe t.1 one 5 (xE σ0 one 5)) ∧ ((t.2 = (-2) ∧ fvS (setB n c tm 5 one P tl 0) 0 (-2) 100 0 = fvS (setB n c tm 5 one P tl 0) 0 (-2) (100 - k) k) ∨ (t.2 = fvS (setB n c tm 5 one P tl 0) 0 (-2) 100 0 ∧ 0 ≤ t.2))) (fun t => qFr σ0 t) (by
    intro k t hk ⟨h1, h2⟩
    obtain ⟨t0, v⟩ := t
    simp only at h1 h2 ⊢
    have hx := lo_int hlo (by decide) (show k ≤ 200 by omega)
    by_cases hT : 100 ≤ k
    · refine Or.inr ⟨xSe t0 one 5 (xE σ0 one 5), h1, fun m => ?_⟩
      simp only [fX_later_b47]
      rw [if_pos (Int32.lt_iff_toInt_lt.mpr (by omega)), fin t0 v h1]
      rcases h2 with ⟨g1, g2⟩ | ⟨g1, g2⟩
      · rw [g2, show 100 - k = 0 from by omega, g1]
        rfl
      · rw [g1]
    have hnlt : ¬ 99 < 0 + nI k := fun z => by
      have := Int32.lt_iff_toInt_lt.mp z
      omega
    rcases h2 with ⟨g1, g2⟩ | ⟨g1, g2⟩
    · subst g1
      have V2 := V.sw ho (show 5 = 4 ∨ 5 = 5 by decide) h1 (0 + nI k)
      have O2 : pOk n c (mSj P (5 + 1) one (0 + nI k)) := O.sw (Or.inr ⟨rfl, by unfold pBd; omega⟩)
      have hn : xn t0 = n := V2.2.1
      have k25 : xI (xSe t0 one 5 (0 + nI k)) 25 = nI tm := (h1.1 25 (by decide)).trans h25
      have k24 : xJ (xSe t0 one 5 (0 + nI k)) 24 = xJ σ0 24 := h1.2.1 24 (by decide) (by decide) (by decide)
      obtain ⟨t1, e1, f1⟩ := X_wrongAt V2 O2 hN htm (tl := tl) k25 (fun q hq => by rw [k24]; exact h24 q hq)
      have hs := fvS_step (p := setB n c tm 5 one P tl 0) (lo := 0) (d := (-2)) (show k < 100 by omega)
      rw [← g2] at hs
      by_cases hz : fstS (wrB (mSj P (5 + 1) one (0 + nI k)) n tl) (min c tm) 0 = -2
      · rw [if_pos (show setB n c tm 5 one P tl 0 k = true from setB_t hz)] at hs
        refine Or.inl ⟨by omega, (t1, 0 + nI k), ⟨h1.sw f1, Or.inr ⟨hs.symm, ?_⟩⟩, fun m => ?_⟩
        · exact Int32.le_iff_toInt_le.mpr (by
            show (0 : Int32).toInt ≤ (0 + nI k : Int32).toInt
            omega)
        · simp only [fX_later_b47, nmvE]
          rw [if_neg hnlt, if_neg (show ¬ (0 : Int32) ≤ -2 from by decide)]
          rw [pl_ck rfl (show one < 8 by omega) (by decide), nI_clamp (by omega), pl_cl (by rw [hn]; exact ho), pl_cl (by rw [hn]; exact ho), e1]
          simp only [obi]
          rw [if_pos hz]
          simp only [fX_later_b83, nmvE]
          rw [Int32.add_assoc, nI_1]
      · rw [if_neg (show ¬ setB n c tm 5 one P tl 0 k = true from setB_f hz)] at hs
        refine Or.inl ⟨by omega, (t1, (-2)), ⟨h1.sw f1, Or.inl ⟨rfl, hs⟩⟩, fun m => ?_⟩
        simp only [fX_later_b47, nmvE]
        rw [if_neg hnlt, if_neg (show ¬ (0 : Int32) ≤ -2 from by decide)]
        rw [pl_ck rfl (show one < 8 by omega) (by decide), nI_clamp (by omega), pl_cl (by rw [hn]; exact ho), pl_cl (by rw [hn]; exact ho), e1]
        simp only [obi]
        rw [if_neg hz]
        simp only [fX_later_b83, nmvE]
        rw [Int32.add_assoc, nI_1]
    · refine Or.inr ⟨xSe t0 one 5 (xE σ0 one 5), h1, fun m => ?_⟩
      simp only [fX_later_b47]
      rw [if_neg hnlt, if_pos g2, fin t0 v h1, g1]) N 0 (σ0, (-2)) (by omega) (Nat.zero_le _) ⟨by simp only [xSe_self]; exact qFr.rf, Or.inl ⟨rfl, rfl⟩⟩
  refine ⟨u, ?_, hu⟩
  have e2 : fX_later_b47 N N σ0 (nI one) (xE σ0 one 5) (-2) (0 + nI 0) = _ := e
  rw [nI_0, Int32.add_zero] at e2
  exact e2
theorem M_later {n c : Nat} {P : mS} (O : pOk n c P) {N : Nat} (hN : 400 < N) (hs0 : P.1 48 = -2) {tm s : Nat} (htm : tm ≤ 60) (hs : s < 60) (hj : s % 10 < 6) {tl : Nat → Int32} (h42 : P.2.1 42 (s % 10) = nI tm) (h43 : ∀ k, k < tm → P.2.2 (60 * (s % 10) + k) = (tl k).toInt64) {one : Nat} (ho : one < n) : ∃ μ', fM_later_b53 N N P (nI s) (nI one) (P.2.1 6 one) (-2) 99 = some (μ', fvS (setB n c tm 5 one P tl 0) 0 (-2) 100 0) ∧ mFr P μ' := by
  have o1 := O.1
  have hlo : (0 : Int32).toInt = -(0 : Nat) := by decide
  have hneg : (-1 : Int32).toInt = -1 := by decide
  have hval : ∀ k, k < 100 → (0 + nI (100 - k) + -1 : Int32) = 0 + nI (100 - (k + 1)) := fun k hk => by
    rw [show 100 - k = (100 - (k + 1)) + 1 from by omega, Int32.add_assoc, ← Int32.sub_eq_add_neg, nI_pred]
  obtain ⟨m, t, ⟨⟨v, h1⟩, h2⟩, e⟩ := pl_for (fun m k (t : mS × Int32) => fM_later_b53 N m t.1 (nI s) (nI one) (P.2.1 6 one) t.2 (0 + nI (100 - k) + -1)) 100 (fun k t => (∃ v, mFr (mSj P 6 one v) t.1) ∧ t.2 = fvS (setB n c tm 5 one P tl 0) 0 (-2) k (100 - k)) (by
    intro k t hk ⟨⟨v, h1⟩, h2⟩
    obtain ⟨t0, w⟩ := t
    simp only at h1 h2 ⊢
    have hx := lo_int hlo (by decide) (show 100 - (k + 1) ≤ 200 by omega)
    have h1' := h1.cell (by decide) (0 + nI (100 - (k + 1)))
    have O2 : pOk n c (mSj P 6 one (0 + nI (100 - (k + 1)))) := O.sw (Or.inr ⟨rfl, by unfold pBd; omega⟩)
    obtain ⟨t1, e1, f1⟩ := M_wrong O2 hN (Or.inl hs0) h1' htm hs rfl hj (tl := tl) (by rw [mSj_n _ (by decide)]; exact h42) h43
    refine ⟨(t1, fvS (setB n c tm 5 one P tl 0) 0 (-2) (k + 1) (100 - (k + 1))), ⟨⟨_, f1⟩, rfl⟩, fun m => ?_⟩
    rw [hval k hk]
    simp only [fM_later_b53, nmvE]
    rw [if_neg (fun z => by
      have := Int32.lt_iff_toInt_lt.mp z
      have h00 : (0 : Int32).toInt = -(0 : Nat) := hlo
      omega), pl_ck rfl (show one < 8 by omega) (by decide), nI_clamp (by omega), e1]
    simp only [obi, h2]
    have hstep : fvS (setB n c tm 5 one P tl 0) 0 (-2) (k + 1) (100 - (k + 1)) = if setB n c tm 5 one P tl 0 (100 - (k + 1)) = true then 0 + nI (100 - (k + 1)) else fvS (setB n c tm 5 one P tl 0) 0 (-2) k (100 - k) := by
      show (if _ then _ else fvS _ _ _ k (100 - (k + 1) + 1)) = _
      rw [show 100 - (k + 1) + 1 = 100 - k from by omega]
    rw [hstep]
    by_cases hz : fstS (wrB (mSj P 6 one (0 + nI (100 - (k + 1)))) n tl) (min c tm) 0 = -2
    · rw [if_pos hz, if_pos (show setB n c tm 5 one P tl 0 (100 - (k + 1)) = true from setB_t hz)]
      simp only [fM_later_b80, nmvE]
    · rw [if_neg hz, if_neg (show ¬ setB n c tm 5 one P tl 0 (100 - (k + 1)) = true from setB_f hz)]
      simp only [fM_later_b80, nmvE]) N 0 (P, (-2)) (by omega) (Nat.zero_le _) ⟨⟨P.2.1 6 one, by simp only [mSj_self]; exact mFr.rf⟩, rfl⟩
  obtain ⟨t0, w⟩ := t
  simp only at h1 h2
  refine ⟨mSj t0 6 one (P.2.1 6 one), ?_, h1.back (by decide)⟩
  have e0 : (99 : Int32) = 0 + nI (100 - 0) + -1 := by decide
  have e2 : fM_later_b53 N N P (nI s) (nI one) (P.2.1 6 one) (-2) 99 = fM_later_b53 N (m + 1) t0 (nI s) (nI one) (P.2.1 6 one) w (0 + nI (100 - 100) + -1) := (congrArg (fM_later_b53 N N P (nI s) (nI one) (P.2.1 6 one) (-2)) e0).trans e
  rw [e2]
  simp only [fM_later_b53, nmvE]
  rw [if_pos (by decide), pl_ck rfl (show one < 8 by omega) (by decide), nI_clamp (by omega), h2]
theorem op_later {x : xS} {m : mS} (R : pRel x m) {N : Nat} (hN : 400 < N) (a0 a1 : Int32) : Sim (fX_later N x a0 a1) (fM_later N m a0 a1) := by
  have hmany : xI x 1 = m.1 0 := by obtain ⟨n, b, ⟨_, h1, _, h2, _⟩, _⟩ := R; rw [h1, h2]
  simp only [fX_later, fM_later, pl_xsr, pl_msr, pl_xone, pl_mone, hmany, obi, pl_if0, pl_cz10]
  by_cases h0 : ¬ a0 < 0 ∧ (0 ≤ a0 / 10 ∧ a0 / 10 ≤ 5) ∧ (0 ≤ a0 - a0 / 10 * 10 ∧ a0 - a0 / 10 * 10 ≤ 5)
  · rw [if_pos h0, if_pos h0]
    by_cases h1 : 0 ≤ a1 ∧ a1 ≤ m.1 0 - 1
    · rw [if_pos h1, if_pos h1]
      obtain ⟨s, hs, rfl, hi, hj, ed, em⟩ := pl_sr h0
      obtain ⟨x1, r, e1, q1, e2, hr⟩ := layB R hN hs hi hj
      rw [e1, e2, ed]
      simp only
      rcases hr with rfl | rfl | ⟨rfl, n, c, m1, tm, tl, e3, q2, V, O, s48, R1, fi, t1, t2, t3, t4, t5⟩
      · rw [if_neg (by decide), if_neg (by decide)]
        exact ⟨x1, m, -11, rfl, rfl, R.qu q1 mQu.rf⟩
      · rw [if_neg (by decide), if_neg (by decide)]
        exact ⟨x1, m, -12, rfl, rfl, R.qu q1 mQu.rf⟩
      · rw [if_pos z00, if_pos z00, e3]
        have hm0 : m.1 0 = nI n := (fi 0 (by decide)).symm.trans O.2.2.1
        have o1 := O.1
        rw [hm0] at h1
        obtain ⟨one, ho, rfl⟩ := pl_one (n := n) (by omega) h1
        obtain ⟨x2, e5, f5⟩ := X_later V O hN t1 t2 t3 ho
        obtain ⟨m2, e6, f6⟩ := M_later O hN s48 t1 hs hj t4 t5 ho
        simp only [nmvE]
        rw [pl_ck rfl (show one < 8 by omega) (by decide), nI_clamp (by omega), pl_cl (by rw [V.2.1]; exact ho), pl_cl (by rw [V.2.1]; exact ho), pl_ck rfl (show one < 8 by omega) (by decide), e5, e6]
        exact ⟨x2, m2, _, rfl, rfl, R1.qu f5.qu f6.qu⟩
    · rw [if_neg h1, if_neg h1]
      exact ⟨x, m, _, rfl, rfl, R⟩
  · rw [if_neg h0, if_neg h0]
    exact ⟨x, m, _, rfl, rfl, R⟩
theorem X_quicker {n c : Nat} {P : mS} {σ0 : xS} (V : pVw n c P σ0) (O : pOk n c P) {N : Nat} (hN : 400 < N) {tm : Nat} (htm : tm ≤ 60) {tl : Nat → Int32} (h25 : xI σ0 25 = nI tm) (h24 : ∀ k, k < tm → xJ σ0 24 k = tl k) {one : Nat} (ho : one < n) : ∃ σ', fX_quicker_b49 N N σ0 (nI one) (xE σ0 one 4) (-99) (-9) = some (σ', fvS (setB n c tm 4 one P tl (-9)) (-9) (-99) 19 0) ∧ qFr σ0 σ' := by
  have o1 := O.1
  have hlo : ((-9) : Int32).toInt = -(9 : Nat) := by decide
  have hhi : (9 : Int32).toInt = 9 := by decide
  have h00 : (0 : Int32).toInt = 0 := by decide
  have fin : ∀ (t0 : xS) (v : Int32), qFr σ0 (xSe t0 one 4 (xE σ0 one 4)) → fX_quicker_b93 N t0 (nI one) (xE σ0 one 4) v = some (xSe t0 one 4 (xE σ0 one 4), v) := by
    intro t0 v h1
    have hn : xn t0 = n := by
      have : (xSe t0 one 4 (xE σ0 one 4)).2.2.2.1 = σ0.2.2.2.1 := by rw [h1.2.2]
      exact this.trans V.2.1
    simp only [fX_quicker_b93, nmvE]
    rw [pl_ck rfl (show one < 8 by omega) (by decide), nI_clamp (by omega), pl_cl (by rw [hn]; exact ho), pl_cl (by rw [hn]; exact ho)]
  obtain ⟨u, hu, e⟩ := pl_lp (fun m k (t : xS × Int32) => fX_quicker_b49 N m t.1 (nI one) (xE σ0 one 4) t.2 ((-9) + nI k)) (fun t : xS => some (t, fvS (setB n c tm 4 one P tl (-9)) (-9) (-99) 19 0)) 19 (fun k t => qFr σ0 (xSe t.1 one 4 (xE σ0 one 4)) ∧ ((t.2 = (-99) ∧ fvS (setB n c tm 4 one P tl (-9)) (-9) (-99) 19 0 = fvS (setB n c tm 4 one P tl (-9)) (-9) (-99) (19 - k) k) ∨ (t.2 = fvS (setB n c tm 4 one P tl (-9)) (-9) (-99) 19 0 ∧ ¬ t.2 = -99))) (fun t => qFr σ0 t) (by
    intro k t hk ⟨h1, h2⟩
    obtain ⟨t0, v⟩ := t
    simp only at h1 h2 ⊢
    have hx := lo_int hlo (by decide) (show k ≤ 200 by omega)
    by_cases hT : 19 ≤ k
    · refine Or.inr ⟨xSe t0 one 4 (xE σ0 one 4), h1, fun m => ?_⟩
      simp only [fX_quicker_b49]
      rw [if_pos (Int32.lt_iff_toInt_lt.mpr (by omega)), fin t0 v h1]
      rcases h2 with ⟨g1, g2⟩ | ⟨g1, g2⟩
      · rw [g2, show 19 - k = 0 from by omega, g1]
        rfl
      · rw [g1]
    have hnlt : ¬ 9 < (-9) + nI k := fun z => by
      have := Int32.lt_iff_toInt_lt.mp z
      omega
    rcases h2 with ⟨g1, g2⟩ | ⟨g1, g2⟩
    · subst g1
      have V2 := V.sw ho (show 4 = 4 ∨ 4 = 5 by decide) h1 ((-9) + nI k)
      have O2 : pOk n c (mSj P (4 + 1) one ((-9) + nI k)) := O.sw (Or.inl ⟨rfl, by unfold pBd; omega⟩)
      have hn : xn t0 = n := V2.2.1
      have k25 : xI (xSe t0 one 4 ((-9) + nI k)) 25 = nI tm := (h1.1 25 (by decide)).trans h25
      have k24 : xJ (xSe t0 one 4 ((-9) + nI k)) 24 = xJ σ0 24 := h1.2.1 24 (by decide) (by decide) (by decide)
      obtain ⟨t1, e1, f1⟩ := X_wrongAt V2 O2 hN htm (tl := tl) k25 (fun q hq => by rw [k24]; exact h24 q hq)
      have hs := fvS_step (p := setB n c tm 4 one P tl (-9)) (lo := (-9)) (d := (-99)) (show k < 19 by omega)
      rw [← g2] at hs
      by_cases hz : fstS (wrB (mSj P (4 + 1) one ((-9) + nI k)) n tl) (min c tm) 0 = -2
      · rw [if_pos (show setB n c tm 4 one P tl (-9) k = true from setB_t hz)] at hs
        refine Or.inl ⟨by omega, (t1, (-9) + nI k), ⟨h1.sw f1, Or.inr ⟨hs.symm, ?_⟩⟩, fun m => ?_⟩
        · exact fun z => by
            have h9 := congrArg Int32.toInt z
            have e9 : (-99 : Int32).toInt = -99 := by decide
            simp only at h9
            omega
        · simp only [fX_quicker_b49, nmvE]
          rw [if_neg hnlt]
          simp only [if_true]
          rw [pl_ck rfl (show one < 8 by omega) (by decide), nI_clamp (by omega), pl_cl (by rw [hn]; exact ho), pl_cl (by rw [hn]; exact ho), e1]
          simp only [obi]
          rw [if_pos hz]
          simp only [fX_quicker_b87, nmvE]
          rw [Int32.add_assoc, nI_1]
      · rw [if_neg (show ¬ setB n c tm 4 one P tl (-9) k = true from setB_f hz)] at hs
        refine Or.inl ⟨by omega, (t1, (-99)), ⟨h1.sw f1, Or.inl ⟨rfl, hs⟩⟩, fun m => ?_⟩
        simp only [fX_quicker_b49, nmvE]
        rw [if_neg hnlt]
        simp only [if_true]
        rw [pl_ck rfl (show one < 8 by omega) (by decide), nI_clamp (by omega), pl_cl (by rw [hn]; exact ho), pl_cl (by rw [hn]; exact ho), e1]
        simp only [obi]
        rw [if_neg hz]
        simp only [fX_quicker_b87, nmvE]
        rw [Int32.add_assoc, nI_1]
    · refine Or.inr ⟨xSe t0 one 4 (xE σ0 one 4), h1, fun m => ?_⟩
      simp only [fX_quicker_b49]
      rw [if_neg hnlt, if_neg g2, fin t0 v h1, g1]) N 0 (σ0, (-99)) (by omega) (Nat.zero_le _) ⟨by simp only [xSe_self]; exact qFr.rf, Or.inl ⟨rfl, rfl⟩⟩
  refine ⟨u, ?_, hu⟩
  have e2 : fX_quicker_b49 N N σ0 (nI one) (xE σ0 one 4) (-99) ((-9) + nI 0) = _ := e
  rw [nI_0, Int32.add_zero] at e2
  exact e2
theorem M_quicker {n c : Nat} {P : mS} (O : pOk n c P) {N : Nat} (hN : 400 < N) (hs0 : P.1 48 = -2) {tm s : Nat} (htm : tm ≤ 60) (hs : s < 60) (hj : s % 10 < 6) {tl : Nat → Int32} (h42 : P.2.1 42 (s % 10) = nI tm) (h43 : ∀ k, k < tm → P.2.2 (60 * (s % 10) + k) = (tl k).toInt64) {one : Nat} (ho : one < n) : ∃ μ', fM_quicker_b54 N N P (nI s) (nI one) (P.2.1 5 one) (-99) 9 = some (μ', fvS (setB n c tm 4 one P tl (-9)) (-9) (-99) 19 0) ∧ mFr P μ' := by
  have o1 := O.1
  have hlo : ((-9) : Int32).toInt = -(9 : Nat) := by decide
  have hneg : (-1 : Int32).toInt = -1 := by decide
  have hval : ∀ k, k < 19 → ((-9) + nI (19 - k) + -1 : Int32) = (-9) + nI (19 - (k + 1)) := fun k hk => by
    rw [show 19 - k = (19 - (k + 1)) + 1 from by omega, Int32.add_assoc, ← Int32.sub_eq_add_neg, nI_pred]
  obtain ⟨m, t, ⟨⟨v, h1⟩, h2⟩, e⟩ := pl_for (fun m k (t : mS × Int32) => fM_quicker_b54 N m t.1 (nI s) (nI one) (P.2.1 5 one) t.2 ((-9) + nI (19 - k) + -1)) 19 (fun k t => (∃ v, mFr (mSj P 5 one v) t.1) ∧ t.2 = fvS (setB n c tm 4 one P tl (-9)) (-9) (-99) k (19 - k)) (by
    intro k t hk ⟨⟨v, h1⟩, h2⟩
    obtain ⟨t0, w⟩ := t
    simp only at h1 h2 ⊢
    have hx := lo_int hlo (by decide) (show 19 - (k + 1) ≤ 200 by omega)
    have h1' := h1.cell (by decide) ((-9) + nI (19 - (k + 1)))
    have O2 : pOk n c (mSj P 5 one ((-9) + nI (19 - (k + 1)))) := O.sw (Or.inl ⟨rfl, by unfold pBd; omega⟩)
    obtain ⟨t1, e1, f1⟩ := M_wrong O2 hN (Or.inl hs0) h1' htm hs rfl hj (tl := tl) (by rw [mSj_n _ (by decide)]; exact h42) h43
    refine ⟨(t1, fvS (setB n c tm 4 one P tl (-9)) (-9) (-99) (k + 1) (19 - (k + 1))), ⟨⟨_, f1⟩, rfl⟩, fun m => ?_⟩
    rw [hval k hk]
    simp only [fM_quicker_b54, nmvE]
    rw [if_neg (fun z => by
      have := Int32.lt_iff_toInt_lt.mp z
      have h00 : ((-9) : Int32).toInt = -(9 : Nat) := hlo
      omega), pl_ck rfl (show one < 8 by omega) (by decide), nI_clamp (by omega), e1]
    simp only [obi, h2]
    have hstep : fvS (setB n c tm 4 one P tl (-9)) (-9) (-99) (k + 1) (19 - (k + 1)) = if setB n c tm 4 one P tl (-9) (19 - (k + 1)) = true then (-9) + nI (19 - (k + 1)) else fvS (setB n c tm 4 one P tl (-9)) (-9) (-99) k (19 - k) := by
      show (if _ then _ else fvS _ _ _ k (19 - (k + 1) + 1)) = _
      rw [show 19 - (k + 1) + 1 = 19 - k from by omega]
    rw [hstep]
    by_cases hz : fstS (wrB (mSj P 5 one ((-9) + nI (19 - (k + 1)))) n tl) (min c tm) 0 = -2
    · rw [if_pos hz, if_pos (show setB n c tm 4 one P tl (-9) (19 - (k + 1)) = true from setB_t hz)]
      simp only [fM_quicker_b83, nmvE]
    · rw [if_neg hz, if_neg (show ¬ setB n c tm 4 one P tl (-9) (19 - (k + 1)) = true from setB_f hz)]
      simp only [fM_quicker_b83, nmvE]) N 0 (P, (-99)) (by omega) (Nat.zero_le _) ⟨⟨P.2.1 5 one, by simp only [mSj_self]; exact mFr.rf⟩, rfl⟩
  obtain ⟨t0, w⟩ := t
  simp only at h1 h2
  refine ⟨mSj t0 5 one (P.2.1 5 one), ?_, h1.back (by decide)⟩
  have e0 : (9 : Int32) = (-9) + nI (19 - 0) + -1 := by decide
  have e2 : fM_quicker_b54 N N P (nI s) (nI one) (P.2.1 5 one) (-99) 9 = fM_quicker_b54 N (m + 1) t0 (nI s) (nI one) (P.2.1 5 one) w ((-9) + nI (19 - 19) + -1) := (congrArg (fM_quicker_b54 N N P (nI s) (nI one) (P.2.1 5 one) (-99)) e0).trans e
  rw [e2]
  simp only [fM_quicker_b54, nmvE]
  rw [if_pos (by decide), pl_ck rfl (show one < 8 by omega) (by decide), nI_clamp (by omega), h2]
theorem op_quicker {x : xS} {m : mS} (R : pRel x m) {N : Nat} (hN : 400 < N) (a0 a1 : Int32) : Sim (fX_quicker N x a0 a1) (fM_quicker N m a0 a1) := by
  have hmany : xI x 1 = m.1 0 := by obtain ⟨n, b, ⟨_, h1, _, h2, _⟩, _⟩ := R; rw [h1, h2]
  simp only [fX_quicker, fM_quicker, pl_xsr, pl_msr, pl_xone, pl_mone, hmany, obi, pl_if0, pl_cz10]
  by_cases h0 : ¬ a0 < 0 ∧ (0 ≤ a0 / 10 ∧ a0 / 10 ≤ 5) ∧ (0 ≤ a0 - a0 / 10 * 10 ∧ a0 - a0 / 10 * 10 ≤ 5)
  · rw [if_pos h0, if_pos h0]
    by_cases h1 : 0 ≤ a1 ∧ a1 ≤ m.1 0 - 1
    · rw [if_pos h1, if_pos h1]
      obtain ⟨s, hs, rfl, hi, hj, ed, em⟩ := pl_sr h0
      obtain ⟨x1, r, e1, q1, e2, hr⟩ := layB R hN hs hi hj
      rw [e1, e2, ed]
      simp only
      rcases hr with rfl | rfl | ⟨rfl, n, c, m1, tm, tl, e3, q2, V, O, s48, R1, fi, t1, t2, t3, t4, t5⟩
      · rw [if_neg (by decide), if_neg (by decide)]
        exact ⟨x1, m, -11, rfl, rfl, R.qu q1 mQu.rf⟩
      · rw [if_neg (by decide), if_neg (by decide)]
        exact ⟨x1, m, -12, rfl, rfl, R.qu q1 mQu.rf⟩
      · rw [if_pos z00, if_pos z00, e3]
        have hm0 : m.1 0 = nI n := (fi 0 (by decide)).symm.trans O.2.2.1
        have o1 := O.1
        rw [hm0] at h1
        obtain ⟨one, ho, rfl⟩ := pl_one (n := n) (by omega) h1
        obtain ⟨x2, e5, f5⟩ := X_quicker V O hN t1 t2 t3 ho
        obtain ⟨m2, e6, f6⟩ := M_quicker O hN s48 t1 hs hj t4 t5 ho
        simp only [nmvE]
        rw [pl_ck rfl (show one < 8 by omega) (by decide), nI_clamp (by omega), pl_cl (by rw [V.2.1]; exact ho), pl_cl (by rw [V.2.1]; exact ho), pl_ck rfl (show one < 8 by omega) (by decide), e5, e6]
        exact ⟨x2, m2, _, rfl, rfl, R1.qu f5.qu f6.qu⟩
    · rw [if_neg h1, if_neg h1]
      exact ⟨x, m, _, rfl, rfl, R⟩
  · rw [if_neg h0, if_neg h0]
    exact ⟨x, m, _, rfl, rfl, R⟩
