/-! Bodies, shelves, what a swimmer is -/
theorem op_body {x : xS} {m : mS} (R : pRel x m) (N : Nat) (a0 : Int32) : Sim (fX_body N x a0) (fM_body N m a0) := by
  have R' := R
  obtain ⟨n, b, r1, r2, r3, r4, r5, r6, ⟨g1, g2, g3, g4, g5⟩, r8, r9⟩ := R
  simp only [fX_body, fM_body, nmvE, pl_wi, pl_in, obi, pl_if0, g2, g3]
  by_cases h0 : 0 ≤ a0 ∧ a0 ≤ 7
  · rw [if_pos h0, if_pos h0]
    by_cases h1 : b = 50
    · rw [if_pos (show nI b = (50 : Int32) from by rw [h1]; rfl), if_pos (show nI b = (50 : Int32) from by rw [h1]; rfl)]
      exact ⟨x, m, _, rfl, rfl, R'⟩
    · have hne : ¬ nI b = (50 : Int32) := fun z => h1 ((nI_eq (b := 50) (by omega) (by decide)).mp z)
      rw [if_neg hne, if_neg hne]
      obtain ⟨kd, hkd, rfl⟩ := pl_rng (b := 7) (by decide) h0
      have hmade : fX_made N x (nI kd) = some (x, kd) := by
        unfold fX_made
        have hce : ∀ {α : Type} (o : Option α), ceI (nI b) (nI (xk x)) o = o := fun o => by unfold ceI; rw [g4]; exact if_pos rfl
        simp only [nmvE, g2, hce]
        match kd, hkd with
        | 0, _ => rfl
        | 1, _ => rfl
        | 2, _ => rfl
        | 3, _ => rfl
        | 4, _ => rfl
        | 5, _ => rfl
        | 6, _ => rfl
        | 7, _ => rfl
      rw [hmade]
      have hceq : ∀ {α : Type} (o : Option α), ceq b (xk x) o = o := fun o => by unfold ceq; rw [g4]; exact if_pos rfl
      simp only
      rw [pl_ck rfl (show b < 50 by omega) (by decide), nI_clamp (by omega), hceq, pl_ck rfl (show b < 50 by omega) (by decide)]
      have hi : xI (xSb x kd) 42 = nI b := g2
      have gm37 : (mSj m 38 b (nI kd)).1 37 = nI b := g3
      have gj : ∀ k, k ≠ 38 → (mSj m 38 b (nI kd)).2.1 k = m.2.1 k := fun k hk => mSj_n _ hk _ _
      have gm : ∀ k, k ≠ 37 → (mSi (mSj m 38 b (nI kd)) 37 (nI (b + 1))).1 k = m.1 k := fun k hk => mSi_n _ hk _
      rw [hi, nI_1]
      refine ⟨xSi (xSb x kd) 42 (nI (b + 1)), mSi (mSj m 38 b (nI kd)) 37 (nI (b + 1)), nI b, ?_, ?_, ⟨n, b + 1, ?_, ?_, ?_, ?_, ?_, ?_, ?_, ?_, ?_⟩⟩
      · rw [xSi_s, nI_pred]
      · first
          | exact congrArg some (Prod.ext (by rw [g3, nI_1]) g3)
          | rfl
      · exact r1.to (fun k h1 h2 => xSi_n _ (by omega) _) rfl rfl (gm 0 (by decide)) (fun k h1 h2 => gj k (by omega))
      · exact r2.to (xSi_n _ (by decide) _) (xSi_n _ (by decide) _) rfl rfl (gm 34 (by decide)) (gm 35 (by decide)) (gj 36 (by decide))
      · exact r3.to (xSi_n _ (by decide) _) rfl (gm 10 (by decide)) (gj 11 (by decide))
      · exact pLaw.to (m := m) (gm 12 (by decide)) (gm 13 (by decide)) (fun k h1 h2 => gj k (by omega)) r4
      · exact r5.to (fun k h1 h2 => xSi_n _ (by omega) _) rfl (gm 29 (by decide)) (gm 30 (by decide)) (fun k h1 h2 => gj k (by omega))
      · exact r6.to (xSi_n _ (by decide) _) rfl (gm 39 (by decide)) (gj 40 (by decide))
      · refine ⟨by omega, xSi_s _ _ _, mSi_s _ _ _, by show xk x + 1 = b + 1; rw [g4], fun i hi => ?_⟩
        show va_up (xB x) (xk x) kd i < 8 ∧ (mSj m 38 b (nI kd)).2.1 38 i = nI (va_up (xB x) (xk x) kd i)
        rw [mSj_s, g4]
        by_cases hib : i = b
        · subst hib
          rw [va_up_s, upd_s]
          exact ⟨by omega, rfl⟩
        · rw [va_up_n hib, upd_n _ hib]
          exact g5 i (by omega)
      · intro j hj
        show pShf (b + 1) (xH x j) (mSi (mSj m 38 b (nI kd)) 37 (nI (b + 1))) j
        have e1 := gj 41 (by decide)
        have e2 := gj 42 (by decide)
        unfold pShf
        rw [show (mSi (mSj m 38 b (nI kd)) 37 (nI (b + 1))).2.1 41 = m.2.1 41 from e1, show (mSi (mSj m 38 b (nI kd)) 37 (nI (b + 1))).2.1 42 = m.2.1 42 from e2]
        rcases r8 j hj with h | h | ⟨q, h, h'⟩
        · exact Or.inl h
        · exact Or.inr (Or.inl h)
        · exact Or.inr (Or.inr ⟨q, by omega, h'⟩)
      · exact ⟨(xSi_n _ (by decide) _).trans r9.1, (gm 48 (by decide)).trans r9.2⟩
  · rw [if_neg h0, if_neg h0]
    exact ⟨x, m, _, rfl, rfl, R'⟩
theorem pl_isBody (N : Nat) (σ : xS) (v : Int32) : fX_isBody N σ v = some (σ, if 0 ≤ v ∧ v ≤ xI σ 42 - 1 then 1 else 0) := by
  simp only [fX_isBody, nmvE, pl_in, obi, pl_bi]
/-- something else on one shelf -/
theorem pRel.shelf {x : xS} {m m' : mS} {n b j : Nat} {h : Nat × Nat × (Nat → Int64)} (r1 : pR1 n x m) (r2 : pR2 n x m) (r3 : pR3 x m) (r4 : pLaw m (xY x)) (r5 : pR5 n x m) (r6 : pR6 x m) (r7 : pR7 b x m) (r8 : pR8 b x m) (r9 : xI x 17 = -2 ∧ m.1 48 = -2) (hj : j < 6) (hh : pShf b h m' j)
    (m1 : m'.1 = m.1) (mj : ∀ k, k ≠ 41 → k ≠ 42 → m'.2.1 k = m.2.1 k) (m41 : ∀ i, i ≠ j → m'.2.1 41 i = m.2.1 41 i) (m42 : ∀ i, i ≠ j → m'.2.1 42 i = m.2.1 42 i) (m22 : ∀ i, i < 6 → i ≠ j → ∀ q, q < 60 → m'.2.2 (60 * i + q) = m.2.2 (60 * i + q)) : pRel (xSh x j h) m' := by
  refine ⟨n, b, ?_, ?_, ?_, ?_, ?_, ?_, ?_, ?_, ?_⟩
  · exact r1.to (fun _ _ _ => rfl) rfl rfl (by rw [m1]) (fun k h1 h2 => mj k (by omega) (by omega))
  · exact r2.to rfl rfl rfl rfl (by rw [m1]) (by rw [m1]) (mj 36 (by decide) (by decide))
  · exact r3.to rfl rfl (by rw [m1]) (mj 11 (by decide) (by decide))
  · exact pLaw.to (m := m) (by rw [m1]) (by rw [m1]) (fun k h1 h2 => mj k (by omega) (by omega)) r4
  · exact r5.to (fun _ _ _ => rfl) rfl (by rw [m1]) (by rw [m1]) (fun k h1 h2 => mj k (by omega) (by omega))
  · exact r6.to rfl rfl (by rw [m1]) (mj 40 (by decide) (by decide))
  · exact r7.to rfl rfl rfl (by rw [m1]) (mj 38 (by decide) (by decide))
  · intro i hi
    show pShf b (va_up (xH x) j h i) m' i
    by_cases hij : i = j
    · subst hij
      rw [va_up_s]
      exact hh
    · rw [va_up_n hij]
      unfold pShf
      rw [m41 i hij, m42 i hij]
      rcases r8 i hi with h | ⟨h1, h2, h3, h4, h5, h6⟩ | h
      · exact Or.inl h
      · exact Or.inr (Or.inl ⟨h1, h2, h3, h4, h5, fun q hq => by rw [m22 i hi hij q (by omega)]; exact h6 q hq⟩)
      · exact Or.inr (Or.inr h)
  · exact ⟨r9.1, by rw [m1]; exact r9.2⟩
theorem op_keep {x : xS} {m : mS} (R : pRel x m) (N : Nat) (a0 a1 : Int32) : Sim (fX_keep N x a0 a1) (fM_keep N m a0 a1) := by
  have R' := R
  obtain ⟨n, b, r1, r2, r3, r4, r5, r6, r7, r8, r9⟩ := R
  obtain ⟨g1, g2, g3, g4, g5⟩ := r7
  have r7 : pR7 b x m := ⟨g1, g2, g3, g4, g5⟩
  simp only [fX_keep, fM_keep, nmvE, pl_xsh, pl_msh, pl_isBody, pl_wi, obi, pl_if0, g2, g3]
  by_cases h0 : 0 ≤ a0 ∧ a0 ≤ 5
  · rw [if_pos h0, if_pos h0]
    obtain ⟨j, hj, rfl⟩ := pl_rng (b := 5) (by decide) h0
    have em1 : (-1 : Int32).toInt = -1 := by decide
    have e0 : (0 : Int32).toInt = 0 := by decide
    by_cases hm1 : a1 = -1
    · rw [if_pos hm1, if_pos (show -1 ≤ a1 ∧ a1 ≤ nI b - 1 from by
        rw [hm1]
        refine ⟨Int32.le_refl _, Int32.le_iff_toInt_le.mpr ?_⟩
        cases b with
        | zero => decide
        | succ b => rw [nI_pred, nI_toInt (by omega)]; omega), if_neg (show ¬ 0 ≤ a1 from by rw [hm1]; decide)]
      simp only [fX_keep_b22, fM_keep_b40, nmvE]
      rw [if_neg (show ¬ 0 ≤ a1 from by rw [hm1]; decide), pl_ck rfl (show j < 6 by omega) (by decide), pl_ck rfl (show j < 6 by omega) (by decide), pl_ck rfl (show j < 6 by omega) (by decide), nI_clamp (by omega)]
      refine ⟨_, _, 1, rfl, rfl, pRel.shelf r1 r2 r3 r4 r5 r6 r7 r8 r9 (show j < 6 by omega) (Or.inl ⟨rfl, ?_⟩) rfl (fun k h1 h2 => ?_) (fun i hi => ?_) (fun i hi => ?_) (fun _ _ _ _ _ => rfl)⟩
      · rw [mSj_n _ (by decide), mSj_s, upd_s]
      · rw [mSj_n _ h2, mSj_n _ h1]
      · rw [mSj_n _ (by decide), mSj_s, upd_n _ hi]
      · rw [mSj_s, upd_n _ hi, mSj_n _ (by decide)]
    · rw [if_neg hm1]
      by_cases hc : 0 ≤ a1 ∧ a1 ≤ nI b - 1
      · rw [if_pos hc, if_pos (show -1 ≤ a1 ∧ a1 ≤ nI b - 1 from ⟨Int32.le_iff_toInt_le.mpr (by have := Int32.le_iff_toInt_le.mp hc.1; omega), hc.2⟩), if_pos hc.1]
        obtain ⟨u, hu, rfl⟩ := pl_one (n := b) (by omega) hc
        simp only [fX_keep_b22, fM_keep_b40, nmvE]
        rw [if_pos hc.1]
        simp only [nI_clamp (show u < 2 ^ 31 by omega), nI_clamp (show j < 2 ^ 31 by omega)]
        rw [pl_ck rfl (show u < 50 by omega) (by decide), pl_cl (by rw [g4]; exact hu), pl_cl (by rw [g4]; exact hu), pl_ck rfl (show j < 6 by omega) (by decide), pl_ck rfl (show j < 6 by omega) (by decide), pl_ck rfl (show j < 6 by omega) (by decide)]
        refine ⟨_, _, 1, rfl, rfl, pRel.shelf r1 r2 r3 r4 r5 r6 r7 r8 r9 (show j < 6 by omega) (Or.inr (Or.inr ⟨u, hu, rfl, ?_⟩)) rfl (fun k h1 h2 => ?_) (fun i hi => ?_) (fun i hi => ?_) (fun _ _ _ _ _ => rfl)⟩
        · rw [mSj_n _ (by decide), mSj_s, upd_s, show (10 : Int32) = nI 10 from rfl, nI_add]
        · rw [mSj_n _ h2, mSj_n _ h1]
        · rw [mSj_n _ (by decide), mSj_s, upd_n _ hi]
        · rw [mSj_s, upd_n _ hi, mSj_n _ (by decide)]
      · rw [if_neg hc, if_neg (fun z => hc ⟨Int32.le_iff_toInt_le.mpr (by
          have := Int32.le_iff_toInt_le.mp z.1
          have hne : a1.toInt ≠ -1 := fun q => hm1 (Int32.toInt_inj.mp (by rw [q, em1]))
          omega), z.2⟩)]
        exact ⟨x, m, _, rfl, rfl, R'⟩
  · rw [if_neg h0, if_neg h0]
    exact ⟨x, m, _, rfl, rfl, R'⟩
/-- of what a number and a kind of value speak -/
def isOfP (m : mS) (a w : Int32) : Prop := ((0 ≤ w ∧ w ≤ 5) ∧ (0 ≤ a ∧ a ≤ m.1 0 - 1)) ∨ (¬ (0 ≤ w ∧ w ≤ 5) ∧ (6 ≤ w ∧ w ≤ 8) ∧ a = 0)
theorem X_isOf (N : Nat) {x : xS} {m : mS} (hm : xI x 1 = m.1 0) (a w : Int32) : (isOfP m a w → fX_isOf N x a w = some (x, 1)) ∧ (¬ isOfP m a w → fX_isOf N x a w = some (x, 0)) := by
  simp only [fX_isOf, pl_in, pl_xone, obi, pl_if0, hm, pl_bi]
  unfold isOfP
  by_cases h1 : 0 ≤ w ∧ w ≤ 5
  · rw [if_pos h1]
    by_cases h2 : 0 ≤ a ∧ a ≤ m.1 0 - 1
    · rw [if_pos h2]; exact ⟨fun _ => rfl, fun z => absurd (Or.inl ⟨h1, h2⟩) z⟩
    · rw [if_neg h2]; exact ⟨fun z => z.elim (fun q => absurd q.2 h2) (fun q => absurd h1 q.1), fun _ => rfl⟩
  · rw [if_neg h1]
    by_cases h2 : 6 ≤ w ∧ w ≤ 8
    · rw [if_pos h2]
      by_cases h3 : a = 0
      · rw [if_pos h3, pl_b1]; exact ⟨fun _ => rfl, fun z => absurd (Or.inr ⟨h1, h2, h3⟩) z⟩
      · rw [if_neg h3, pl_b0]; exact ⟨fun z => z.elim (fun q => absurd q.1 h1) (fun q => absurd q.2.2 h3), fun _ => rfl⟩
    · rw [if_neg h2, pl_b0]; exact ⟨fun z => z.elim (fun q => absurd q.1 h1) (fun q => absurd q.2.1 h2), fun _ => rfl⟩
theorem M_isOf (N : Nat) {m : mS} (a w : Int32) : (isOfP m a w → fM_isOf N m a w = some (m, 1)) ∧ (¬ isOfP m a w → fM_isOf N m a w = some (m, 0)) := by
  simp only [fM_isOf, pl_wi, pl_mone, obi, pl_if0, pl_bi]
  unfold isOfP
  by_cases h1 : 0 ≤ w ∧ w ≤ 5
  · rw [if_pos h1]
    by_cases h2 : 0 ≤ a ∧ a ≤ m.1 0 - 1
    · rw [if_pos h2]; exact ⟨fun _ => rfl, fun z => absurd (Or.inl ⟨h1, h2⟩) z⟩
    · rw [if_neg h2]; exact ⟨fun z => z.elim (fun q => absurd q.2 h2) (fun q => absurd h1 q.1), fun _ => rfl⟩
  · rw [if_neg h1]
    by_cases h2 : 6 ≤ w ∧ w ≤ 8
    · rw [if_pos h2]
      by_cases h3 : a = 0
      · rw [if_pos h3, pl_b1]; exact ⟨fun _ => rfl, fun z => absurd (Or.inr ⟨h1, h2, h3⟩) z⟩
      · rw [if_neg h3, pl_b0]; exact ⟨fun z => z.elim (fun q => absurd q.1 h1) (fun q => absurd q.2.2 h3), fun _ => rfl⟩
    · rw [if_neg h2, pl_b0]; exact ⟨fun z => z.elim (fun q => absurd q.1 h1) (fun q => absurd q.2.1 h2), fun _ => rfl⟩
/-- its kind as a number, its place -/
theorem isOf_nat {m : mS} {n : Nat} (hn : n ≤ 8) (h0 : m.1 0 = nI n) {a w : Int32} (h : isOfP m a w) : ∃ k s : Nat, k ≤ 8 ∧ w = nI k ∧ a = nI s ∧ (k < 6 → s < n) ∧ (6 ≤ k → s = 0) := by
  rcases h with ⟨h1, h2⟩ | ⟨h1, h2, h3⟩
  · obtain ⟨k, hk, e⟩ := pl_rng (b := 5) (by decide) h1
    rw [h0] at h2
    obtain ⟨s, hs, e2⟩ := pl_one (n := n) (by omega) h2
    exact ⟨k, s, by omega, e, e2, fun _ => hs, fun _ => by omega⟩
  · obtain ⟨k, hk, hk2, e⟩ := okW_ps (a := 6) (b := 8) (by decide) (by decide) h2
    exact ⟨k, 0, hk2, e, h3, fun _ => by omega, fun _ => rfl⟩
def valM (m : mS) (k s : Nat) : Int32 := if k < 6 then m.2.1 (k + 1) s else m.2.1 7 (k - 6)
theorem nk_ne {k j : Nat} (hk : k ≤ 8) (hj : j ≤ 10) (h : k ≠ j) : ¬ nI k = nI j := fun z => h ((nI_eq (by omega) (by omega)).mp z)
theorem M_get (N : Nat) {m : mS} {k s : Nat} (hk : k ≤ 8) (hs : s < 8) : fM_get N m (nI s) (nI k) = some (m, valM m k s) := by
  unfold fM_get valM
  simp only [nmvE, nI_clamp (show s < 2 ^ 31 by omega), pl_ck (rfl : nI s = nI s) hs (show 8 < 2 ^ 31 by decide)]
  match k, hk with
  | 0, _ => rfl
  | 1, _ => rfl
  | 2, _ => rfl
  | 3, _ => rfl
  | 4, _ => rfl
  | 5, _ => rfl
  | 6, _ => rfl
  | 7, _ => rfl
  | 8, _ => rfl
theorem X_valueOf (N : Nat) {x : xS} {m : mS} {n : Nat} (r1 : pR1 n x m) {k s : Nat} (hk : k ≤ 8) (hs : k < 6 → s < n) : fX_valueOf N x (nI s) (nI k) = some (x, valM m k s) := by
  have hE := r1.2.2.2.2.1
  have h7 := r1.2.2.2.2.2.2.1
  have hn := r1.2.2.1
  have o1 := r1.1
  have hlt : ∀ (o : Option (xS × Int32)), k < 6 → chk (nI s) 8 (chl (nI s).toNatClampNeg (xn x) (chl (nI s).toNatClampNeg (xn x) o)) = o := fun o h => by
    have := hs h
    rw [pl_ck rfl (show s < 8 by omega) (by decide), nI_clamp (by omega), pl_cl (by rw [hn]; exact this), pl_cl (by rw [hn]; exact this)]
  unfold fX_valueOf valM
  simp only [nmvE]
  match k, hk, hs, hlt with
  | 0, _, hs, hlt => exact (hlt _ (by decide)).trans (by rw [nI_clamp (by have := hs (by decide); omega), hE s (hs (by decide)) 0 (by decide)]; rfl)
  | 1, _, hs, hlt => exact (hlt _ (by decide)).trans (by rw [nI_clamp (by have := hs (by decide); omega), hE s (hs (by decide)) 1 (by decide)]; rfl)
  | 2, _, hs, hlt => exact (hlt _ (by decide)).trans (by rw [nI_clamp (by have := hs (by decide); omega), hE s (hs (by decide)) 2 (by decide)]; rfl)
  | 3, _, hs, hlt => exact (hlt _ (by decide)).trans (by rw [nI_clamp (by have := hs (by decide); omega), hE s (hs (by decide)) 3 (by decide)]; rfl)
  | 4, _, hs, hlt => exact (hlt _ (by decide)).trans (by rw [nI_clamp (by have := hs (by decide); omega), hE s (hs (by decide)) 4 (by decide)]; rfl)
  | 5, _, hs, hlt => exact (hlt _ (by decide)).trans (by rw [nI_clamp (by have := hs (by decide); omega), hE s (hs (by decide)) 5 (by decide)]; rfl)
  | 6, _, _, _ => exact congrArg some (Prod.ext rfl h7.1)
  | 7, _, _, _ => exact congrArg some (Prod.ext rfl h7.2.1)
  | 8, _, _, _ => exact congrArg some (Prod.ext rfl h7.2.2)
theorem op_of {x : xS} {m : mS} (R : pRel x m) (N : Nat) (a0 a1 : Int32) : Sim (fX_of N x a0 a1) (fM_of N m a0 a1) := by
  have R' := R
  obtain ⟨n, b, r1, r2, r3, r4, r5, r6, r7, r8, r9⟩ := R
  have hmany : xI x 1 = m.1 0 := by rw [r1.2.1, r1.2.2.2.1]
  have hm0 := r1.2.2.2.1
  have o1 := r1.1
  simp only [fX_of, fM_of, nmvE, pl_wi, pl_in, pl_xone, pl_mone, obi, pl_if0, hmany]
  by_cases h0 : 9 ≤ a1 ∧ a1 ≤ 10
  · rw [if_pos h0, if_pos h0]
    by_cases h1 : 0 ≤ a0 ∧ a0 ≤ m.1 0 - 1
    · rw [if_pos h1, if_pos h1]
      rw [hm0] at h1
      obtain ⟨s, hs, rfl⟩ := pl_one (n := n) (by omega) h1
      have hg := r1.2.2.2.2.2.1 s hs
      have hxn : s < xn x := by rw [r1.2.2.1]; exact hs
      simp only [nI_clamp (show s < 2 ^ 31 by omega), pl_ck (rfl : nI s = nI s) (show s < 8 by omega) (show 8 < 2 ^ 31 by decide), pl_cl hxn]
      by_cases h2 : a1 = 9
      · rw [if_pos h2, if_pos h2]
        exact ⟨x, m, m.2.1 8 s, by rw [hg.1], rfl, R'⟩
      · rw [if_neg h2, if_neg h2]
        exact ⟨x, m, m.2.1 9 s, by rw [hg.2], rfl, R'⟩
    · rw [if_neg h1, if_neg h1]
      exact ⟨x, m, _, rfl, rfl, R'⟩
  · rw [if_neg h0, if_neg h0]
    by_cases h1 : isOfP m a0 a1
    · rw [(X_isOf N hmany a0 a1).1 h1, (M_isOf N a0 a1).1 h1]
      simp only [show ¬ (1 : Int32) = 0 from by decide, if_false]
      obtain ⟨k, s, hk, rfl, rfl, hs1, hs2⟩ := isOf_nat o1 hm0 h1
      have hs8 : s < 8 := by
        by_cases h : k < 6
        · have := hs1 h; omega
        · have := hs2 (by omega); omega
      rw [X_valueOf N r1 hk hs1, M_get N hk hs8]
      exact ⟨x, m, _, rfl, rfl, R'⟩
    · rw [(X_isOf N hmany a0 a1).2 h1, (M_isOf N a0 a1).2 h1]
      simp only [if_true]
      exact ⟨x, m, _, rfl, rfl, R'⟩
