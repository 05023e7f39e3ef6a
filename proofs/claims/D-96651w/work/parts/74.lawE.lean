/-! What two lose -/
def cutS (x : Int32) : Int32 := if 0 < (if x < 99 then x else 99) then (if x < 99 then x else 99) else 0
def nmS (P : mS) (a b : Nat) (o what k : Int32) : Int32 → Int32 := fun c => if c = 0 then o else if c = 1 then what else if c = 2 then abS (P.2.1 1 a - P.2.1 1 b) + abS (P.2.1 2 a - P.2.1 2 b) else if c = 3 then abS (P.2.1 3 a - P.2.1 3 b) else if c = 4 then k else P.2.1 7 1
def lossS (P : mS) (Y : Option (List (List Int32 × List Int32))) (a b : Nat) (o what k : Int32) : Int32 := cutS (match Y with
  | none => o / P.2.1 7 1 * (if what = 2 then 2 else 1)
  | some ls => givesV (nmS P a b o what k) ls)
def x44 (σ σ' : xS) : Prop := σ'.1 = σ.1 ∧ (∀ k, k ≠ 44 → xJ σ' k = xJ σ k) ∧ σ'.2.2 = σ.2.2
theorem x44.rf {σ : xS} : x44 σ σ := ⟨rfl, fun _ _ => rfl, rfl⟩
theorem x44.tr {a b c : xS} (h : x44 a b) (h2 : x44 b c) : x44 a c := ⟨h2.1.trans h.1, fun k q => (h2.2.1 k q).trans (h.2.1 k q), h2.2.2.trans h.2.2⟩
theorem x44.sj {a b : xS} (h : x44 a b) (i : Nat) (v : Int32) : x44 a (xSj b 44 i v) := h.tr ⟨rfl, fun j q => va_up_n q, rfl⟩
theorem x44.fr {a b : xS} (h : x44 a b) : qFr a b := ⟨fun k _ => by show b.1 k = a.1 k; rw [h.1], fun k _ _ q => h.2.1 k q, h.2.2⟩
theorem X_clear {N : Nat} (hN : 400 < N) (σ : xS) : ∃ σ', fX_Facts_clear N σ = some (σ', ()) ∧ x44 σ σ' := by
  obtain ⟨m, σ', h1, e⟩ := pl_for (fun m j t => fX_Facts_clear_b2 N m t (nI j)) 128 (fun _ t => x44 σ t) (by
    intro j t hj h1
    refine ⟨xSj t 44 j 0, h1.sj _ _, fun m => ?_⟩
    simp only [fX_Facts_clear_b2, nmvE]
    rw [if_neg (show ¬ (128 : Int32) ≤ nI j from nI_ge hj (by decide)), pl_ck rfl hj (by decide), nI_clamp (by omega), nI_1]) N 0 σ (by omega) (Nat.zero_le _) x44.rf
  refine ⟨σ', ?_, h1⟩
  have e2 : fX_Facts_clear N σ = fX_Facts_clear_b2 N (m + 1) σ' (nI 128) := e
  rw [e2]
  simp only [fX_Facts_clear_b2]
  exact if_pos (show (128 : Int32) ≤ nI 128 from Int32.le_refl _)
theorem X_far (N : Nat) {σ : xS} {a b : Nat} (ha : a < xn σ) (hb : b < xn σ) : fX_Swimmer_farFrom N σ a b = some (σ, abS (xE σ a 0 - xE σ b 0) + abS (xE σ a 1 - xE σ b 1)) := by
  simp only [fX_Swimmer_farFrom, nmvE, pl_cl ha, pl_cl hb]
  rfl
theorem X_cut (N : Nat) (σ : xS) (x : Int32) : fX_losesBy_b126 N σ x = some (σ, cutS x) := by
  simp only [fX_losesBy_b126, nmvE]
  rfl
theorem nm_eq (A : Nat → Int32) (o what v2 v3 k v5 : Int32) : (fun c => upd (upd (upd (upd (upd (upd A 111 o) 101 what) 100 v2) 116 v3) 107 k) 115 v5 (xLt c)) = fun c : Int32 => if c = 0 then o else if c = 1 then what else if c = 2 then v2 else if c = 3 then v3 else if c = 4 then k else v5 := by
  funext c
  unfold xLt
  by_cases h0 : c = 0
  · rw [if_pos h0, if_pos h0]; rfl
  rw [if_neg h0, if_neg h0]
  by_cases h1 : c = 1
  · rw [if_pos h1, if_pos h1]; rfl
  rw [if_neg h1, if_neg h1]
  by_cases h2 : c = 2
  · rw [if_pos h2, if_pos h2]; rfl
  rw [if_neg h2, if_neg h2]
  by_cases h3 : c = 3
  · rw [if_pos h3, if_pos h3]; rfl
  rw [if_neg h3, if_neg h3]
  by_cases h4 : c = 4
  · rw [if_pos h4, if_pos h4]; rfl
  rw [if_neg h4, if_neg h4]
  rfl
theorem X_losesBy0 {n : Nat} {P : mS} {σ : xS} (v2 : xn σ = n) (v3 : ∀ s, s < n → ∀ k, k < 6 → xE σ s k = P.2.1 (k + 1) s) (v5 : xI σ 3 = P.2.1 7 1) (h5 : ∃ j, 1 ≤ j ∧ j ≤ 999 ∧ P.2.1 7 1 = nI j) {N : Nat} (hN : 400 < N) {a b : Nat} (ha : a < n) (hb : b < n) (o what k : Int32) : ∃ σ', fX_losesBy N σ a b o what k = some (σ', lossS P (xY σ) a b o what k) ∧ x44 σ σ' := by
  obtain ⟨js, o5a, o5b, o5⟩ := h5
  have main : ∀ f : Int32, ∃ σ', fX_losesBy_b17 N σ f (o / P.2.1 7 1) a b o what k = some (σ', cutS (match xY σ with
      | none => o / P.2.1 7 1 * f
      | some ls => givesV (nmS P a b o what k) ls)) ∧ x44 σ σ' := by
    intro f
    simp only [fX_losesBy_b17, nmvE]
    cases hY : xY σ with
    | none =>
      simp only [Option.isNone_none, if_true]
      exact ⟨σ, X_cut _ _ _, x44.rf⟩
    | some ls =>
      simp only [Option.isNone_some, Bool.false_eq_true, if_false]
      obtain ⟨σ5, e5, f5⟩ := X_clear hN σ
      have hn5 : xn σ5 = n := by show σ5.2.2.2.1 = n; rw [f5.2.2]; exact v2
      have hE5 : ∀ s i, xE σ5 s i = xE σ s i := fun s i => by show σ5.2.2.1 s i = σ.2.2.1 s i; rw [f5.2.2]
      have hY5 : xY σ5 = some ls := by show σ5.2.2.2.2.2.2.2.2.2 = _; rw [f5.2.2]; exact hY
      have hI5 : xI σ5 3 = P.2.1 7 1 := by show σ5.1 3 = _; rw [f5.1]; exact v5
      simp only [e5, obi, pl_c111128, pl_c101128]
      rw [pl_cl (show a < xn (xSj (xSj σ5 44 (111 : Int32).toNatClampNeg o) 44 (101 : Int32).toNatClampNeg what) from by show a < xn σ5; rw [hn5]; exact ha), X_far N (show a < xn (xSj (xSj σ5 44 (111 : Int32).toNatClampNeg o) 44 (101 : Int32).toNatClampNeg what) from by show a < xn σ5; rw [hn5]; exact ha) (show b < xn (xSj (xSj σ5 44 (111 : Int32).toNatClampNeg o) 44 (101 : Int32).toNatClampNeg what) from by show b < xn σ5; rw [hn5]; exact hb)]
      simp only [obi, pl_c100128, pl_c116128, pl_c107128, pl_c115128]
      rw [pl_cl (show a < xn σ5 from by rw [hn5]; exact ha), pl_cl (show b < xn σ5 from by rw [hn5]; exact hb)]
      simp only [fX_gives, X_cut]
      have hx5 : ∀ s, s < n → ∀ i, i < 6 → xE σ5 s i = P.2.1 (i + 1) s := fun s hs i hi => (hE5 s i).trans (v3 s hs i hi)
      refine ⟨_, congrArg some (Prod.ext rfl (congrArg cutS ?_)), (((((f5.sj _ _).sj _ _).sj _ _).sj _ _).sj _ _).sj _ _⟩
      show givesV (fun c => upd (upd (upd (upd (upd (upd (xJ σ5 44) 111 o) 101 what) 100 (abS (xE σ5 a 0 - xE σ5 b 0) + abS (xE σ5 a 1 - xE σ5 b 1))) 116 (abS (xE σ5 a 2 - xE σ5 b 2))) 107 k) 115 (xI σ5 3) (xLt c)) ((xY σ5).getD []) = givesV (nmS P a b o what k) ls
      rw [hY5, nm_eq, hI5, hx5 a ha 0 (by decide), hx5 a ha 1 (by decide), hx5 a ha 2 (by decide), hx5 b hb 0 (by decide), hx5 b hb 1 (by decide), hx5 b hb 2 (by decide)]
      rfl
  have hne : ¬ P.2.1 7 1 = 0 := by rw [o5]; exact nI_ne0 (by omega) (by omega)
  simp only [fX_losesBy, nmvE, v5]
  rw [pl_cz hne]
  unfold lossS
  by_cases hw : what = 2
  · rw [if_pos hw]
    simp only [if_pos hw]
    exact main 2
  · rw [if_neg hw]
    simp only [if_neg hw]
    exact main 1
theorem X_losesBy {n c : Nat} {P : mS} {σ : xS} (V : pVw n c P σ) (O : pOk n c P) {N : Nat} (hN : 400 < N) {a b : Nat} (ha : a < n) (hb : b < n) (o what k : Int32) : ∃ σ', fX_losesBy N σ a b o what k = some (σ', lossS P (xY σ) a b o what k) ∧ x44 σ σ' := X_losesBy0 V.2.1 V.2.2.1 V.2.2.2.1.2.1 O.2.2.2.2.1 hN ha hb o what k
/-- one value worked out on the reference's stack -/
def stOk (A : Nat → Int32) : List Int32 → Prop
  | [] => True
  | x :: xs => A xs.length = x ∧ stOk A xs
theorem stOk.upd {A : Nat → Int32} {i : Nat} {v : Int32} : ∀ {xs : List Int32}, xs.length ≤ i → stOk A xs → stOk (upd A i v) xs := by
  intro xs
  induction xs with
  | nil => intro _ h; exact h
  | cons x xs ih =>
    intro hi h
    simp only [List.length_cons] at hi
    exact ⟨(upd_n _ (by omega) _).trans h.1, ih (by omega) h.2⟩
theorem M_both (N : Nat) (μ : mS) (c x y : Int32) : fM_both N μ c x y = some (μ, opV c x y) := by
  unfold fM_both opV
  by_cases h6 : c = 6
  · rw [if_pos h6, if_pos h6]
    by_cases hx : x = 0
    · rw [if_pos hx]
      by_cases hy : y = 0
      · rw [if_pos hy, if_neg (fun q => q.elim (fun z => z hx) (fun z => z hy))]
      · rw [if_neg hy, if_pos (Or.inr hy)]
    · rw [if_neg hx, if_pos (Or.inl hx)]
  rw [if_neg h6, if_neg h6]
  by_cases h7 : c = 7
  · rw [if_pos h7, if_pos h7]
    by_cases hx : x = 0
    · rw [if_pos hx, if_neg (fun q => q.1 hx)]
    · rw [if_neg hx]
      by_cases hy : y = 0
      · rw [if_pos hy, if_neg (fun q => q.2 hy)]
      · rw [if_neg hy, if_pos ⟨hx, hy⟩]
  rw [if_neg h7, if_neg h7]
  by_cases h8 : c = 8
  · rw [if_pos h8, if_pos h8]
    by_cases hx : y ≤ x
    · rw [if_pos hx, if_neg (Int32.not_lt.mpr hx)]
    · rw [if_neg hx, if_pos (Int32.not_le.mp hx)]
  rw [if_neg h8, if_neg h8]
  by_cases h9 : c = 9
  · rw [if_pos h9, if_pos h9]
    by_cases hx : x = y
    · rw [if_pos hx, if_pos hx]
    · rw [if_neg hx, if_neg hx]
  rw [if_neg h9, if_neg h9]
  by_cases h10 : c = 10
  · rw [if_pos h10, if_pos h10]
    by_cases hx : x ≤ y
    · rw [if_pos hx, if_neg (Int32.not_lt.mpr hx)]
    · rw [if_neg hx, if_pos (Int32.not_le.mp hx)]
  rw [if_neg h10, if_neg h10]
  by_cases h11 : c = 11
  · rw [if_pos h11, if_pos h11]
  rw [if_neg h11, if_neg h11]
  by_cases h12 : c = 12
  · rw [if_pos h12, if_pos h12]
  rw [if_neg h12, if_neg h12]
  by_cases h13 : c = 13
  · rw [if_pos h13, if_pos h13]
  rw [if_neg h13, if_neg h13]
  by_cases h14 : c = 14
  · rw [if_pos h14, if_pos h14]
    by_cases hy : y = 0
    · rw [if_pos hy, if_pos hy]
    · rw [if_neg hy, if_neg hy, pl_cz hy]
  rw [if_neg h14, if_neg h14]
  by_cases hy : y = 0
  · rw [if_pos hy, if_pos hy]
  · rw [if_neg hy, if_neg hy, pl_cz hy]
def m26 (σ σ' : mS) : Prop := σ'.1 = σ.1 ∧ (∀ k, k ≠ 26 → k ≠ 27 → σ'.2.1 k = σ.2.1 k) ∧ σ'.2.2 = σ.2.2
theorem m26.rf {σ : mS} : m26 σ σ := ⟨rfl, fun _ _ _ => rfl, rfl⟩
theorem m26.tr {a b c : mS} (h : m26 a b) (h2 : m26 b c) : m26 a c := ⟨h2.1.trans h.1, fun k q r => (h2.2.1 k q r).trans (h.2.1 k q r), h2.2.2.trans h.2.2⟩
theorem m26.sj {a b : mS} (h : m26 a b) {k : Nat} (hk : k = 26 ∨ k = 27) (i : Nat) (v : Int32) : m26 a (mSj b k i v) := h.tr ⟨rfl, fun j q r => va_up_n (by omega), rfl⟩
theorem m26.fr {a b : mS} (h : m26 a b) : mFr a b := ⟨fun k _ => by rw [h.1], fun k q1 q2 _ _ => h.2.1 k q1 q2, h.2.2⟩
theorem M_wk (N : Nat) (nm : Int32 → Int32) (hN : 400 < N) : ∀ (c : List Int32) (pos : Nat) (st : List Int32) (μ : mS) (fuel : Nat), c.length < fuel → pos + c.length ≤ 120 → st.length ≤ pos → (∀ i, i < c.length → μ.2.1 17 (pos + i) = c.getD i 0) → rpnD st.length c = some 1 → stOk (μ.2.1 26) st → (∀ i, i < 6 → μ.2.1 27 i = nm (nI i)) →
    ∃ μ', fM_worked_b5 N fuel μ (nI (pos + c.length)) (nI st.length) (nI pos) = some (μ', (c.foldl (ev1 nm) st).headD 0) ∧ m26 μ μ' ∧ μ'.2.1 27 = μ.2.1 27 := by
  intro c
  induction c with
  | nil =>
    intro pos st μ fuel hf hp hs hc hr hst hnm
    obtain ⟨m, rfl⟩ : ∃ m, fuel = m + 1 := ⟨fuel - 1, by simp only [List.length_nil] at hf; omega⟩
    simp only [rpnD, Option.some.injEq] at hr
    match st, hr with
    | [x], _ =>
      refine ⟨μ, ?_, m26.rf, rfl⟩
      simp only [fM_worked_b5, nmvE, List.length_nil, Nat.add_zero]
      rw [if_pos (Int32.le_refl _), pl_c0200]
      have := hst.1
      simp only [List.length_nil] at this
      simp only [show (0 : Int32).toNatClampNeg = 0 from rfl, this]
      rfl
  | cons v c ih =>
    intro pos st μ fuel hf hp hs hc hr hst hnm
    simp only [List.length_cons] at hf hp
    obtain ⟨m, rfl⟩ : ∃ m, fuel = m + 1 := ⟨fuel - 1, by omega⟩
    have hv : μ.2.1 17 pos = v := by have := hc 0 (Nat.succ_pos _); rw [Nat.add_zero] at this; exact this
    have e : pos + (v :: c).length = (pos + 1) + c.length := by simp only [List.length_cons]; omega
    rw [e]
    have hc' : ∀ (μ1 : mS), m26 μ μ1 → ∀ i, i < c.length → μ1.2.1 17 (pos + 1 + i) = c.getD i 0 := fun μ1 hm i hi => by
      rw [hm.2.1 17 (by decide) (by decide)]
      have := hc (i + 1) (by simp only [List.length_cons]; omega)
      rw [show pos + (i + 1) = pos + 1 + i from by omega] at this
      rw [this]
      rfl
    have next : ∀ (μ1 : mS) (st1 : List Int32), m26 μ μ1 → μ1.2.1 27 = μ.2.1 27 → st1.length ≤ pos + 1 → rpnD st1.length c = some 1 → stOk (μ1.2.1 26) st1 → ∃ μ', fM_worked_b5 N m μ1 (nI (pos + 1 + c.length)) (nI st1.length) (nI (pos + 1)) = some (μ', (c.foldl (ev1 nm) st1).headD 0) ∧ m26 μ μ' ∧ μ'.2.1 27 = μ.2.1 27 := by
      intro μ1 st1 h1 h2 h3 h4 h5
      obtain ⟨μ', q1, q2, q3⟩ := ih (pos + 1) st1 μ1 m (by omega) (by omega) h3 (hc' μ1 h1) h4 h5 (fun i hi => by rw [h2]; exact hnm i hi)
      exact ⟨μ', q1, h1.tr q2, q3.trans h2⟩
    simp only [fM_worked_b5, nmvE]
    rw [if_neg (nI_ge (by omega) (by omega)), pl_ck rfl (show pos < 200 by omega) (by decide), nI_clamp (by omega), hv]
    simp only [List.foldl_cons]
    simp only [rpnD] at hr
    by_cases h18 : 18 ≤ v
    · rw [if_pos h18] at hr
      rw [if_pos h18]
      simp only [fM_worked_b33, fM_worked_b63, fM_worked_b157, nmvE]
      rw [if_neg (Int32.not_lt.mpr h18), pl_ck rfl (show st.length < 200 by omega) (by decide), nI_clamp (by omega), nI_1, nI_1]
      have he : ev1 nm st v = (v - 18) :: st := by unfold ev1; rw [if_pos h18]
      rw [he]
      exact next (mSj μ 26 st.length (v - 18)) ((v - 18) :: st) (m26.rf.sj (Or.inl rfl) _ _) (mSj_n _ (by decide) _ _) (by simp only [List.length_cons]; omega) hr ⟨by rw [mSj_s]; exact upd_s _ _ _, by rw [mSj_s]; exact hst.upd (Nat.le_refl _)⟩
    · rw [if_neg h18] at hr
      rw [if_neg h18]
      by_cases h5 : 0 ≤ v ∧ v ≤ 5
      · rw [if_pos h5] at hr
        obtain ⟨j, hj, ev⟩ := pl_rng (b := 5) (by decide) h5
        rw [if_neg (Int32.not_lt.mpr h5.2)]
        simp only [fM_worked_b33, fM_worked_b63, fM_worked_b157, nmvE]
        rw [if_pos (Int32.not_le.mp h18), pl_ck ev (show j < 6 by omega) (by decide), pl_ck rfl (show st.length < 200 by omega) (by decide), nI_clamp (show st.length < 2 ^ 31 by omega), nI_1, nI_1]
        have he : ev1 nm st v = nm v :: st := by unfold ev1; rw [if_neg h18, if_pos h5.2]
        rw [he]
        have hn : μ.2.1 27 v.toNatClampNeg = nm v := by rw [ev, nI_clamp (by omega)]; exact hnm j (by omega)
        rw [hn]
        exact next (mSj μ 26 st.length (nm v)) (nm v :: st) (m26.rf.sj (Or.inl rfl) _ _) (mSj_n _ (by decide) _ _) (by simp only [List.length_cons]; omega) hr ⟨by rw [mSj_s]; exact upd_s _ _ _, by rw [mSj_s]; exact hst.upd (Nat.le_refl _)⟩
      · rw [if_neg h5] at hr
        by_cases hu : v = 16 ∨ v = 17
        · rw [if_pos hu] at hr
          match st, hs, hst, hr with
          | x :: st, hs, hst, hr =>
            simp only [List.length_cons, Nat.succ_ne_zero, if_false] at hr
            have hx : μ.2.1 26 st.length = x := hst.1
            simp only [List.length_cons] at hs
            have fin : ∀ w : Int32, ∃ μ', fM_worked_b123 N (fM_worked_b5 N m) μ w (nI (st.length + 1) - 1) (nI (pos + 1 + c.length)) (nI (st.length + 1)) (nI pos) = some (μ', (c.foldl (ev1 nm) (w :: st)).headD 0) ∧ m26 μ μ' ∧ μ'.2.1 27 = μ.2.1 27 := by
              intro w
              simp only [fM_worked_b123, fM_worked_b157, nmvE]
              rw [nI_pred, pl_ck rfl (show st.length < 200 by omega) (by decide), nI_clamp (by omega), nI_1]
              exact next (mSj μ 26 st.length w) (w :: st) (m26.rf.sj (Or.inl rfl) _ _) (mSj_n _ (by decide) _ _) (by simp only [List.length_cons]; omega) hr ⟨by rw [mSj_s]; exact upd_s _ _ _, by rw [mSj_s]; exact hst.2.upd (Nat.le_refl _)⟩
            rcases hu with hu | hu
            · subst hu
              rw [if_pos (by decide), if_pos rfl]
              simp only [fM_worked_b81, nmvE, List.length_cons]
              rw [if_neg (by decide), nI_pred, pl_ck rfl (show st.length < 200 by omega) (by decide), nI_clamp (by omega), hx]
              have he : ev1 nm (x :: st) 16 = (if x = 0 then 1 else 0) :: st := rfl
              rw [he]
              by_cases h0 : x = 0
              · rw [if_pos h0, if_pos h0, ← nI_pred]; exact fin 1
              · rw [if_neg h0, if_neg h0, ← nI_pred]; exact fin 0
            · subst hu
              rw [if_pos (by decide), if_neg (by decide), if_pos rfl]
              simp only [fM_worked_b81, nmvE, List.length_cons]
              simp only [if_true]
              rw [nI_pred, pl_ck rfl (show st.length < 200 by omega) (by decide), nI_clamp (by omega), hx]
              have he : ev1 nm (x :: st) 17 = (-x) :: st := rfl
              rw [he, ← nI_pred]
              exact fin (-x)
        · rw [if_neg hu] at hr
          by_cases hb : 6 ≤ v ∧ v ≤ 15
          · rw [if_pos hb] at hr
            match st, hs, hst, hr with
            | [], _, _, hr => simp at hr
            | [_], _, _, hr => simp at hr
            | x :: y :: st, hs, hst, hr =>
              simp only [List.length_cons] at hr hs
              rw [if_neg (by omega)] at hr
              have hx : μ.2.1 26 (st.length + 1) = x := hst.1
              have hy : μ.2.1 26 st.length = y := hst.2.1
              have h5' : (5 : Int32) < v := Int32.lt_iff_toInt_lt.mpr (by
                have := Int32.le_iff_toInt_le.mp hb.1
                have e6 : (6 : Int32).toInt = 6 := by decide
                have e5 : (5 : Int32).toInt = 5 := by decide
                omega)
              rw [if_pos h5', if_neg (fun q => hu (Or.inl q)), if_neg (fun q => hu (Or.inr q))]
              simp only [List.length_cons]
              have e1 : nI (st.length + 1 + 1) + -1 = nI (st.length + 1) := by rw [← nI_pred (st.length + 1)]; exact (Int32.sub_eq_add_neg _ _).symm
              rw [e1, nI_pred, pl_ck rfl (show st.length < 200 by omega) (by decide), pl_ck rfl (show st.length + 1 < 200 by omega) (by decide), nI_clamp (by omega), nI_clamp (by omega), hx, hy]
              simp only [M_both, obi, fM_worked_b157, nmvE]
              rw [pl_ck rfl (show st.length < 200 by omega) (by decide), nI_1]
              have he : ev1 nm (x :: y :: st) v = opV v y x :: st := by
                unfold ev1
                rw [if_neg h18, if_neg (fun q => absurd h5' (Int32.not_lt.mpr q))]
                show (if v = 16 then (if x = 0 then 1 else 0) :: y :: st else if v = 17 then -x :: y :: st else opV v y x :: st) = _
                rw [if_neg (fun q => hu (Or.inl q)), if_neg (fun q => hu (Or.inr q))]
              rw [he]
              exact next (mSj μ 26 st.length (opV v y x)) (opV v y x :: st) (m26.rf.sj (Or.inl rfl) _ _) (mSj_n _ (by decide) _ _) (by simp only [List.length_cons]; omega) hr ⟨by rw [mSj_s]; exact upd_s _ _ _, by rw [mSj_s]; exact hst.2.2.upd (Nat.le_refl _)⟩
          · rw [if_neg hb] at hr
            cases hr
theorem rpnD_len : ∀ (c : List Int32) (d e : Nat), rpnD d c = some e → c = [] → e = d := by
  intro c d e h hc
  subst hc
  simp only [rpnD, Option.some.injEq] at h
  exact h.symm
theorem M_worked {P : mS} (N : Nat) (hN : 400 < N) {μ : mS} (hf : mFr P μ) {nm : Int32 → Int32} (hnm : ∀ i, i < 6 → μ.2.1 27 i = nm (nI i)) {pos : Nat} {c : List Int32} (hp : pos + c.length ≤ 120) (hc : pCode P pos c) (hr : rpnD 0 c = some 1) :
    ∃ μ', fM_worked N μ (nI pos) (nI (pos + c.length)) = some (μ', evV nm c) ∧ m26 μ μ' ∧ μ'.2.1 27 = μ.2.1 27 := by
  obtain ⟨μ', q1, q2, q3⟩ := M_wk N nm hN c pos [] μ N (by omega) hp (Nat.zero_le _) (fun i hi => by rw [hf.2.1 17 (by decide) (by decide) (by decide) (by decide)]; exact hc i hi) hr trivial hnm
  exact ⟨μ', q1, q2, q3⟩
theorem M_lines {P : mS} (N : Nat) (hN : 400 < N) {nm : Int32 → Int32} : ∀ (ls : List (List Int32 × List Int32)) (j pos : Nat) (μ : mS) (fuel : Nat), 60 < fuel + j → mFr P μ → (∀ i, i < 6 → μ.2.1 27 i = nm (nI i)) → pLn P j pos ls → ∃ μ', fM_loss_b132 N fuel μ (nI j) = some (μ', cutS (givesV nm ls)) ∧ m26 μ μ' := by
  intro ls
  induction ls with
  | nil =>
    intro j pos μ fuel hfu hf hnm hl
    obtain ⟨m, rfl⟩ : ∃ m, fuel = m + 1 := ⟨fuel - 1, by have := hl.2; omega⟩
    refine ⟨μ, ?_, m26.rf⟩
    simp only [fM_loss_b132, nmvE, hf.1 13 (by decide), hl.1]
    exact if_pos (Int32.le_refl _)
  | cons x xs ih =>
    intro j pos μ fuel hfu hf hnm hl
    obtain ⟨l1, l2, l3, l4, l5, l6, l7, l8, l9, l10⟩ := hl
    obtain ⟨m, rfl⟩ : ∃ m, fuel = m + 1 := ⟨fuel - 1, by omega⟩
    have k14 := hf.2.1 14 (by decide) (by decide) (by decide) (by decide)
    have k15 := hf.2.1 15 (by decide) (by decide) (by decide) (by decide)
    have hmany : ∃ J, j < J ∧ J ≤ 60 ∧ P.1 13 = nI J := by
      have aux : ∀ (xs : List (List Int32 × List Int32)) (j pos : Nat), pLn P j pos xs → ∃ J, j ≤ J ∧ J ≤ 60 ∧ P.1 13 = nI J := by
        intro xs
        induction xs with
        | nil => intro j pos h; exact ⟨j, Nat.le_refl _, h.2, h.1⟩
        | cons x xs ih =>
          intro j pos h
          obtain ⟨J, a, b, c⟩ := ih _ _ h.2.2.2.2.2.2.2.2.2
          exact ⟨J, by omega, b, c⟩
      obtain ⟨J, a, b, c⟩ := aux xs _ _ l10
      exact ⟨J, by omega, b, c⟩
    obtain ⟨J, J1, J2, J3⟩ := hmany
    -- its answer
    have says : ∀ μ1 : mS, m26 μ μ1 → μ1.2.1 27 = μ.2.1 27 → ∃ μ', fM_loss_b182 N μ1 (nI j) = some (μ', cutS (evV nm x.2)) ∧ m26 μ μ' := by
      intro μ1 h1 h2
      have hf1 := hf.tr h1.fr
      obtain ⟨μ', q1, q2, q3⟩ := M_worked N hN hf1 (nm := nm) (fun i hi => by rw [h2]; exact hnm i hi) (pos := pos + x.1.length) (c := x.2) (by omega) l7 l9
      refine ⟨μ', ?_, h1.tr q2⟩
      simp only [fM_loss_b182, nmvE]
      rw [pl_ck rfl (show j < 60 by omega) (by decide), pl_ck rfl (show j < 60 by omega) (by decide), nI_clamp (by omega), hf1.2.1 15 (by decide) (by decide) (by decide) (by decide), hf1.2.1 16 (by decide) (by decide) (by decide) (by decide), l3, l4, q1]
      rfl
    simp only [fM_loss_b132, nmvE, hf.1 13 (by decide), J3]
    rw [if_neg (nI_ge J1 (by omega)), pl_ck rfl (show j < 60 by omega) (by decide), pl_ck rfl (show j < 60 by omega) (by decide), pl_ck rfl (show j < 60 by omega) (by decide), pl_ck rfl (show j < 60 by omega) (by decide), nI_clamp (by omega), k14, k15, l2, l3]
    unfold givesV
    by_cases h0 : x.1 = []
    · have h00 : x.1.length = 0 := by rw [h0]; rfl
      rw [if_pos (nI_le (by omega) (by omega)), if_pos (Or.inl h0)]
      exact says μ m26.rf rfl
    · have h00 : 0 < x.1.length := List.length_pos_iff.mpr h0
      have hr : rpnD 0 x.1 = some 1 := l8.resolve_left h0
      rw [if_neg (nI_ge (by omega) (by omega))]
      obtain ⟨μ1, q1, q2, q3⟩ := M_worked N hN hf hnm (pos := pos) (c := x.1) (by omega) l6 hr
      rw [q1]
      simp only [obi]
      by_cases hz : evV nm x.1 = 0
      · rw [if_pos hz, if_neg (fun q => q.elim h0 (fun z => z hz)), nI_1]
        obtain ⟨μ', p1, p2⟩ := ih (j + 1) _ μ1 m (by omega) (hf.tr q2.fr) (fun i hi => by rw [q3]; exact hnm i hi) l10
        exact ⟨μ', p1, q2.tr p2⟩
      · rw [if_neg hz, if_pos (Or.inr hz)]
        exact says μ1 q2 q3
theorem cut_nn {t : Nat} (h : t < 2 ^ 31) : cutS (nI t) = if nI t < 99 then nI t else 99 := by
  unfold cutS
  by_cases hc : nI t < 99
  · simp only [if_pos hc]
    by_cases h0 : 0 < nI t
    · exact if_pos h0
    · rw [if_neg h0]
      have hh := Int32.le_iff_toInt_le.mp (Int32.not_lt.mp h0)
      have e0 : (0 : Int32).toInt = 0 := by decide
      rw [nI_toInt h] at hh
      rw [show t = 0 from by omega, nI_0]
  · simp only [if_neg hc]
    exact if_pos (by decide)
theorem M_loss0 {n : Nat} {P : mS} (o1 : n ≤ 8) (h5 : ∃ j, 1 ≤ j ∧ j ≤ 999 ∧ P.2.1 7 1 = nI j) {Y : Option (List (List Int32 × List Int32))} (hL : pLaw P Y) {N : Nat} (hN : 400 < N) {μ : mS} (hf : mFr P μ) {a b : Nat} (ha : a < n) (hb : b < n) {oo : Nat} (ho : oo ≤ 13278) (what k : Int32) : ∃ μ', fM_loss N μ (nI a) (nI b) (nI oo) what k = some (μ', lossS P Y a b (nI oo) what k) ∧ m26 μ μ' := by
  obtain ⟨js, o5a, o5b, o5⟩ := h5
  have k7 := hf.2.1 7 (by decide) (by decide) (by decide) (by decide)
  have k1 := hf.2.1 1 (by decide) (by decide) (by decide) (by decide)
  have k2 := hf.2.1 2 (by decide) (by decide) (by decide) (by decide)
  have k3 := hf.2.1 3 (by decide) (by decide) (by decide) (by decide)
  rcases hL with ⟨h0, rfl⟩ | ⟨ls, h1, rfl, hl⟩
  · refine ⟨μ, ?_, m26.rf⟩
    have hne : ¬ P.2.1 7 1 = 0 := by rw [o5]; exact nI_ne0 (by omega) (by omega)
    simp only [fM_loss, nmvE, hf.1 12 (by decide), k7, show (1 : Int32).toNatClampNeg = 1 from rfl, pl_c13]
    rw [if_pos h0, pl_cz hne]
    have key : ∀ f : Nat, f ≤ 2 → fM_loss_b28 N μ (nI f) (nI oo / P.2.1 7 1) 99 = some (μ, cutS (nI oo / P.2.1 7 1 * nI f)) := by
      intro f hf2
      simp only [fM_loss_b28, nmvE]
      have hd : oo / js ≤ oo := Nat.div_le_self _ _
      have hm : oo / js * f ≤ oo / js * 2 := Nat.mul_le_mul_left _ hf2
      rw [o5, pl_div (by omega) (by omega) (by omega), nI_mul, cut_nn (by omega)]
    unfold lossS
    by_cases hw : what = 2
    · rw [if_pos hw]
      simp only [if_pos hw]
      exact key 2 (by decide)
    · rw [if_neg hw]
      simp only [if_neg hw]
      exact key 1 (by decide)
  · have hne : ¬ P.1 12 = 0 := by rw [h1]; decide
    simp only [fM_loss, nmvE, hf.1 12 (by decide), pl_c06, pl_c16, pl_c26, pl_c36, pl_c46, pl_c56, pl_c13]
    rw [if_neg hne, pl_ck rfl (show a < 8 by omega) (by decide), pl_ck rfl (show b < 8 by omega) (by decide), pl_ck rfl (show a < 8 by omega) (by decide), pl_ck rfl (show b < 8 by omega) (by decide), pl_ck rfl (show a < 8 by omega) (by decide), pl_ck rfl (show b < 8 by omega) (by decide), nI_clamp (show a < 2 ^ 31 by omega), nI_clamp (show b < 2 ^ 31 by omega)]
    obtain ⟨μ', q1, q2⟩ := M_lines N hN (nm := nmS P a b (nI oo) what k) ls 0 0 (mSj (mSj (mSj (mSj (mSj (mSj μ 27 0 (nI oo)) 27 1 what) 27 2 (abS (P.2.1 1 a - P.2.1 1 b) + abS (P.2.1 2 a - P.2.1 2 b))) 27 3 (abS (P.2.1 3 a - P.2.1 3 b))) 27 4 k) 27 5 (P.2.1 7 1)) N (by omega) ((((((hf.sj (by decide) _ _).sj (by decide) _ _).sj (by decide) _ _).sj (by decide) _ _).sj (by decide) _ _).sj (by decide) _ _) (by
      intro i hi
      match i, hi with
      | 0, _ => rfl
      | 1, _ => rfl
      | 2, _ => rfl
      | 3, _ => rfl
      | 4, _ => rfl
      | 5, _ => rfl) hl
    refine ⟨μ', ?_, ((((((m26.rf.sj (Or.inr rfl) _ _).sj (Or.inr rfl) _ _).sj (Or.inr rfl) _ _).sj (Or.inr rfl) _ _).sj (Or.inr rfl) _ _).sj (Or.inr rfl) _ _).tr q2⟩
    rw [← k1, ← k2, ← k3, ← k7] at q1
    exact q1
theorem M_loss {n c : Nat} {P : mS} (O : pOk n c P) {Y : Option (List (List Int32 × List Int32))} (hL : pLaw P Y) {N : Nat} (hN : 400 < N) {μ : mS} (hf : mFr P μ) {a b : Nat} (ha : a < n) (hb : b < n) {oo : Nat} (ho : oo ≤ 13278) (what k : Int32) : ∃ μ', fM_loss N μ (nI a) (nI b) (nI oo) what k = some (μ', lossS P Y a b (nI oo) what k) ∧ m26 μ μ' := M_loss0 O.1 O.2.2.2.2.1 hL hN hf ha hb ho what k
