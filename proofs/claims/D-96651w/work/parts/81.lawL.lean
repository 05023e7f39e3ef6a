/-! One cell set for a while -/
theorem pLn.to {m m' : mS} (h13 : m'.1 13 = m.1 13) (e : ∀ k, 14 ≤ k → k ≤ 17 → m'.2.1 k = m.2.1 k) : ∀ (ls : List (List Int32 × List Int32)) (j pos : Nat), pLn m j pos ls → pLn m' j pos ls := by
  intro ls
  induction ls with
  | nil => intro j pos hl; exact ⟨h13.trans hl.1, hl.2⟩
  | cons x xs ih =>
    intro j pos hl
    obtain ⟨l1, l2, l3, l4, l5, l6, l7, l8, l9, l10⟩ := hl
    refine ⟨l1, ?_, ?_, ?_, l5, fun i hi => ?_, fun i hi => ?_, l8, l9, ih _ _ l10⟩
    · rw [e 14 (by decide) (by decide)]; exact l2
    · rw [e 15 (by decide) (by decide)]; exact l3
    · rw [e 16 (by decide) (by decide)]; exact l4
    · rw [e 17 (by decide) (by decide)]; exact l6 i hi
    · rw [e 17 (by decide) (by decide)]; exact l7 i hi
theorem pLaw.to {m m' : mS} {Y : Option (List (List Int32 × List Int32))} (h12 : m'.1 12 = m.1 12) (h13 : m'.1 13 = m.1 13) (e : ∀ k, 14 ≤ k → k ≤ 17 → m'.2.1 k = m.2.1 k) (hl : pLaw m Y) : pLaw m' Y := by
  rcases hl with ⟨a, b⟩ | ⟨ls, a, b, c⟩
  · exact Or.inl ⟨h12.trans a, b⟩
  · exact Or.inr ⟨ls, h12.trans a, b, pLn.to h13 e _ _ _ c⟩
theorem pVw.to {n c : Nat} {P : mS} {σ σ' : xS} (V : pVw n c P σ) (h1 : ∀ k, k ≤ 18 → xI σ' k = xI σ k) (h2 : xJ σ' 12 = xJ σ 12) (h3 : σ'.2.2 = σ.2.2) : pVw n c P σ' := by
  obtain ⟨v1, v2, v3, ⟨v4, v5, v6⟩, v7, v8, v9, v10⟩ := V
  refine ⟨(h1 1 (by decide)).trans v1, ?_, ?_, ⟨(h1 2 (by decide)).trans v4, (h1 3 (by decide)).trans v5, (h1 4 (by decide)).trans v6⟩, (h1 15 (by decide)).trans v7, ?_, ?_, ?_⟩
  · show σ'.2.2.2.1 = n; rw [h3]; exact v2
  · intro s hs k hk; show σ'.2.2.1 s k = _; rw [h3]; exact v3 s hs k hk
  · intro k hk; rw [h2]; exact v8 k hk
  · rcases v9 with ⟨a, b⟩ | ⟨s, a, b, c', d, e⟩
    · exact Or.inl ⟨a, (h1 17 (by decide)).trans b⟩
    · exact Or.inr ⟨s, a, b, (h1 16 (by decide)).trans c', (h1 17 (by decide)).trans d, (h1 18 (by decide)).trans e⟩
  · show pLaw P σ'.2.2.2.2.2.2.2.2.2; rw [h3]; exact v10
theorem upd_upd (f : Nat → Int32) (k : Nat) (v w : Int32) : upd (upd f k v) k w = upd f k w := by
  funext j
  by_cases h : j = k
  · subst h; rw [upd_s, upd_s]
  · rw [upd_n _ h, upd_n _ h, upd_n _ h]
theorem upd_self (f : Nat → Int32) (k : Nat) : upd f k (f k) = f := by
  funext j
  by_cases h : j = k
  · subst h; exact upd_s _ _ _
  · exact upd_n _ h _
theorem va_up_up {α : Type} (f : Nat → α) (k : Nat) (v w : α) : va_up (va_up f k v) k w = va_up f k w := by
  funext j
  by_cases h : j = k
  · subst h; rw [va_up_s, va_up_s]
  · rw [va_up_n h, va_up_n h, va_up_n h]
theorem va_upI {α : Type} (f : Nat → α) (k : Nat) : va_up f k (f k) = f := by
  funext j
  by_cases h : j = k
  · subst h; exact va_up_s
  · exact va_up_n h
theorem mSj_mSj (μ : mS) (k i : Nat) (v w : Int32) : mSj (mSj μ k i v) k i w = mSj μ k i w := by
  show (μ.1, va_up (va_up μ.2.1 k (upd (μ.2.1 k) i v)) k (upd (va_up μ.2.1 k (upd (μ.2.1 k) i v) k) i w), μ.2.2) = _
  rw [va_up_up, va_up_s, upd_upd]
theorem mSj_self (μ : mS) (k i : Nat) : mSj μ k i (μ.2.1 k i) = μ := by
  show (μ.1, va_up μ.2.1 k (upd (μ.2.1 k) i (μ.2.1 k i)), μ.2.2) = μ
  rw [upd_self, va_upI]
theorem xSe_xSe (σ : xS) (s k : Nat) (v w : Int32) : xSe (xSe σ s k v) s k w = xSe σ s k w := by
  show (σ.1, σ.2.1, va_up (va_up σ.2.2.1 s (upd (σ.2.2.1 s) k v)) s (upd (va_up σ.2.2.1 s (upd (σ.2.2.1 s) k v) s) k w), σ.2.2.2) = _
  rw [va_up_up, va_up_s, upd_upd]
theorem xSe_self (σ : xS) (s k : Nat) : xSe σ s k (xE σ s k) = σ := by
  show (σ.1, σ.2.1, va_up σ.2.2.1 s (upd (σ.2.2.1 s) k (σ.2.2.1 s k)), σ.2.2.2) = σ
  rw [upd_self, va_upI]
theorem mFr.cell {P μ : mS} {k i : Nat} {v : Int32} (h : mFr (mSj P k i v) μ) (hk : k ≠ 26 ∧ k ≠ 27 ∧ k ≠ 46 ∧ k ≠ 47) (w : Int32) : mFr (mSj P k i w) (mSj μ k i w) := by
  obtain ⟨h1, h2, h3⟩ := h
  refine ⟨h1, fun j q1 q2 q3 q4 => ?_, h3⟩
  by_cases hj : j = k
  · subst hj
    rw [mSj_s, mSj_s, h2 j q1 q2 q3 q4, mSj_s, upd_upd]
  · rw [mSj_n _ hj, mSj_n _ hj, h2 j q1 q2 q3 q4, mSj_n _ hj]
theorem mFr.cell0 {P μ : mS} (h : mFr P μ) {k : Nat} (hk : k ≠ 26 ∧ k ≠ 27 ∧ k ≠ 46 ∧ k ≠ 47) (i : Nat) (w : Int32) : mFr (mSj P k i w) (mSj μ k i w) := by
  have h' : mFr (mSj P k i (P.2.1 k i)) μ := by rw [mSj_self]; exact h
  exact h'.cell hk w
theorem mFr.back {P μ : mS} {k i : Nat} {v : Int32} (h : mFr (mSj P k i v) μ) (hk : k ≠ 26 ∧ k ≠ 27 ∧ k ≠ 46 ∧ k ≠ 47) : mFr P (mSj μ k i (P.2.1 k i)) := by
  have h' := h.cell hk (P.2.1 k i)
  rw [mSj_self] at h'
  exact h'
theorem pVw.lead {n c : Nat} {P : mS} {σ0 σ : xS} {w : Int32} (V : pVw n c P σ0) (h : qFr σ0 (xSi σ 2 w)) (v : Int32) : pVw n c (mSj P 7 0 v) (xSi σ 2 v) := by
  obtain ⟨v1, v2, v3, ⟨v4, v5, v6⟩, v7, v8, v9, v10⟩ := V
  have g : ∀ k, k ≠ 2 → k ≠ 19 → xI (xSi σ 2 v) k = xI σ0 k := fun k q1 q2 => by
    rw [xSi_n _ q1, ← h.1 k q2, xSi_n _ q1]
  refine ⟨(g 1 (by decide) (by decide)).trans v1, ?_, fun s hs k hk => ?_, ⟨?_, ?_, ?_⟩, (g 15 (by decide) (by decide)).trans v7, fun k hk => ?_, ?_, ?_⟩
  · show σ.2.2.2.1 = n; rw [h.2.2]; exact v2
  · show σ.2.2.1 s k = _
    rw [h.2.2, mSj_n _ (by omega)]; exact v3 s hs k hk
  · rw [xSi_s, mSj_s, upd_s]
  · rw [mSj_s, upd_n _ (by decide)]; exact (g 3 (by decide) (by decide)).trans v5
  · rw [mSj_s, upd_n _ (by decide)]; exact (g 4 (by decide) (by decide)).trans v6
  · rw [mSj_n _ (by decide)]
    have := h.2.1 12 (by decide) (by decide) (by decide)
    show xJ σ 12 k = _
    rw [show xJ σ 12 = xJ σ0 12 from this]; exact v8 k hk
  · rcases v9 with ⟨a, b⟩ | ⟨s, a, b, c', d, e⟩
    · exact Or.inl ⟨a, (g 17 (by decide) (by decide)).trans b⟩
    · exact Or.inr ⟨s, a, b, (g 16 (by decide) (by decide)).trans c', (g 17 (by decide) (by decide)).trans d, (g 18 (by decide) (by decide)).trans e⟩
  · show pLaw _ σ.2.2.2.2.2.2.2.2.2
    rw [h.2.2]
    exact pLaw.to (m := P) (m' := mSj P 7 0 v) rfl rfl (fun k q1 q2 => mSj_n _ (by omega) _ _) v10
theorem pOk.lead {n c : Nat} {P : mS} (O : pOk n c P) {s : Nat} (hs : s ≤ 7) : pOk n c (mSj P 7 0 (nI s)) := by
  obtain ⟨o1, o2, o3, o4, o5, o6, o7, o8, o9⟩ := O
  refine ⟨o1, o2, o3, o4, ?_, ?_, ⟨s, hs, by rw [mSj_s, upd_s]⟩, fun q hq => ?_, o9⟩
  · rw [mSj_s, upd_n _ (by decide)]; exact o5
  · rw [mSj_s, upd_n _ (by decide)]; exact o6
  · rw [mSj_n _ (by decide), mSj_n _ (by decide)]; exact o8 q hq
theorem qFr.lead {σ0 σ σ' : xS} {v w : Int32} (h : qFr σ0 (xSi σ 2 w)) (g : qFr (xSi σ 2 v) σ') : qFr σ0 (xSi σ' 2 w) := by
  refine ⟨fun k hk => ?_, fun k q1 q2 q3 => ?_, ?_⟩
  · by_cases h2 : k = 2
    · subst h2
      rw [xSi_s]
      have := h.1 2 hk
      rw [xSi_s] at this
      exact this
    · rw [xSi_n _ h2, g.1 k hk, xSi_n _ h2]
      have := h.1 k hk
      rw [xSi_n _ h2] at this
      exact this
  · exact (g.2.1 k q1 q2 q3).trans (h.2.1 k q1 q2 q3)
  · exact g.2.2.trans h.2.2
theorem pVw.sw {n c : Nat} {P : mS} {σ0 σ : xS} {w : Int32} {s f : Nat} (V : pVw n c P σ0) (hs : s < n) (hf : f = 4 ∨ f = 5) (h : qFr σ0 (xSe σ s f w)) (v : Int32) : pVw n c (mSj P (f + 1) s v) (xSe σ s f v) := by
  obtain ⟨v1, v2, v3, ⟨v4, v5, v6⟩, v7, v8, v9, v10⟩ := V
  have h1 : ∀ k, k ≠ 19 → xI σ k = xI σ0 k := fun k hk => h.1 k hk
  have e7 : (mSj P (f + 1) s v).2.1 7 = P.2.1 7 := mSj_n _ (by omega) _ _
  have h3 : (xSe σ s f w).2.2 = σ0.2.2 := h.2.2
  have hE : ∀ q k, (q ≠ s ∨ k ≠ f) → xE σ q k = xE σ0 q k := fun q k hq => by
    have e : xE (xSe σ s f w) q k = xE σ0 q k := by show (xSe σ s f w).2.2.1 q k = _; rw [h3]
    rw [← e]
    show xE σ q k = va_up σ.2.2.1 s (upd (σ.2.2.1 s) f w) q k
    by_cases hqs : q = s
    · subst hqs
      rw [va_up_s, upd_n _ (hq.resolve_left (fun z => z rfl))]
    · rw [va_up_n hqs]
  refine ⟨(h1 1 (by decide)).trans v1, ?_, fun q hq k hk => ?_, ⟨?_, ?_, ?_⟩, (h1 15 (by decide)).trans v7, fun k hk => ?_, ?_, ?_⟩
  · have : (xSe σ s f w).2.2.2.1 = σ0.2.2.2.1 := by rw [h3]
    exact this.trans v2
  · show va_up σ.2.2.1 s (upd (σ.2.2.1 s) f v) q k = _
    by_cases hqs : q = s
    · subst hqs
      rw [va_up_s]
      by_cases hkf : k = f
      · subst hkf
        rw [upd_s, mSj_s, upd_s]
      · rw [upd_n _ hkf, mSj_n _ (by omega)]
        exact (hE q k (Or.inr hkf)).trans (v3 q hq k hk)
    · rw [va_up_n hqs]
      by_cases hkf : k = f
      · subst hkf
        rw [mSj_s, upd_n _ hqs]
        exact (hE q k (Or.inl hqs)).trans (v3 q hq k hk)
      · rw [mSj_n _ (by omega)]
        exact (hE q k (Or.inl hqs)).trans (v3 q hq k hk)
  · rw [e7]; exact (h1 2 (by decide)).trans v4
  · rw [e7]; exact (h1 3 (by decide)).trans v5
  · rw [e7]; exact (h1 4 (by decide)).trans v6
  · rw [mSj_n _ (by omega)]
    have := h.2.1 12 (by decide) (by decide) (by decide)
    show xJ σ 12 k = _
    rw [show xJ σ 12 = xJ σ0 12 from this]; exact v8 k hk
  · rcases v9 with ⟨a, b⟩ | ⟨s', a, b, c', d, e⟩
    · exact Or.inl ⟨a, (h1 17 (by decide)).trans b⟩
    · exact Or.inr ⟨s', a, b, (h1 16 (by decide)).trans c', (h1 17 (by decide)).trans d, (h1 18 (by decide)).trans e⟩
  · have : (xSe σ s f w).2.2.2.2.2.2.2.2.2 = σ0.2.2.2.2.2.2.2.2.2 := by rw [h3]
    show pLaw _ σ.2.2.2.2.2.2.2.2.2
    rw [show σ.2.2.2.2.2.2.2.2.2 = σ0.2.2.2.2.2.2.2.2.2 from this]
    exact pLaw.to (m := P) (m' := mSj P (f + 1) s v) rfl rfl (fun k q1 q2 => mSj_n _ (by omega) _ _) v10
theorem pOk.sw {n c : Nat} {P : mS} (O : pOk n c P) {s f : Nat} {v : Int32} (hf : (f = 5 ∧ pBd v 9) ∨ (f = 6 ∧ pBd v 99)) : pOk n c (mSj P f s v) := by
  obtain ⟨o1, o2, o3, o4, o5, o6, o7, o8, o9⟩ := O
  have e7 : (mSj P f s v).2.1 7 = P.2.1 7 := mSj_n _ (by omega) _ _
  refine ⟨o1, o2, o3, o4, by rw [e7]; exact o5, by rw [e7]; exact o6, by rw [e7]; exact o7, fun q hq => ?_, o9⟩
  rcases hf with ⟨rfl, hv⟩ | ⟨rfl, hv⟩
  · refine ⟨?_, by rw [mSj_n _ (by decide)]; exact (o8 q hq).2⟩
    rw [mSj_s]
    by_cases h : q = s
    · subst h; rw [upd_s]; exact hv
    · rw [upd_n _ h]; exact (o8 q hq).1
  · refine ⟨by rw [mSj_n _ (by decide)]; exact (o8 q hq).1, ?_⟩
    rw [mSj_s]
    by_cases h : q = s
    · subst h; rw [upd_s]; exact hv
    · rw [upd_n _ h]; exact (o8 q hq).2
theorem qFr.sw {σ0 σ σ' : xS} {s f : Nat} {v w : Int32} (h : qFr σ0 (xSe σ s f w)) (g : qFr (xSe σ s f v) σ') : qFr σ0 (xSe σ' s f w) := by
  refine ⟨fun k hk => (g.1 k hk).trans (h.1 k hk), fun k q1 q2 q3 => (g.2.1 k q1 q2 q3).trans (h.2.1 k q1 q2 q3), ?_⟩
  have e : (xSe σ' s f w).2.2 = (xSe (xSe σ s f v) s f w).2.2 := by
    show (va_up σ'.2.2.1 s (upd (σ'.2.2.1 s) f w), σ'.2.2.2) = (va_up (xSe σ s f v).2.2.1 s (upd ((xSe σ s f v).2.2.1 s) f w), (xSe σ s f v).2.2.2)
    rw [g.2.2]
  rw [e, xSe_xSe]
  exact h.2.2
/-! Whose, first, a slip -/
def whS (v : Nat → Int32) : Nat → Int32 × Int32
  | 0 => (-2, -2)
  | s + 1 => if (whS v s).1 = -2 ∨ v s < (whS v s).2 then (nI s, v s) else whS v s
theorem whS_cases (v : Nat → Int32) : ∀ s, s ≤ 8 → (whS v s).1 = -2 ∨ ∃ k, k < s ∧ (whS v s).1 = nI k := by
  intro s
  induction s with
  | zero => intro _; exact Or.inl rfl
  | succ s ih =>
    intro h
    unfold whS
    split
    · exact Or.inr ⟨s, by omega, rfl⟩
    · rcases ih (by omega) with h | ⟨k, h1, h2⟩
      · exact Or.inl h
      · exact Or.inr ⟨k, by omega, h2⟩
theorem whS_lt (v : Nat → Int32) {s : Nat} (hs : s ≤ 8) : (whS v s).1 < 0 ↔ (whS v s).1 = -2 := by
  rcases whS_cases v s hs with h | ⟨k, h1, h2⟩
  · rw [h]; exact ⟨fun _ => rfl, fun _ => by decide⟩
  · rw [h2]; exact ⟨fun z => absurd z (nI_pos (by omega)), fun z => absurd z (pl_m2 (by omega))⟩
theorem whS_succ (v : Nat → Int32) (s : Nat) : whS v (s + 1) = if (whS v s).1 = -2 ∨ v s < (whS v s).2 then (nI s, v s) else whS v s := rfl
theorem X_tot {n c : Nat} {P : mS} {σ : xS} (V : pVw n c P σ) (O : pOk n c P) {N : Nat} (hN : 400 < N) : ∃ σ', fX_marks N σ = some (σ', totS n c P (xY σ)) ∧ qFr σ σ' := by
  obtain ⟨σ', e, f, _⟩ := X_marks V O hN
  exact ⟨σ', e, f⟩
theorem X_whose {n c : Nat} {P : mS} {σ0 : xS} (V : pVw n c P σ0) (O : pOk n c P) {N : Nat} (hN : 400 < N) (a : Int32) : ∃ σ', fX_whose_b47 N N σ0 a (xI σ0 2) (-2) (-2) 0 = some (σ', if a = 0 then (whS (fun s => totS n c (mSj P 7 0 (nI s)) (xY σ0)) n).1 else (whS (fun s => totS n c (mSj P 7 0 (nI s)) (xY σ0)) n).2) ∧ qFr σ0 σ' := by
  have o1 := O.1
  obtain ⟨m, t, ⟨h1, h2⟩, e⟩ := pl_for (fun m j (t : xS × Int32 × Int32) => fX_whose_b47 N m t.1 a (xI σ0 2) t.2.1 t.2.2 (nI j)) n (fun j t => qFr σ0 (xSi t.1 2 (xI σ0 2)) ∧ t.2 = whS (fun s => totS n c (mSj P 7 0 (nI s)) (xY σ0)) j) (by
    intro j t hj ⟨h1, h2⟩
    obtain ⟨t0, b, l⟩ := t
    simp only at h1 h2 ⊢
    have V2 := V.lead h1 (nI j)
    have O2 := O.lead (show j ≤ 7 by omega)
    obtain ⟨t1, e1, f1⟩ := X_tot V2 O2 hN
    have hY : xY (xSi t0 2 (nI j)) = xY σ0 := by show t0.2.2.2.2.2.2.2.2.2 = _; rw [h1.2.2]
    rw [hY] at e1
    have hm : xI t0 1 = nI n := by
      have := h1.1 1 (by decide)
      rw [xSi_n _ (by decide)] at this
      exact this.trans V.1
    have h2a : b = (whS (fun s => totS n c (mSj P 7 0 (nI s)) (xY σ0)) j).1 := by rw [← h2]
    have h2b : l = (whS (fun s => totS n c (mSj P 7 0 (nI s)) (xY σ0)) j).2 := by rw [← h2]
    have hlt := whS_lt (fun s => totS n c (mSj P 7 0 (nI s)) (xY σ0)) (s := j) (by omega)
    refine ⟨(t1, whS (fun s => totS n c (mSj P 7 0 (nI s)) (xY σ0)) (j + 1)), ⟨h1.lead f1, rfl⟩, fun m => ?_⟩
    simp only [fX_whose_b47, nmvE, hm]
    rw [if_neg (nI_ge hj (by omega)), e1, whS_succ]
    simp only [obi, h2a, h2b]
    by_cases hc1 : (whS (fun s => totS n c (mSj P 7 0 (nI s)) (xY σ0)) j).1 = -2
    · rw [if_pos (hlt.mpr hc1), if_pos (Or.inl hc1)]
      simp only [fX_whose_b83, fX_whose_b91, nmvE, nI_1]
    · rw [if_neg (fun z => hc1 (hlt.mp z))]
      by_cases hc2 : totS n c (mSj P 7 0 (nI j)) (xY σ0) < (whS (fun s => totS n c (mSj P 7 0 (nI s)) (xY σ0)) j).2
      · rw [if_pos hc2, if_pos (Or.inr hc2)]
        simp only [fX_whose_b83, fX_whose_b91, nmvE, nI_1]
      · rw [if_neg hc2, if_neg (fun z => z.elim hc1 hc2)]
        simp only [fX_whose_b91, nmvE, nI_1]) N 0 (σ0, -2, -2) (by omega) (Nat.zero_le _) ⟨by
      have : xSi σ0 2 (xI σ0 2) = σ0 := by
        show (upd σ0.1 2 (σ0.1 2), σ0.2) = σ0
        rw [upd_self]
      simp only [this]
      exact qFr.rf, rfl⟩
  obtain ⟨t0, b, l⟩ := t
  simp only at h1 h2
  have hm : xI t0 1 = nI n := by
    have := h1.1 1 (by decide)
    rw [xSi_n _ (by decide)] at this
    exact this.trans V.1
  refine ⟨xSi t0 2 (xI σ0 2), ?_, h1⟩
  have e2 : fX_whose_b47 N N σ0 a (xI σ0 2) (-2) (-2) 0 = fX_whose_b47 N (m + 1) t0 a (xI σ0 2) b l (nI n) := e
  rw [e2]
  simp only [fX_whose_b47, nmvE, hm]
  rw [if_pos (nI_le (Nat.le_refl _) (by omega)), ← h2]
  split <;> rfl
theorem M_whose {n c : Nat} {P : mS} (O : pOk n c P) {Y : Option (List (List Int32 × List Int32))} (hL : pLaw P Y) {N : Nat} (hN : 400 < N) (hs0 : P.1 48 = -2) (a : Int32) : ∃ μ', fM_whose_b55 N N P a (P.2.1 7 0) (-2) (-2) 0 = some (μ', if a = 0 then (whS (fun s => totS n c (mSj P 7 0 (nI s)) Y) n).1 else (whS (fun s => totS n c (mSj P 7 0 (nI s)) Y) n).2) ∧ mFr P μ' := by
  have o1 := O.1
  obtain ⟨m, t, ⟨⟨v, h1⟩, h2⟩, e⟩ := pl_for (fun m j (t : mS × Int32 × Int32) => fM_whose_b55 N m t.1 a (P.2.1 7 0) t.2.1 t.2.2 (nI j)) n (fun j t => (∃ v, mFr (mSj P 7 0 v) t.1) ∧ t.2 = whS (fun s => totS n c (mSj P 7 0 (nI s)) Y) j) (by
    intro j t hj ⟨⟨v, h1⟩, h2⟩
    obtain ⟨t0, b, l⟩ := t
    simp only at h1 h2 ⊢
    have h1' := h1.cell (by decide) (nI j)
    have O2 := O.lead (show j ≤ 7 by omega)
    obtain ⟨t1, e1, f1, _⟩ := M_marksNow O2 (pLaw.to (m := P) (m' := mSj P 7 0 (nI j)) rfl rfl (fun k q1 q2 => mSj_n _ (by omega) _ _) hL) hN (Or.inl hs0) h1'
    have hm : t0.1 0 = nI n := (h1.1 0 (by decide)).trans O.2.2.1
    have h2a : b = (whS (fun s => totS n c (mSj P 7 0 (nI s)) Y) j).1 := by rw [← h2]
    have h2b : l = (whS (fun s => totS n c (mSj P 7 0 (nI s)) Y) j).2 := by rw [← h2]
    refine ⟨(t1, whS (fun s => totS n c (mSj P 7 0 (nI s)) Y) (j + 1)), ⟨⟨nI j, f1⟩, rfl⟩, fun m => ?_⟩
    simp only [fM_whose_b55, nmvE, hm, pl_c03, show (0 : Int32).toNatClampNeg = 0 from rfl]
    rw [if_neg (nI_ge hj (by omega)), e1, whS_succ]
    simp only [obi, h2a, h2b]
    by_cases hc1 : (whS (fun s => totS n c (mSj P 7 0 (nI s)) Y) j).1 = -2
    · rw [if_pos hc1, if_pos (Or.inl hc1)]
      simp only [fM_whose_b95, fM_whose_b103, nmvE, nI_1]
    · rw [if_neg hc1]
      by_cases hc2 : totS n c (mSj P 7 0 (nI j)) Y < (whS (fun s => totS n c (mSj P 7 0 (nI s)) Y) j).2
      · rw [if_pos hc2, if_pos (Or.inr hc2)]
        simp only [fM_whose_b95, fM_whose_b103, nmvE, nI_1]
      · rw [if_neg hc2, if_neg (fun z => z.elim hc1 hc2)]
        simp only [fM_whose_b103, nmvE, nI_1]) N 0 (P, -2, -2) (by omega) (Nat.zero_le _) ⟨⟨P.2.1 7 0, by simp only [mSj_self]; exact mFr.rf⟩, rfl⟩
  obtain ⟨t0, b, l⟩ := t
  simp only at h1 h2
  refine ⟨mSj t0 7 0 (P.2.1 7 0), ?_, h1.back (by decide)⟩
  have e2 : fM_whose_b55 N N P a (P.2.1 7 0) (-2) (-2) 0 = fM_whose_b55 N (m + 1) t0 a (P.2.1 7 0) b l (nI n) := e
  rw [e2]
  simp only [fM_whose_b55, nmvE, (h1.1 0 (by decide)).trans O.2.2.1, pl_c03, show (0 : Int32).toNatClampNeg = 0 from rfl]
  rw [if_pos (nI_le (Nat.le_refl _) (by omega)), ← h2]
  split <;> rfl
theorem op_whose {x : xS} {m : mS} (R : pRel x m) {N : Nat} (hN : 400 < N) (a0 a1 : Int32) : Sim (fX_whose N x a0 a1) (fM_whose N m a0 a1) := by
  simp only [fX_whose, fM_whose, pl_xsh, pl_msh, obi, pl_if0, pl_in, pl_wi]
  by_cases h0 : 0 ≤ a0 ∧ a0 ≤ 5
  · rw [if_pos h0, if_pos h0]
    by_cases h1 : 0 ≤ a1 ∧ a1 ≤ 1
    · rw [if_pos h1, if_pos h1]
      obtain ⟨j, hj, rfl⟩ := pl_rng (b := 5) (by decide) h0
      obtain ⟨x1, r, e1, q1, e2, -, -, hr⟩ := lay R hN (show j < 6 by omega)
      rw [e1, e2]
      simp only [obi]
      rcases hr with rfl | rfl | ⟨rfl, n, c, m1, e3, q2, V, O, s48, R1, -, -⟩
      · rw [if_neg (by decide), if_neg (by decide)]
        exact ⟨x1, m, -11, rfl, rfl, R.qu q1 mQu.rf⟩
      · rw [if_neg (by decide), if_neg (by decide)]
        exact ⟨x1, m, -12, rfl, rfl, R.qu q1 mQu.rf⟩
      · rw [if_pos z00, if_pos z00, e3]
        obtain ⟨x2, e5, f5⟩ := X_whose V O hN a1
        obtain ⟨m2, e6, f6⟩ := M_whose O V.2.2.2.2.2.2.2 hN s48 a1
        simp only [obi, nmvE, pl_c03, show (0 : Int32).toNatClampNeg = 0 from rfl]
        rw [e5, e6]
        exact ⟨x2, m2, _, rfl, rfl, R1.qu f5.qu f6.qu⟩
    · rw [if_neg h1, if_neg h1]
      exact ⟨x, m, -1, rfl, rfl, R⟩
  · rw [if_neg h0, if_neg h0]
    exact ⟨x, m, -1, rfl, rfl, R⟩
