/-! Breath -/
def unB (P : mS) (k : Nat) : Prop := P.2.1 45 k = 1 ∨ P.2.1 45 k = 2
theorem X_below (N : Nat) (σ : xS) (v : Int32) : fX_isBelow N σ v = some (σ, if v = 1 ∨ v = 2 then 1 else 0) := by
  unfold fX_isBelow
  by_cases h1 : v = 1
  · rw [if_pos h1, if_pos (Or.inl h1), pl_b1]
  · rw [if_neg h1]
    by_cases h2 : v = 2
    · rw [if_pos h2, if_pos (Or.inr h2), pl_b1]
    · rw [if_neg h2, if_neg (fun q => q.elim h1 h2), pl_b0]
theorem M_under (N : Nat) (μ : mS) (v : Int32) : fM_isUnder N μ v = some (μ, if v = 1 ∨ v = 2 then 1 else 0) := by
  unfold fM_isUnder
  by_cases h1 : v = 1
  · rw [if_pos h1, if_pos (Or.inl h1), pl_b1]
  · rw [if_neg h1]
    by_cases h2 : v = 2
    · rw [if_pos h2, if_pos (Or.inr h2), pl_b1]
    · rw [if_neg h2, if_neg (fun q => q.elim h1 h2), pl_b0]
def gnS (P : mS) (br : Int32) : Nat → Nat → Int32 → Int32 → Int32
  | 0, _, _, _ => -2
  | m + 1, k, u, a => if P.2.1 45 k = 1 ∨ P.2.1 45 k = 2 then (if u + 1 ≤ br then gnS P br m (k + 1) (u + 1) 0 else nI k) else gnS P br m (k + 1) (if a + 1 < P.2.1 7 2 then u else 0) (a + 1)
def mnS (P : mS) : Nat → Nat → Int32 → Int32 → Int32 → Int32
  | 0, _, _, _, g => g
  | m + 1, k, u, a, g => if P.2.1 45 k = 1 ∨ P.2.1 45 k = 2 then mnS P m (k + 1) (u + 1) 0 (if g < u + 1 then u + 1 else g) else mnS P m (k + 1) (if a + 1 < P.2.1 7 2 then u else 0) (a + 1) g
theorem gnS_cases (P : mS) (br : Int32) : ∀ m k u a, gnS P br m k u a = -2 ∨ ∃ j, j < k + m ∧ gnS P br m k u a = nI j := by
  intro m
  induction m with
  | zero => intro k u a; exact Or.inl rfl
  | succ m ih =>
    intro k u a
    unfold gnS
    have lift : ∀ x, (x = -2 ∨ ∃ j, j < k + 1 + m ∧ x = nI j) → (x = (-2 : Int32) ∨ ∃ j, j < k + (m + 1) ∧ x = nI j) := fun x h => h.imp id fun ⟨j, h1, h2⟩ => ⟨j, by omega, h2⟩
    split
    · split
      · exact lift _ (ih _ _ _)
      · exact Or.inr ⟨k, by omega, rfl⟩
    · exact lift _ (ih _ _ _)
theorem gnS_lt {P : mS} {br : Int32} {m k : Nat} {u a : Int32} (hk : k + m ≤ 100) : gnS P br m k u a < 0 ↔ gnS P br m k u a = -2 := by
  rcases gnS_cases P br m k u a with h | ⟨j, h, e⟩
  · rw [h]; exact ⟨fun _ => rfl, fun _ => by decide⟩
  · rw [e]; exact ⟨fun z => absurd z (nI_pos (by omega)), fun z => absurd z (pl_m2 (by omega))⟩
theorem X_goneAt {n c : Nat} {P : mS} {σ : xS} (V : pVw n c P σ) (O : pOk n c P) {N : Nat} (hN : 400 < N) (br : Int32) : ∃ σ', fX_goneAt N σ br = some (σ', gnS P br c 0 0 0) ∧ qFr σ σ' ∧ xI σ' 19 = mnS P c 0 0 0 0 := by
  have o2 := O.2.1
  have h0 : qFr σ (xSi σ 19 0) := qFr.rf.si 0
  obtain ⟨m, t, ⟨h1, h2, h3, h4⟩, e⟩ := pl_for (fun m j (t : xS × Int32 × Int32 × Int32) => fX_goneAt_b16 N m t.1 br t.2.1 t.2.2.1 t.2.2.2 (nI j)) c (fun j t => qFr σ t.1 ∧ (if 0 ≤ t.2.2.2 then t.2.2.2 else gnS P br (c - j) j t.2.1 t.2.2.1) = gnS P br c 0 0 0 ∧ mnS P (c - j) j t.2.1 t.2.2.1 (xI t.1 19) = mnS P c 0 0 0 0 ∧ (t.2.2.2 = -2 ∨ 0 ≤ t.2.2.2)) (by
    intro j t hj ⟨h1, h2, h3, h4⟩
    obtain ⟨t0, u, a, F⟩ := t
    simp only at h1 h2 h3 h4 ⊢
    have V' := V.fr h1
    have hd := V'.2.2.2.2.2.1 j hj
    have hg := V'.2.2.2.1.2.2
    rw [show c - j = (c - (j + 1)) + 1 from by omega] at h2 h3
    simp only [gnS] at h2
    simp only [mnS] at h3
    by_cases hu : P.2.1 45 j = 1 ∨ P.2.1 45 j = 2
    · simp only [if_pos hu] at h2 h3
      have hq : qFr σ (xSi t0 19 (if xI t0 19 < u + 1 then u + 1 else xI t0 19)) := h1.si _
      by_cases hF : 0 ≤ F
      · rw [if_pos hF] at h2
        refine ⟨(xSi t0 19 (if xI t0 19 < u + 1 then u + 1 else xI t0 19), u + 1, 0, F), ⟨hq, ?_, ?_, h4⟩, fun m => ?_⟩
        · simp only; rw [if_pos hF]; exact h2
        · simp only; rw [xSi_s]; exact h3
        · simp only [fX_goneAt_b16, fX_goneAt_b85, nmvE, V'.2.2.2.2.1]
          rw [if_neg (nI_ge hj (by omega)), pl_ck rfl (show j < 60 by omega) (by decide), nI_clamp (by omega), hd]
          simp only [X_below, obi, pl_if0]
          rw [if_pos hu, if_pos hF, nI_1]
      · rw [if_neg hF] at h2
        by_cases hb : u + 1 ≤ br
        · rw [if_pos hb] at h2
          refine ⟨(xSi t0 19 (if xI t0 19 < u + 1 then u + 1 else xI t0 19), u + 1, 0, F), ⟨hq, ?_, ?_, h4⟩, fun m => ?_⟩
          · simp only; rw [if_neg hF]; exact h2
          · simp only; rw [xSi_s]; exact h3
          · simp only [fX_goneAt_b16, fX_goneAt_b85, nmvE, V'.2.2.2.2.1]
            rw [if_neg (nI_ge hj (by omega)), pl_ck rfl (show j < 60 by omega) (by decide), nI_clamp (by omega), hd]
            simp only [X_below, obi, pl_if0]
            rw [if_pos hu, if_neg hF, if_pos hb, nI_1]
        · rw [if_neg hb] at h2
          refine ⟨(xSi t0 19 (if xI t0 19 < u + 1 then u + 1 else xI t0 19), u + 1, 0, nI j), ⟨hq, ?_, ?_, Or.inr (nI_pos' (by omega))⟩, fun m => ?_⟩
          · simp only; rw [if_pos (nI_pos' (by omega))]; exact h2
          · simp only; rw [xSi_s]; exact h3
          · simp only [fX_goneAt_b16, fX_goneAt_b85, nmvE, V'.2.2.2.2.1]
            rw [if_neg (nI_ge hj (by omega)), pl_ck rfl (show j < 60 by omega) (by decide), nI_clamp (by omega), hd]
            simp only [X_below, obi, pl_if0]
            rw [if_pos hu, if_neg hF, if_neg hb, nI_1]
    · simp only [if_neg hu] at h2 h3
      refine ⟨(t0, if a + 1 < P.2.1 7 2 then u else 0, a + 1, F), ⟨h1, h2, h3, h4⟩, fun m => ?_⟩
      simp only [fX_goneAt_b16, fX_goneAt_b85, nmvE, V'.2.2.2.2.1]
      rw [if_neg (nI_ge hj (by omega)), pl_ck rfl (show j < 60 by omega) (by decide), nI_clamp (by omega), hd]
      simp only [X_below, obi, pl_if0]
      rw [if_neg hu, hg]
      by_cases hga : a + 1 < P.2.1 7 2
      · rw [if_pos hga, if_pos hga, nI_1]
      · rw [if_neg hga, if_neg hga, nI_1]) N 0 (xSi σ 19 0, 0, 0, -2) (by omega) (Nat.zero_le _) ⟨h0, by simp only; rw [if_neg (by decide)]; rfl, by simp only; rw [xSi_s]; rfl, Or.inl rfl⟩
  obtain ⟨t0, u, a, F⟩ := t
  simp only [Nat.sub_self] at h1 h2 h3 h4
  refine ⟨t0, ?_, h1, h3⟩
  have e2 : fX_goneAt N σ br = fX_goneAt_b16 N (m + 1) t0 br u a F (nI c) := e
  rw [e2]
  simp only [fX_goneAt_b16, nmvE, (V.fr h1).2.2.2.2.1]
  rw [if_pos (nI_le (Nat.le_refl _) (by omega))]
  rcases h4 with h4 | h4
  · subst h4
    rw [if_neg (by decide)] at h2
    rw [← h2]
    rfl
  · rw [if_pos h4] at h2
    rw [h2]
theorem M_goneAt {n c : Nat} {P : mS} (O : pOk n c P) {N : Nat} (hN : 400 < N) {μ : mS} (hf : mFr P μ) (br : Int32) : fM_goneAt N μ br = some (μ, gnS P br c 0 0 0) := by
  have o2 := O.2.1
  have o4 := O.2.2.2.1
  have k45 := hf.2.1 45 (by decide) (by decide) (by decide) (by decide)
  have k7 := hf.2.1 7 (by decide) (by decide) (by decide) (by decide)
  obtain ⟨u, hu, e⟩ := pl_lp (fun m j (t : Int32 × Int32) => fM_goneAt_b7 N m μ br t.1 t.2 (nI j)) (fun _ : Unit => some (μ, gnS P br c 0 0 0)) c (fun j t => gnS P br (c - j) j t.1 t.2 = gnS P br c 0 0 0) (fun _ => True) (by
    intro j t hj h
    obtain ⟨u, a⟩ := t
    simp only at h ⊢
    by_cases hjc : c ≤ j
    · refine Or.inr ⟨(), trivial, fun m => ?_⟩
      simp only [fM_goneAt_b7, nmvE, hf.1 44 (by decide), o4]
      rw [if_pos (nI_le hjc (by omega)), ← h, show c - j = 0 from by omega]
      rfl
    · rw [show c - j = (c - (j + 1)) + 1 from by omega] at h
      simp only [gnS] at h
      by_cases hu : P.2.1 45 j = 1 ∨ P.2.1 45 j = 2
      · rw [if_pos hu] at h
        by_cases hb : u + 1 ≤ br
        · rw [if_pos hb] at h
          refine Or.inl ⟨by omega, (u + 1, 0), h, fun m => ?_⟩
          simp only [fM_goneAt_b7, fM_goneAt_b57, nmvE, hf.1 44 (by decide), o4, k45]
          rw [if_neg (nI_ge (by omega) (by omega)), pl_ck rfl (show j < 60 by omega) (by decide), nI_clamp (by omega)]
          simp only [M_under, obi, pl_if0]
          rw [if_pos hu, if_pos hb, nI_1]
        · rw [if_neg hb] at h
          refine Or.inr ⟨(), trivial, fun m => ?_⟩
          simp only [fM_goneAt_b7, fM_goneAt_b57, nmvE, hf.1 44 (by decide), o4, k45]
          rw [if_neg (nI_ge (by omega) (by omega)), pl_ck rfl (show j < 60 by omega) (by decide), nI_clamp (by omega)]
          simp only [M_under, obi, pl_if0]
          rw [if_pos hu, if_neg hb, h]
      · rw [if_neg hu] at h
        refine Or.inl ⟨by omega, (if a + 1 < P.2.1 7 2 then u else 0, a + 1), h, fun m => ?_⟩
        simp only [fM_goneAt_b7, fM_goneAt_b57, nmvE, hf.1 44 (by decide), o4, k45]
        rw [if_neg (nI_ge (by omega) (by omega)), pl_ck rfl (show j < 60 by omega) (by decide), nI_clamp (by omega)]
        simp only [M_under, obi, pl_if0, pl_c23, k7, show (2 : Int32).toNatClampNeg = 2 from rfl]
        rw [if_neg hu]
        by_cases hga : a + 1 < P.2.1 7 2
        · rw [if_pos hga, if_pos hga, nI_1]
        · rw [if_neg hga, if_neg hga, nI_1]) N 0 (0, 0) (by omega) (Nat.zero_le _) rfl
  exact e
def bitsS (p : Nat → Bool) : Nat → Int32
  | 0 => 0
  | s + 1 => if p s = true then bitsS p s ||| (1 <<< (nI s &&& 31)) else bitsS p s
theorem bitsS_succ (p : Nat → Bool) (s : Nat) : bitsS p (s + 1) = if p s = true then bitsS p s ||| (1 <<< (nI s &&& 31)) else bitsS p s := rfl
def gnB (P : mS) (c : Nat) (s : Nat) : Bool := decide (¬ gnS P (P.2.1 4 s) c 0 0 0 = -2)
theorem X_allGone {n c : Nat} {P : mS} {σ : xS} (V : pVw n c P σ) (O : pOk n c P) {N : Nat} (hN : 400 < N) : ∃ σ', fX_allGone N σ = some (σ', bitsS (gnB P c) n) ∧ qFr σ σ' := by
  have o1 := O.1
  have o2 := O.2.1
  obtain ⟨m, t, ⟨h1, h2⟩, e⟩ := pl_for (fun m j (t : xS × Int32) => fX_allGone_b4 N m t.1 t.2 (nI j)) n (fun j t => qFr σ t.1 ∧ t.2 = bitsS (gnB P c) j) (by
    intro j t hj ⟨h1, h2⟩
    have V' := V.fr h1
    obtain ⟨t1, e1, f1, _⟩ := X_goneAt V' O hN (P.2.1 4 j)
    refine ⟨(t1, bitsS (gnB P c) (j + 1)), ⟨h1.tr f1, rfl⟩, fun m => ?_⟩
    simp only [fX_allGone_b4, fX_allGone_b34, nmvE, V'.1]
    rw [if_neg (nI_ge hj (by omega)), pl_ck rfl (show j < 8 by omega) (by decide), nI_clamp (by omega), pl_cl (by rw [V'.2.1]; exact hj), pl_cl (by rw [V'.2.1]; exact hj), V'.2.2.1 j hj 3 (by decide), e1]
    simp only [obi, nI_1, h2]
    rw [bitsS_succ]
    by_cases hz : gnS P (P.2.1 4 j) c 0 0 0 = -2
    · rw [if_pos ((gnS_lt (by omega)).mpr hz), if_neg (show ¬ gnB P c j = true from by unfold gnB; simp [hz])]
    · rw [if_neg (fun q => hz ((gnS_lt (by omega)).mp q)), if_pos (show gnB P c j = true from by unfold gnB; simp [hz])]) N 0 (σ, 0) (by omega) (Nat.zero_le _) ⟨qFr.rf, rfl⟩
  refine ⟨t.1, ?_, h1⟩
  have e2 : fX_allGone N σ = fX_allGone_b4 N (m + 1) t.1 t.2 (nI n) := e
  rw [e2]
  simp only [fX_allGone_b4, nmvE, (V.fr h1).1]
  rw [if_pos (nI_le (Nat.le_refl _) (by omega)), h2]
theorem M_goneBits {n c : Nat} {P : mS} (O : pOk n c P) {N : Nat} (hN : 400 < N) {μ : mS} (hf : mFr P μ) : fM_goneBits N μ = some (μ, bitsS (gnB P c) n) := by
  have o1 := O.1
  have o3 := O.2.2.1
  have k4 := hf.2.1 4 (by decide) (by decide) (by decide) (by decide)
  obtain ⟨m, t, h2, e⟩ := pl_for (fun m j (t : Int32) => fM_goneBits_b4 N m μ t (nI j)) n (fun j t => t = bitsS (gnB P c) j) (by
    intro j t hj h2
    refine ⟨bitsS (gnB P c) (j + 1), rfl, fun m => ?_⟩
    simp only [fM_goneBits_b4, fM_goneBits_b33, nmvE, hf.1 0 (by decide), o3, k4]
    rw [if_neg (nI_ge hj (by omega)), pl_ck rfl (show j < 8 by omega) (by decide), nI_clamp (by omega), M_goneAt O hN hf]
    simp only [obi, nI_1, h2]
    rw [bitsS_succ]
    by_cases hz : gnS P (P.2.1 4 j) c 0 0 0 = -2
    · rw [if_pos hz, if_neg (show ¬ gnB P c j = true from by unfold gnB; simp [hz])]
    · rw [if_neg hz, if_pos (show gnB P c j = true from by unfold gnB; simp [hz])]) N 0 0 (by omega) (Nat.zero_le _) rfl
  have e2 : fM_goneBits N μ = fM_goneBits_b4 N (m + 1) μ t (nI n) := e
  rw [e2]
  simp only [fM_goneBits_b4, nmvE, hf.1 0 (by decide), o3]
  rw [if_pos (nI_le (Nat.le_refl _) (by omega)), h2]
