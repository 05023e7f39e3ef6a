/-! The first count of a kind; breath -/
def fstS (p : Nat → Bool) : Nat → Nat → Int32
  | 0, _ => -2
  | m + 1, k => if p k = true then nI k else fstS p m (k + 1)
theorem fstS_step {p : Nat → Bool} {c k : Nat} (h : k < c) : fstS p (c - k) k = if p k = true then nI k else fstS p (c - (k + 1)) (k + 1) := by
  rw [show c - k = (c - (k + 1)) + 1 from by omega]
  rfl
theorem fstS_end {p : Nat → Bool} {c k : Nat} (h : c ≤ k) : fstS p (c - k) k = -2 := by
  rw [show c - k = 0 from by omega]
  rfl
theorem fstS_cases (p : Nat → Bool) : ∀ m k, fstS p m k = -2 ∨ ∃ j, j < k + m ∧ fstS p m k = nI j := by
  intro m
  induction m with
  | zero => intro k; exact Or.inl rfl
  | succ m ih =>
    intro k
    unfold fstS
    split
    · exact Or.inr ⟨k, by omega, rfl⟩
    · rcases ih (k + 1) with h | ⟨j, h, e⟩
      · exact Or.inl h
      · exact Or.inr ⟨j, by omega, e⟩
theorem fstS_congr {p q : Nat → Bool} : ∀ m k, (∀ j, k ≤ j → j < k + m → p j = q j) → fstS p m k = fstS q m k := by
  intro m
  induction m with
  | zero => intro k _; rfl
  | succ m ih =>
    intro k h
    unfold fstS
    rw [h k (Nat.le_refl _) (by omega), ih (k + 1) (fun j h1 h2 => h j (by omega) (by omega))]
theorem fstS_lt {p : Nat → Bool} (m k : Nat) (hk : k + m ≤ 100) : fstS p m k < 0 ↔ fstS p m k = -2 := by
  rcases fstS_cases p m k with h | ⟨j, h, e⟩
  · rw [h]; exact ⟨fun _ => rfl, fun _ => by decide⟩
  · rw [e]; exact ⟨fun z => absurd z (nI_pos (by omega)), fun z => absurd z (pl_m2 (by omega))⟩
theorem mxS_congr {P : mS} {n : Nat} {d d' : Nat → Int32} (h : ∀ s, s < n → d s = d' s) : mxS P d n = mxS P d' n := by
  unfold mxS
  refine prA_congr fun a b x h1 h2 => ?_
  rw [apS_congr h (show a < n by omega) h2]
def seenB (P : mS) (n : Nat) (k : Nat) : Bool := decide (¬ mxS P (drS P ex0 (k + 1)) n < P.2.1 7 1)
theorem ex0_bd {n : Nat} : ∀ k s, s < n → pBd (ex0 k s) 1 := fun _ _ _ => pBd0 (by decide)
theorem dr0_bd {n c : Nat} {P : mS} (O : pOk n c P) : ∀ k, k ≤ 60 → ∀ s, s < n → pBd (drS P ex0 k s) 6540 := fun k hk s hs => (drS_bd O ex0_bd k hk s hs).mono (by omega)
theorem X_firstSeen {n c : Nat} {P : mS} {σ : xS} (V : pVw n c P σ) (O : pOk n c P) {N : Nat} (hN : 400 < N) : ∃ σ', fX_firstSeen N σ = some (σ', fstS (seenB P n) c 0) ∧ qFr σ σ' := by
  obtain ⟨σ0, e0, b1, b2⟩ := X_begin V O (show 100 < N by omega)
  have o2 := O.2.1
  obtain ⟨u, hu, e⟩ := pl_lp (fun m j t => fX_firstSeen_b6 N m t (nI j)) (fun t : xS => some (t, fstS (seenB P n) c 0)) c (fun j t => qFr σ t ∧ (∀ s, s < n → xJ t 13 s = drS P ex0 j s) ∧ fstS (seenB P n) c 0 = fstS (seenB P n) (c - j) j) (fun t => qFr σ t) (by
    intro j t hj ⟨h1, h2, h3⟩
    have V' := V.fr h1
    by_cases hjc : c ≤ j
    · refine Or.inr ⟨t, h1, fun m => ?_⟩
      simp only [fX_firstSeen_b6, nmvE, V'.2.2.2.2.1]
      rw [if_pos (nI_le hjc (by omega)), h3, fstS_end hjc]
    · obtain ⟨t', f1, f2, f4, f3⟩ := X_goCount V' O (show 100 < N by omega) (k := j) (by omega) h2
      have f5 : ∀ s, s < n → xJ t' 13 s = drS P ex0 (j + 1) s := fun s hs => by rw [f3 s hs, drS_0 P j O s hs]
      have V2 := V'.fr f2
      have hs := fstS_step (p := seenB P n) (show j < c by omega)
      rw [← h3] at hs
      by_cases hp : mxS P (drS P ex0 (j + 1)) n < P.2.1 7 1
      · rw [if_neg (show ¬ seenB P n j = true from by unfold seenB; simp [hp])] at hs
        refine Or.inl ⟨by omega, t', ⟨h1.tr f2, f5, hs⟩, fun m => ?_⟩
        simp only [fX_firstSeen_b6, nmvE, V'.2.2.2.2.1]
        rw [if_neg (nI_ge (by omega) (by omega)), f1]
        simp only [obi]
        rw [X_apartNow V2 O (show 100 < N by omega) f5]
        simp only [obi, V2.2.2.2.1.2.1]
        rw [if_pos hp, nI_1]
      · rw [if_pos (show seenB P n j = true from by unfold seenB; simp [hp])] at hs
        refine Or.inr ⟨t', h1.tr f2, fun m => ?_⟩
        simp only [fX_firstSeen_b6, nmvE, V'.2.2.2.2.1]
        rw [if_neg (nI_ge (by omega) (by omega)), f1]
        simp only [obi]
        rw [X_apartNow V2 O (show 100 < N by omega) f5]
        simp only [obi, V2.2.2.2.1.2.1]
        rw [if_neg hp, hs]) N 0 σ0 (by omega) (Nat.zero_le _) ⟨b1, b2, rfl⟩
  refine ⟨u, ?_, hu⟩
  unfold fX_firstSeen
  rw [e0]
  exact e
theorem M_firstApart {n c : Nat} {P : mS} (O : pOk n c P) {N : Nat} (hN : 400 < N) {μ : mS} (hf : mFr P μ) (hr : mRows n (drS P ex0) c μ) : fM_firstApart N μ = some (μ, fstS (seenB P n) c 0) := by
  have O' := O
  obtain ⟨o1, o2, o3, o4, ⟨js, o5a, o5b, o5⟩, o6, o7, o8, o9⟩ := O
  have k7 := hf.2.1 7 (by decide) (by decide) (by decide) (by decide)
  obtain ⟨u, hu, e⟩ := pl_lp (fun m j (_ : Unit) => fM_firstApart_b2 N m μ (nI j)) (fun _ : Unit => some (μ, fstS (seenB P n) c 0)) c (fun j _ => fstS (seenB P n) c 0 = fstS (seenB P n) (c - j) j) (fun _ => True) (by
    intro j t hj h3
    by_cases hjc : c ≤ j
    · refine Or.inr ⟨(), trivial, fun m => ?_⟩
      simp only [fM_firstApart_b2, nmvE, hf.1 44 (by decide), o4]
      rw [if_pos (nI_le hjc (by omega)), h3, fstS_end hjc]
    · have hs := fstS_step (p := seenB P n) (show j < c by omega)
      rw [← h3] at hs
      by_cases h2 : n ≤ 1
      · have hz : mxS P (drS P ex0 (j + 1)) n = 0 := by
          rcases fa_mx O' (dr0_bd O' (j + 1) (by omega)) with ⟨_, h, _⟩ | ⟨a, b, ha, hb, _⟩
          · exact h
          · omega
        have hp : mxS P (drS P ex0 (j + 1)) n < P.2.1 7 1 := by rw [hz, o5, ← nI_0]; exact nI_lt (by omega) (by omega)
        rw [if_neg (show ¬ seenB P n j = true from by unfold seenB; simp [hp])] at hs
        refine Or.inl ⟨by omega, (), hs, fun m => ?_⟩
        simp only [fM_firstApart_b2, fM_firstApart_b36, nmvE, hf.1 44 (by decide), hf.1 0 (by decide), o3, o4]
        rw [if_neg (nI_ge (by omega) (by omega)), if_pos (show nI n ≤ (1 : Int32) from nI_le h2 (by decide)), nI_1]
      · by_cases hp : mxS P (drS P ex0 (j + 1)) n < P.2.1 7 1
        · rw [if_neg (show ¬ seenB P n j = true from by unfold seenB; simp [hp])] at hs
          refine Or.inl ⟨by omega, (), hs, fun m => ?_⟩
          simp only [fM_firstApart_b2, fM_firstApart_b36, nmvE, hf.1 44 (by decide), hf.1 0 (by decide), o3, o4]
          rw [if_neg (nI_ge (by omega) (by omega)), if_neg (show ¬ nI n ≤ (1 : Int32) from nI_ge (a := 1) (by omega) (by omega)), nI_1, M_greatest O' hf (show 100 < N by omega) (show j + 1 ≤ c by omega) hr (dr0_bd O' (j + 1) (by omega))]
          simp only [obi, pl_c13, k7, show (1 : Int32).toNatClampNeg = 1 from rfl]
          rw [if_pos hp]
        · rw [if_pos (show seenB P n j = true from by unfold seenB; simp [hp])] at hs
          refine Or.inr ⟨(), trivial, fun m => ?_⟩
          simp only [fM_firstApart_b2, fM_firstApart_b36, nmvE, hf.1 44 (by decide), hf.1 0 (by decide), o3, o4]
          rw [if_neg (nI_ge (by omega) (by omega)), if_neg (show ¬ nI n ≤ (1 : Int32) from nI_ge (a := 1) (by omega) (by omega)), nI_1, M_greatest O' hf (show 100 < N by omega) (show j + 1 ≤ c by omega) hr (dr0_bd O' (j + 1) (by omega))]
          simp only [obi, pl_c13, k7, show (1 : Int32).toNatClampNeg = 1 from rfl]
          rw [if_neg hp, hs]) N 0 () (by omega) (Nat.zero_le _) rfl
  exact e
/-- ripples: the first count that isn't as told -/
def wrB (P : mS) (n : Nat) (tl : Nat → Int32) (k : Nat) : Bool := decide (¬ mxS P (drS P ex0 (k + 1)) n = tl k)
theorem X_wrongAt {n c : Nat} {P : mS} {σ : xS} (V : pVw n c P σ) (O : pOk n c P) {N : Nat} (hN : 400 < N) {tm : Nat} (htm : tm ≤ 60) {tl : Nat → Int32} (h25 : xI σ 25 = nI tm) (h24 : ∀ k, k < tm → xJ σ 24 k = tl k) : ∃ σ', fX_wrongAt N σ = some (σ', fstS (wrB P n tl) (min c tm) 0) ∧ qFr σ σ' := by
  obtain ⟨σ0, e0, b1, b2⟩ := X_begin V O (show 100 < N by omega)
  have o2 := O.2.1
  obtain ⟨u, hu, e⟩ := pl_lp (fun m j t => fX_wrongAt_b6 N m t (nI j)) (fun t : xS => some (t, fstS (wrB P n tl) (min c tm) 0)) (min c tm) (fun j t => qFr σ t ∧ (∀ s, s < n → xJ t 13 s = drS P ex0 j s) ∧ fstS (wrB P n tl) (min c tm) 0 = fstS (wrB P n tl) (min c tm - j) j) (fun t => qFr σ t) (by
    intro j t hj ⟨h1, h2, h3⟩
    have V' := V.fr h1
    have t25 : xI t 25 = nI tm := (h1.1 25 (by decide)).trans h25
    by_cases hjc : c ≤ j
    · refine Or.inr ⟨t, h1, fun m => ?_⟩
      simp only [fX_wrongAt_b6, nmvE, V'.2.2.2.2.1]
      rw [if_pos (nI_le hjc (by omega)), h3, fstS_end (by omega)]
    by_cases hjt : tm ≤ j
    · refine Or.inr ⟨t, h1, fun m => ?_⟩
      simp only [fX_wrongAt_b6, nmvE, V'.2.2.2.2.1, t25]
      rw [if_neg (nI_ge (by omega) (by omega)), if_pos (nI_le hjt (by omega)), h3, fstS_end (by omega)]
    obtain ⟨t', f1, f2, f4, f3⟩ := X_goCount V' O (show 100 < N by omega) (k := j) (by omega) h2
    have f5 : ∀ s, s < n → xJ t' 13 s = drS P ex0 (j + 1) s := fun s hs => by rw [f3 s hs, drS_0 P j O s hs]
    have V2 := V'.fr f2
    have t24 : xJ t' 24 j = tl j := by
      rw [(h1.tr f2).2.1 24 (by decide) (by decide) (by decide)]
      exact h24 j (by omega)
    have hs := fstS_step (p := wrB P n tl) (show j < min c tm by omega)
    rw [← h3] at hs
    by_cases hp : mxS P (drS P ex0 (j + 1)) n = tl j
    · rw [if_neg (show ¬ wrB P n tl j = true from by unfold wrB; simp [hp])] at hs
      refine Or.inl ⟨by omega, t', ⟨h1.tr f2, f5, hs⟩, fun m => ?_⟩
      simp only [fX_wrongAt_b6, nmvE, V'.2.2.2.2.1, t25]
      rw [if_neg (nI_ge (by omega) (by omega)), if_neg (nI_ge (by omega) (by omega)), f1]
      simp only [obi]
      rw [X_apartNow V2 O (show 100 < N by omega) f5]
      simp only [obi]
      rw [pl_ck rfl (show j < 60 by omega) (by decide), nI_clamp (by omega), t24, if_pos hp, nI_1]
    · rw [if_pos (show wrB P n tl j = true from by unfold wrB; simp [hp])] at hs
      refine Or.inr ⟨t', h1.tr f2, fun m => ?_⟩
      simp only [fX_wrongAt_b6, nmvE, V'.2.2.2.2.1, t25]
      rw [if_neg (nI_ge (by omega) (by omega)), if_neg (nI_ge (by omega) (by omega)), f1]
      simp only [obi]
      rw [X_apartNow V2 O (show 100 < N by omega) f5]
      simp only [obi]
      rw [pl_ck rfl (show j < 60 by omega) (by decide), nI_clamp (by omega), t24, if_neg hp, hs]) N 0 σ0 (by omega) (Nat.zero_le _) ⟨b1, b2, rfl⟩
  refine ⟨u, ?_, hu⟩
  unfold fX_wrongAt
  rw [e0]
  exact e
theorem noex {n : Nat} {P : mS} {z : Int32} : ∀ k s, s < n → ((0 : Int32) = 0 → ex0 k s = 0 ∧ (fun _ : Nat => z) (k * n + s + 1) = (fun _ : Nat => z) (k * n + s)) ∧ ((0 : Int32) = 1 → (fun _ : Nat => z) (k * n + s + 1) = (fun _ : Nat => z) (k * n + s) * 1103515245 + 12345 ∧ ex0 k s = if P.1 52 ≤ eZ ((fun _ : Nat => z) (k * n + s + 1)) then 0 else 1) :=
  fun _ _ _ => ⟨fun _ => ⟨rfl, rfl⟩, fun h => absurd h (by decide)⟩
theorem M_drifts0 {n c : Nat} {P : mS} (O : pOk n c P) {N : Nat} (hN : 400 < N) (hs0 : P.1 48 = -2 ∨ ∃ s, s < n ∧ P.1 48 = nI s) {μ : mS} (hf : mFr P μ) : ∃ μ', fM_drifts N μ 0 = some (μ', ()) ∧ mFr P μ' ∧ mRows n (drS P ex0) c μ' ∧ μ'.2.1 47 = μ.2.1 47 := by
  obtain ⟨μ', q1, q2, q3, q4, q5⟩ := M_drifts O (show 100 < N by omega) hs0 (a := 0) (Or.inl rfl) (ex := ex0) (zK := fun _ => μ.1 51) noex hf rfl
  exact ⟨μ', q1, q2, q3, q5⟩
theorem M_wrong {n c : Nat} {P : mS} (O : pOk n c P) {N : Nat} (hN : 400 < N) (hs0 : P.1 48 = -2 ∨ ∃ s, s < n ∧ P.1 48 = nI s) {μ : mS} (hf : mFr P μ) {tm j : Nat} (htm : tm ≤ 60) {sr : Nat} (hsr : sr < 60) (hj : sr % 10 = j) (hj6 : j < 6) {tl : Nat → Int32} (h42 : P.2.1 42 j = nI tm) (h43 : ∀ k, k < tm → P.2.2 (60 * j + k) = (tl k).toInt64) : ∃ μ', fM_wrong N μ (nI sr) = some (μ', fstS (wrB P n tl) (min c tm) 0) ∧ mFr P μ' := by
  have O' := O
  obtain ⟨μ1, e1, f1, r1, _⟩ := M_drifts0 O hN hs0 hf
  obtain ⟨o1, o2, o3, o4, o5, o6, o7, o8, o9⟩ := O
  have hm : nI sr - nI sr / 10 * 10 = nI j := by
    have := pl_mod (a := sr) (b := 10) (by omega) (by decide) (by decide)
    rw [hj] at this
    exact this
  have k42 := f1.2.1 42 (by decide) (by decide) (by decide) (by decide)
  obtain ⟨u, hu, e⟩ := pl_lp (fun m k (_ : Unit) => fM_wrong_b7 N m μ1 (nI sr) (nI k)) (fun _ : Unit => some (μ1, fstS (wrB P n tl) (min c tm) 0)) (min c tm) (fun k _ => fstS (wrB P n tl) (min c tm) 0 = fstS (wrB P n tl) (min c tm - k) k) (fun _ => True) (by
    intro k t hk h3
    by_cases hjc : c ≤ k
    · refine Or.inr ⟨(), trivial, fun m => ?_⟩
      simp only [fM_wrong_b7, nmvE, f1.1 44 (by decide), o4]
      rw [if_pos (nI_le hjc (by omega)), h3, fstS_end (by omega)]
    by_cases hjt : tm ≤ k
    · refine Or.inr ⟨(), trivial, fun m => ?_⟩
      simp only [fM_wrong_b7, nmvE, f1.1 44 (by decide), o4, pl_cz10, hm]
      rw [if_neg (nI_ge (by omega) (by omega)), pl_ck rfl hj6 (by decide), nI_clamp (by omega), k42, h42, if_pos (nI_le hjt (by omega)), h3, fstS_end (by omega)]
    have hs := fstS_step (p := wrB P n tl) (show k < min c tm by omega)
    rw [← h3] at hs
    have hv : μ1.2.2 (60 * j + k) = (tl k).toInt64 := by rw [f1.2.2]; exact h43 k (by omega)
    have hcmp : lg_cmp (tl k).toInt64 (mxS P (drS P ex0 (k + 1)) n).toInt64 = 0 ↔ mxS P (drS P ex0 (k + 1)) n = tl k := by
      rw [lg_cmp_eq]
      refine ⟨fun h => ?_, fun h => by rw [h]⟩
      have h2 := congrArg Int64.toInt32 h
      rw [Int32.toInt32_toInt64, Int32.toInt32_toInt64] at h2
      exact h2.symm
    by_cases hp : mxS P (drS P ex0 (k + 1)) n = tl k
    · rw [if_neg (show ¬ wrB P n tl k = true from by unfold wrB; simp [hp])] at hs
      refine Or.inl ⟨by omega, (), hs, fun m => ?_⟩
      simp only [fM_wrong_b7, nmvE, f1.1 44 (by decide), o4, pl_cz10, hm]
      rw [if_neg (nI_ge (by omega) (by omega)), pl_ck rfl hj6 (by decide), nI_clamp (show j < 2 ^ 31 by omega), k42, h42, if_neg (nI_ge (by omega) (by omega)), pl_i60, pl_ck rfl (show 60 * j + k < 360 by omega) (by decide), nI_clamp (by omega), hv, nI_1, M_greatest O' f1 (show 100 < N by omega) (show k + 1 ≤ c by omega) r1 (dr0_bd O' (k + 1) (by omega))]
      simp only [obi]
      rw [if_pos (hcmp.mpr hp)]
    · rw [if_pos (show wrB P n tl k = true from by unfold wrB; simp [hp])] at hs
      refine Or.inr ⟨(), trivial, fun m => ?_⟩
      simp only [fM_wrong_b7, nmvE, f1.1 44 (by decide), o4, pl_cz10, hm]
      rw [if_neg (nI_ge (by omega) (by omega)), pl_ck rfl hj6 (by decide), nI_clamp (show j < 2 ^ 31 by omega), k42, h42, if_neg (nI_ge (by omega) (by omega)), pl_i60, pl_ck rfl (show 60 * j + k < 360 by omega) (by decide), nI_clamp (by omega), hv, nI_1, M_greatest O' f1 (show 100 < N by omega) (show k + 1 ≤ c by omega) r1 (dr0_bd O' (k + 1) (by omega))]
      simp only [obi]
      rw [if_neg (fun q => hp (hcmp.mp q)), hs]) N 0 () (by omega) (Nat.zero_le _) rfl
  refine ⟨μ1, ?_, f1⟩
  unfold fM_wrong
  rw [e1]
  exact e
