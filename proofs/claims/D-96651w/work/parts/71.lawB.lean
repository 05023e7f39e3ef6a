/-! The plain law: what a routine's drift is. P: the reference's state as it stood when the routine was read -/
theorem pl_i8 (k o : Nat) : (((8 : Int32) * nI k) + 8) + nI o = nI (8 * k + 8 + o) := by
  rw [show (8 : Int32) = nI 8 from rfl, nI_mul, nI_add, nI_add]
theorem pl_i88 (k o : Nat) : ((8 : Int32) * nI k) + nI o = nI (8 * k + o) := by
  rw [show (8 : Int32) = nI 8 from rfl, nI_mul, nI_add]
theorem pl_i10 (k o : Nat) : ((10 : Int32) * nI k) + nI o = nI (10 * k + o) := by
  rw [show (10 : Int32) = nI 10 from rfl, nI_mul, nI_add]
theorem pl_i60 (k o : Nat) : ((60 : Int32) * nI k) + nI o = nI (60 * k + o) := by
  rw [show (60 : Int32) = nI 60 from rfl, nI_mul, nI_add]
/-- the law's codes: how many values lie on the stack behind them -/
def rpnD : Nat → List Int32 → Option Nat
  | d, [] => some d
  | d, c :: cs => if 18 ≤ c then rpnD (d + 1) cs else if 0 ≤ c ∧ c ≤ 5 then rpnD (d + 1) cs else if c = 16 ∨ c = 17 then (if d = 0 then none else rpnD d cs) else if 6 ≤ c ∧ c ≤ 15 then (if d < 2 then none else rpnD (d - 1) cs) else none
def pCode (P : mS) (pos : Nat) (c : List Int32) : Prop := ∀ i, i < c.length → P.2.1 17 (pos + i) = c.getD i 0
def pLn (P : mS) : Nat → Nat → List (List Int32 × List Int32) → Prop
  | j, _, [] => P.1 13 = nI j ∧ j ≤ 60
  | j, pos, x :: xs => j < 60 ∧ P.2.1 14 j = nI pos ∧ P.2.1 15 j = nI (pos + x.1.length) ∧ P.2.1 16 j = nI (pos + x.1.length + x.2.length) ∧ pos + x.1.length + x.2.length ≤ 120 ∧ pCode P pos x.1 ∧ pCode P (pos + x.1.length) x.2 ∧ (x.1 = [] ∨ rpnD 0 x.1 = some 1) ∧ rpnD 0 x.2 = some 1 ∧ pLn P (j + 1) (pos + x.1.length + x.2.length) xs
def pLaw (P : mS) (Y : Option (List (List Int32 × List Int32))) : Prop := (P.1 12 = 0 ∧ Y = none) ∨ (∃ ls, P.1 12 = 1 ∧ Y = some ls ∧ pLn P 0 0 ls)
def pSlip (n : Nat) (P : mS) (σ : xS) : Prop := (P.1 48 = -2 ∧ xI σ 17 = -2) ∨ (∃ s, s < n ∧ P.1 48 = nI s ∧ xI σ 16 = nI s ∧ xI σ 17 = P.1 49 ∧ xI σ 18 = P.1 50)
/-- the class's state as the reference's -/
def pVw (n c : Nat) (P : mS) (σ : xS) : Prop :=
  xI σ 1 = nI n ∧ xn σ = n ∧ (∀ s, s < n → ∀ k, k < 6 → xE σ s k = P.2.1 (k + 1) s) ∧ (xI σ 2 = P.2.1 7 0 ∧ xI σ 3 = P.2.1 7 1 ∧ xI σ 4 = P.2.1 7 2) ∧ xI σ 15 = nI c ∧ (∀ k, k < c → xJ σ 12 k = P.2.1 45 k) ∧ pSlip n P σ ∧ pLaw P (xY σ)
def pBd (x : Int32) (b : Int) : Prop := -b ≤ x.toInt ∧ x.toInt ≤ b
def pOk (n c : Nat) (P : mS) : Prop :=
  n ≤ 8 ∧ c ≤ 60 ∧ P.1 0 = nI n ∧ P.1 44 = nI c ∧ (∃ j, 1 ≤ j ∧ j ≤ 999 ∧ P.2.1 7 1 = nI j) ∧ (∃ j, 1 ≤ j ∧ j ≤ 9 ∧ P.2.1 7 2 = nI j) ∧ (∃ j, j ≤ 7 ∧ P.2.1 7 0 = nI j) ∧ (∀ s, s < n → pBd (P.2.1 5 s) 9 ∧ pBd (P.2.1 6 s) 99) ∧ (P.1 48 = -2 ∨ pBd (P.1 50) 99)
theorem pVw.fr {n c : Nat} {P : mS} {σ σ' : xS} (V : pVw n c P σ) (h : qFr σ σ') : pVw n c P σ' := by
  obtain ⟨v1, v2, v3, ⟨v4, v5, v6⟩, v7, v8, v9, v10⟩ := V
  obtain ⟨h1, h2, h3⟩ := h
  refine ⟨(h1 1 (by decide)).trans v1, ?_, ?_, ⟨(h1 2 (by decide)).trans v4, (h1 3 (by decide)).trans v5, (h1 4 (by decide)).trans v6⟩, (h1 15 (by decide)).trans v7, ?_, ?_, ?_⟩
  · show σ'.2.2.2.1 = n; rw [h3]; exact v2
  · intro s hs k hk; show σ'.2.2.1 s k = _; rw [h3]; exact v3 s hs k hk
  · intro k hk; rw [h2 12 (by decide) (by decide) (by decide)]; exact v8 k hk
  · rcases v9 with ⟨a, b⟩ | ⟨s, a, b, c', d, e⟩
    · exact Or.inl ⟨a, (h1 17 (by decide)).trans b⟩
    · exact Or.inr ⟨s, a, b, (h1 16 (by decide)).trans c', (h1 17 (by decide)).trans d, (h1 18 (by decide)).trans e⟩
  · show pLaw P σ'.2.2.2.2.2.2.2.2.2; rw [h3]; exact v10
/-- one count -/
def goS (P : mS) (k : Nat) (d : Nat → Int32) (s : Nat) : Int32 :=
  (if P.2.1 45 k = 4 ∧ (0 ≤ P.2.1 7 0 ∧ P.2.1 7 0 ≤ P.1 0 - 1) then d (P.2.1 7 0).toNatClampNeg + P.2.1 5 (P.2.1 7 0).toNatClampNeg else d s + P.2.1 5 s) + (if P.1 48 = nI s ∧ P.1 49 = nI k then P.1 50 else 0)
def drS (P : mS) (ex : Nat → Nat → Int32) : Nat → Nat → Int32
  | 0 => fun _ => 0
  | k + 1 => goS P k (fun s => drS P ex k s + ex k s)
theorem goS_pos {P : mS} {k : Nat} {d : Nat → Int32} {s : Nat} (h : P.2.1 45 k = 4 ∧ (0 ≤ P.2.1 7 0 ∧ P.2.1 7 0 ≤ P.1 0 - 1)) : goS P k d s = (d (P.2.1 7 0).toNatClampNeg + P.2.1 5 (P.2.1 7 0).toNatClampNeg) + (if P.1 48 = nI s ∧ P.1 49 = nI k then P.1 50 else 0) := by
  unfold goS
  rw [if_pos h]
theorem goS_neg {P : mS} {k : Nat} {d : Nat → Int32} {s : Nat} (h : ¬ (P.2.1 45 k = 4 ∧ (0 ≤ P.2.1 7 0 ∧ P.2.1 7 0 ≤ P.1 0 - 1))) : goS P k d s = (d s + P.2.1 5 s) + (if P.1 48 = nI s ∧ P.1 49 = nI k then P.1 50 else 0) := by
  unfold goS
  rw [if_neg h]
theorem goS_congr {n c : Nat} {P : mS} (O : pOk n c P) {k : Nat} {d d' : Nat → Int32} (h : ∀ s, s < n → d s = d' s) : ∀ s, s < n → goS P k d s = goS P k d' s := by
  intro s hs
  unfold goS
  by_cases hc : P.2.1 45 k = 4 ∧ (0 ≤ P.2.1 7 0 ∧ P.2.1 7 0 ≤ P.1 0 - 1)
  · rw [if_pos hc, if_pos hc]
    obtain ⟨o1, o2, o3, o4, o5, o6, ⟨j, o7, o8⟩, o9⟩ := O
    obtain ⟨k', hk', e⟩ := pl_one (n := n) (by omega) (by rw [← o3]; exact hc.2)
    rw [e, nI_clamp (by omega), h k' hk']
  · rw [if_neg hc, if_neg hc, h s hs]
theorem X_begin {n c : Nat} {P : mS} {σ : xS} (V : pVw n c P σ) (O : pOk n c P) {N : Nat} (hN : 100 < N) : ∃ σ', fX_begin N σ = some (σ', ()) ∧ qFr σ σ' ∧ ∀ s, s < n → xJ σ' 13 s = 0 := by
  have o1 := O.1
  obtain ⟨m, σ', ⟨h1, h2⟩, e⟩ := pl_for (fun m j t => fX_begin_b2 N m t (nI j)) n (fun j t => qFr σ t ∧ ∀ s, s < j → xJ t 13 s = 0) (by
    intro k t hk ⟨h1, h2⟩
    have V' := V.fr h1
    refine ⟨xSj t 13 k 0, ⟨h1.sj (Or.inl rfl) _ _, fun s hs => ?_⟩, fun m => ?_⟩
    · rw [xSj_s]
      by_cases hsk : s = k
      · subst hsk; exact upd_s _ _ _
      · rw [upd_n _ hsk]; exact h2 s (by omega)
    · simp only [fX_begin_b2, nmv, V'.1]
      rw [if_neg (nI_ge hk (by omega)), pl_ck rfl (show k < 8 by omega) (by decide), nI_clamp (by omega), nI_1]) N 0 σ (by omega) (Nat.zero_le _) ⟨qFr.rf, fun s hs => absurd hs (Nat.not_lt_zero _)⟩
  refine ⟨σ', ?_, h1, h2⟩
  have e2 : fX_begin N σ = fX_begin_b2 N (m + 1) σ' (nI n) := e
  rw [e2]
  simp only [fX_begin_b2, nmv, (V.fr h1).1]
  exact if_pos (nI_le (Nat.le_refl _) (by omega))
theorem X_goCount {n c : Nat} {P : mS} {σ : xS} (V : pVw n c P σ) (O : pOk n c P) {N : Nat} (hN : 100 < N) {k : Nat} (hk : k < c) {d : Nat → Int32} (hd : ∀ s, s < n → xJ σ 13 s = d s) : ∃ σ', fX_goCount N σ (nI k) = some (σ', ()) ∧ qFr σ σ' ∧ xJ σ' 14 = xJ σ 14 ∧ ∀ s, s < n → xJ σ' 13 s = goS P k d s := by
  have O' := O
  obtain ⟨o1, o2, o3, o4, o5, o6, ⟨jl, o7, o8⟩, o9, o10⟩ := O
  -- all by their quickness
  obtain ⟨m, σ1, ⟨a1, a3, a2⟩, e⟩ := pl_for (fun m j t => fX_goCount_b2 N m t (nI k) (nI j)) n (fun j t => qFr σ t ∧ xJ t 14 = xJ σ 14 ∧ ∀ s, s < n → xJ t 13 s = if s < j then d s + P.2.1 5 s else d s) (by
    intro j t hj ⟨h1, h3, h2⟩
    have V' := V.fr h1
    refine ⟨xSj t 13 j (xJ t 13 j + xE t j 4), ⟨h1.sj (Or.inl rfl) _ _, (xSj_n _ (by decide) _ _).trans h3, fun s hs => ?_⟩, fun m => ?_⟩
    · rw [xSj_s]
      by_cases hsj : s = j
      · subst hsj
        rw [upd_s, if_pos (Nat.lt_succ_self _), h2 s hs, if_neg (Nat.lt_irrefl _), V'.2.2.1 s hs 4 (by decide)]
      · rw [upd_n _ hsj, h2 s hs]
        by_cases hlt : s < j
        · rw [if_pos hlt, if_pos (by omega)]
        · rw [if_neg hlt, if_neg (by omega)]
    · simp only [fX_goCount_b2, nmv, V'.1]
      rw [if_neg (nI_ge hj (by omega))]
      simp only [nI_clamp (show j < 2 ^ 31 by omega)]
      rw [pl_ck rfl (show j < 8 by omega) (by decide), pl_ck rfl (show j < 8 by omega) (by decide), pl_cl (by rw [V'.2.1]; exact hj), pl_cl (by rw [V'.2.1]; exact hj), pl_ck rfl (show j < 8 by omega) (by decide), nI_1]) N 0 σ (by omega) (Nat.zero_le _) ⟨qFr.rf, rfl, fun s hs => by rw [if_neg (Nat.not_lt_zero _)]; exact hd s hs⟩
  have V1 := V.fr a1
  have a2' : ∀ s, s < n → xJ σ1 13 s = d s + P.2.1 5 s := fun s hs => by rw [a2 s hs, if_pos hs]
  -- the slip, behind it all
  have fin : ∀ (t : xS) (f : Nat → Int32), qFr σ t → xJ t 14 = xJ σ 14 → (∀ s, s < n → xJ t 13 s = f s) → ∃ σ', fX_goCount_b86 N t (nI k) = some (σ', ()) ∧ qFr σ σ' ∧ xJ σ' 14 = xJ σ 14 ∧ ∀ s, s < n → xJ σ' 13 s = f s + (if P.1 48 = nI s ∧ P.1 49 = nI k then P.1 50 else 0) := by
    intro t f h1 h3 h2
    have V' := V.fr h1
    obtain ⟨-, -, -, -, -, -, hs, -⟩ := V'
    rcases hs with ⟨b1, b2⟩ | ⟨s, b1, b2, b3, b4, b5⟩
    · refine ⟨t, ?_, h1, h3, fun s hs => ?_⟩
      · simp only [fX_goCount_b86, nmv, b2]
        exact if_neg (fun q => by
          have q2 := congrArg Int32.toInt q
          rw [nI_toInt (by omega)] at q2
          have : (-2 : Int32).toInt = -2 := by decide
          omega)
      · rw [if_neg (fun q => by
          have q2 := congrArg Int32.toInt (b1.symm.trans q.1)
          rw [nI_toInt (by omega)] at q2
          have : (-2 : Int32).toInt = -2 := by decide
          omega), Int32.add_zero]
        exact h2 s hs
    · by_cases hk2 : P.1 49 = nI k
      · refine ⟨xSj t 13 s (xJ t 13 s + P.1 50), ?_, h1.sj (Or.inl rfl) _ _, (xSj_n _ (by decide) _ _).trans h3, fun q hq => ?_⟩
        · simp only [fX_goCount_b86, nmv, b3, b4, b5]
          rw [if_pos hk2.symm]
          simp only [nI_clamp (show s < 2 ^ 31 by omega)]
          rw [pl_ck rfl (show s < 8 by omega) (by decide), pl_ck rfl (show s < 8 by omega) (by decide)]
        · rw [xSj_s]
          by_cases hqs : q = s
          · subst hqs
            rw [upd_s, if_pos ⟨b2, hk2⟩, h2 q hq]
          · rw [upd_n _ hqs, if_neg (fun z => hqs ((nI_eq (by omega) (by omega)).mp (b2.symm.trans z.1)).symm), Int32.add_zero]
            exact h2 q hq
      · refine ⟨t, ?_, h1, h3, fun q hq => ?_⟩
        · simp only [fX_goCount_b86, nmv, b4]
          exact if_neg (fun z => hk2 z.symm)
        · rw [if_neg (fun z => hk2 z.2), Int32.add_zero]
          exact h2 q hq
  have e2 : fX_goCount N σ (nI k) = fX_goCount_b2 N (m + 1) σ1 (nI k) (nI n) := e
  rw [e2]
  simp only [fX_goCount_b2, nmv, V1.1]
  rw [if_pos (nI_le (Nat.le_refl _) (by omega)), pl_ck rfl (show k < 60 by omega) (by decide), nI_clamp (by omega), V1.2.2.2.2.2.1 k hk]
  simp only [pl_xone, obi, pl_if0, V1.1, V1.2.2.2.1.1]
  by_cases h4 : P.2.1 45 k = 4
  · rw [if_pos h4]
    by_cases hld : 0 ≤ P.2.1 7 0 ∧ P.2.1 7 0 ≤ nI n - 1
    · rw [if_pos hld]
      obtain ⟨ld, hl, el⟩ := pl_one (n := n) (by omega) hld
      obtain ⟨m2, σ2, ⟨c1, c3, c2⟩, e3⟩ := pl_for (fun m j t => fX_goCount_b57 N m t (nI k) (nI j)) n (fun j t => qFr σ t ∧ xJ t 14 = xJ σ 14 ∧ ∀ s, s < n → xJ t 13 s = if s < j then d ld + P.2.1 5 ld else d s + P.2.1 5 s) (by
        intro j t hj ⟨h1, h3, h2⟩
        have V' := V.fr h1
        refine ⟨xSj t 13 j (xJ t 13 ld), ⟨h1.sj (Or.inl rfl) _ _, (xSj_n _ (by decide) _ _).trans h3, fun s hs => ?_⟩, fun m => ?_⟩
        · rw [xSj_s]
          by_cases hsj : s = j
          · subst hsj
            rw [upd_s, if_pos (Nat.lt_succ_self _), h2 ld hl]
            split <;> rfl
          · rw [upd_n _ hsj, h2 s hs]
            by_cases hlt : s < j
            · rw [if_pos hlt, if_pos (by omega)]
            · rw [if_neg hlt, if_neg (by omega)]
        · simp only [fX_goCount_b57, nmv, V'.1, V'.2.2.2.1.1, el]
          rw [if_neg (nI_ge hj (by omega))]
          simp only [nI_clamp (show j < 2 ^ 31 by omega), nI_clamp (show ld < 2 ^ 31 by omega)]
          rw [pl_ck rfl (show ld < 8 by omega) (by decide), pl_ck rfl (show j < 8 by omega) (by decide), nI_1]) N 0 σ1 (by omega) (Nat.zero_le _) ⟨a1, a3, fun s hs => by rw [if_neg (Nat.not_lt_zero _)]; exact a2' s hs⟩
      have e4 : fX_goCount_b57 N N σ1 (nI k) 0 = fX_goCount_b57 N (m2 + 1) σ2 (nI k) (nI n) := e3
      rw [e4]
      simp only [fX_goCount_b57, nmv, (V.fr c1).1]
      rw [if_pos (nI_le (Nat.le_refl _) (by omega))]
      obtain ⟨σ', q1, q2, q4, q3⟩ := fin σ2 (fun _ => d ld + P.2.1 5 ld) c1 c3 (fun s hs => by rw [c2 s hs, if_pos hs])
      refine ⟨σ', q1, q2, q4, fun s hs => ?_⟩
      rw [q3 s hs]
      rw [goS_pos ⟨h4, by rw [o3]; exact hld⟩, el, nI_clamp (by omega)]
    · rw [if_neg hld]
      obtain ⟨σ', q1, q2, q4, q3⟩ := fin σ1 (fun s => d s + P.2.1 5 s) a1 a3 a2'
      refine ⟨σ', q1, q2, q4, fun s hs => ?_⟩
      rw [q3 s hs]
      rw [goS_neg (fun q => hld (by rw [← o3]; exact q.2))]
  · rw [if_neg h4]
    obtain ⟨σ', q1, q2, q4, q3⟩ := fin σ1 (fun s => d s + P.2.1 5 s) a1 a3 a2'
    refine ⟨σ', q1, q2, q4, fun s hs => ?_⟩
    rw [q3 s hs]
    rw [goS_neg (fun q => h4 q.1)]
/-- no draws -/
def ex0 : Nat → Nat → Int32 := fun _ _ => 0
theorem drS_0 (P : mS) (k : Nat) {n c : Nat} (O : pOk n c P) : ∀ s, s < n → drS P ex0 (k + 1) s = goS P k (drS P ex0 k) s := by
  intro s hs
  exact goS_congr O (fun q _ => Int32.add_zero _) s hs
theorem X_goCounts {n c : Nat} {P : mS} {σ : xS} (V : pVw n c P σ) (O : pOk n c P) {N : Nat} (hN : 100 < N) {a : Nat} (ha : a ≤ 60) : ∃ σ', fX_goCounts N σ (nI a) = some (σ', ()) ∧ qFr σ σ' ∧ ∀ s, s < n → xJ σ' 13 s = drS P ex0 (min a c) s := by
  obtain ⟨σ0, e0, b1, b2⟩ := X_begin V O hN
  have o1 := O.1
  have o2 := O.2.1
  obtain ⟨u, hu, e⟩ := pl_lp (fun m j t => fX_goCounts_b6 N m t (nI a) (nI j)) (fun t : xS => some (t, ())) (min a c) (fun j t => qFr σ t ∧ ∀ s, s < n → xJ t 13 s = drS P ex0 j s) (fun t => qFr σ t ∧ ∀ s, s < n → xJ t 13 s = drS P ex0 (min a c) s) (by
    intro j t hj ⟨h1, h2⟩
    have V' := V.fr h1
    by_cases hja : a ≤ j
    · refine Or.inr ⟨t, ⟨h1, ?_⟩, fun m => ?_⟩
      · rw [show min a c = j from by omega]; exact h2
      · simp only [fX_goCounts_b6]
        exact if_pos (nI_le hja (by omega))
    · by_cases hjc : c ≤ j
      · refine Or.inr ⟨t, ⟨h1, ?_⟩, fun m => ?_⟩
        · rw [show min a c = j from by omega]; exact h2
        · simp only [fX_goCounts_b6, nmv, V'.2.2.2.2.1]
          rw [if_neg (nI_ge (by omega) (by omega))]
          exact if_pos (nI_le hjc (by omega))
      · obtain ⟨t', f1, f2, f4, f3⟩ := X_goCount V' O hN (k := j) (by omega) h2
        refine Or.inl ⟨by omega, t', ⟨h1.tr f2, fun s hs => ?_⟩, fun m => ?_⟩
        · rw [f3 s hs, drS_0 P j O s hs]
        · simp only [fX_goCounts_b6, nmv, V'.2.2.2.2.1]
          rw [if_neg (nI_ge (by omega) (by omega)), if_neg (nI_ge (by omega) (by omega)), f1]
          simp only [obi, nI_1]) N 0 σ0 (by omega) (Nat.zero_le _) ⟨b1, b2⟩
  refine ⟨u, ?_, hu.1, hu.2⟩
  unfold fX_goCounts
  rw [e0]
  exact e
