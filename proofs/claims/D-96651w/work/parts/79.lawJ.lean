/-! What holds of both between calls -/
def okW (k : Nat) (v : Int32) : Prop := match k with
  | 0 => 0 ≤ v ∧ v ≤ 15
  | 1 => 0 ≤ v ∧ v ≤ 15
  | 2 => 1 ≤ v ∧ v ≤ 9
  | 3 => 1 ≤ v ∧ v ≤ 60
  | 4 => -9 ≤ v ∧ v ≤ 9
  | 5 => 0 ≤ v ∧ v ≤ 99
  | 6 => 0 ≤ v ∧ v ≤ 7
  | 7 => 1 ≤ v ∧ v ≤ 999
  | _ => 1 ≤ v ∧ v ≤ 9
def pR1 (n : Nat) (x : xS) (m : mS) : Prop := n ≤ 8 ∧ xI x 1 = nI n ∧ xn x = n ∧ m.1 0 = nI n ∧ (∀ s, s < n → ∀ k, k < 6 → xE x s k = m.2.1 (k + 1) s) ∧ (∀ s, s < n → xE x s 6 = m.2.1 8 s ∧ xE x s 7 = m.2.1 9 s) ∧ (xI x 2 = m.2.1 7 0 ∧ xI x 3 = m.2.1 7 1 ∧ xI x 4 = m.2.1 7 2) ∧ (∀ s, s < n → ∀ k, k < 6 → okW k (m.2.1 (k + 1) s)) ∧ okW 6 (m.2.1 7 0) ∧ okW 7 (m.2.1 7 1) ∧ okW 8 (m.2.1 7 2)
def pCh (n : Nat) (x : xS) (m : mS) (i : Nat) : Prop := ∃ w a : Nat, w ≤ 8 ∧ (w < 6 → a < n) ∧ (6 ≤ w → a = 0) ∧ xC x i 0 = nI w ∧ m.2.1 36 (4 * i + 1) = nI w ∧ xC x i 1 = nI a ∧ m.2.1 36 (4 * i) = nI a ∧ xC x i 2 = m.2.1 36 (4 * i + 2) ∧ xC x i 3 = m.2.1 36 (4 * i + 3) ∧ okW w (xC x i 2) ∧ okW w (xC x i 3)
def pR2 (n : Nat) (x : xS) (m : mS) : Prop := ∃ d u : Nat, d + u ≤ 40 ∧ d + u ≤ xm x ∧ xI x 6 = nI d ∧ xI x 7 = nI u ∧ m.1 35 = nI d ∧ m.1 34 = nI (d + u) ∧ ∀ i, i < d + u → pCh n x m i
def pR3 (x : xS) (m : mS) : Prop := ∃ t : Nat, t ≤ 120 ∧ xI x 9 = nI t ∧ m.1 10 = nI t ∧ ∀ i, i < t → ∃ v : Nat, v < 256 ∧ m.2.1 11 i = nI v ∧ xJ x 8 i = (nI v).toInt8.toInt32
def pR5 (n : Nat) (x : xS) (m : mS) : Prop := (∀ i, i < 5 → xI x (26 + i) = m.2.1 28 i) ∧ ((m.1 29 = 0 ∧ xI x 31 = 0) ∨ (m.1 29 = 1 ∧ xI x 31 = 1 ∧ ∃ n0, n0 ≤ n ∧ xI x 33 = nI n0 ∧ m.1 30 = nI n0 ∧ (∀ s, s < n0 → xJ x 32 (2 * s) = m.2.1 31 s ∧ xJ x 32 (2 * s + 1) = m.2.1 32 s) ∧ ∀ i, i < 5 → xI x (34 + i) = m.2.1 33 i))
def pR6 (x : xS) (m : mS) : Prop := ∃ t : Nat, t ≤ 1000 ∧ xI x 39 = nI t ∧ m.1 39 = nI t ∧ ∀ i, i < t → i < 24 → xJ x 40 i = m.2.1 40 i
def pR7 (b : Nat) (x : xS) (m : mS) : Prop := b ≤ 50 ∧ xI x 42 = nI b ∧ m.1 37 = nI b ∧ xk x = b ∧ ∀ i, i < b → xB x i < 8 ∧ m.2.1 38 i = nI (xB x i)
def pShf (b : Nat) (h : Nat × Nat × (Nat → Int64)) (m : mS) (j : Nat) : Prop := (h.1 = 0 ∧ m.2.1 41 j = -1) ∨ (1 ≤ h.1 ∧ h.1 ≤ 5 ∧ m.2.1 41 j = nI (h.1 - 1) ∧ h.2.1 ≤ 60 ∧ m.2.1 42 j = nI h.2.1 ∧ ∀ i, i < h.2.1 → m.2.2 (60 * j + i) = h.2.2 i ∧ (h.1 ≠ 4 → (h.2.2 i).toInt32.toInt64 = h.2.2 i)) ∨ (∃ q, q < b ∧ h.1 = 6 + q ∧ m.2.1 41 j = nI (10 + q))
def pR8 (b : Nat) (x : xS) (m : mS) : Prop := ∀ j, j < 6 → pShf b (xH x j) m j
def pRel (x : xS) (m : mS) : Prop := ∃ n b : Nat, pR1 n x m ∧ pR2 n x m ∧ pR3 x m ∧ pLaw m (xY x) ∧ pR5 n x m ∧ pR6 x m ∧ pR7 b x m ∧ pR8 b x m ∧ (xI x 17 = -2 ∧ m.1 48 = -2)
/-- what may differ: scratch -/
def xQu (x x' : xS) : Prop := (∀ k, k ≠ 15 → k ≠ 16 → k ≠ 18 → k ≠ 19 → k ≠ 20 → k ≠ 23 → k ≠ 25 → xI x' k = xI x k) ∧ (xJ x' 8 = xJ x 8 ∧ xJ x' 32 = xJ x 32 ∧ xJ x' 40 = xJ x 40) ∧ x'.2.2 = x.2.2
def mQu (m m' : mS) : Prop := (∀ k, (k < 18 ∨ 21 < k) → k ≠ 44 → k ≠ 49 → k ≠ 50 → k ≠ 51 → k ≠ 52 → m'.1 k = m.1 k) ∧ (∀ k, (k < 22 ∨ 27 < k) → k < 45 → m'.2.1 k = m.2.1 k) ∧ m'.2.2 = m.2.2
theorem xQu.rf {x : xS} : xQu x x := ⟨fun _ _ _ _ _ _ _ _ => rfl, ⟨rfl, rfl, rfl⟩, rfl⟩
theorem mQu.rf {m : mS} : mQu m m := ⟨fun _ _ _ _ _ _ _ => rfl, fun _ _ _ => rfl, rfl⟩
theorem xQu.tr {a b c : xS} (h : xQu a b) (g : xQu b c) : xQu a c := ⟨fun k q1 q2 q3 q4 q5 q6 q7 => (g.1 k q1 q2 q3 q4 q5 q6 q7).trans (h.1 k q1 q2 q3 q4 q5 q6 q7), ⟨g.2.1.1.trans h.2.1.1, g.2.1.2.1.trans h.2.1.2.1, g.2.1.2.2.trans h.2.1.2.2⟩, g.2.2.trans h.2.2⟩
theorem mQu.tr {a b c : mS} (h : mQu a b) (g : mQu b c) : mQu a c := ⟨fun k q1 q2 q3 q4 q5 q6 => (g.1 k q1 q2 q3 q4 q5 q6).trans (h.1 k q1 q2 q3 q4 q5 q6), fun k q1 q2 => (g.2.1 k q1 q2).trans (h.2.1 k q1 q2), g.2.2.trans h.2.2⟩
theorem qFr.qu {a b : xS} (h : qFr a b) : xQu a b := ⟨fun k _ _ _ q _ _ _ => h.1 k q, ⟨h.2.1 8 (by decide) (by decide) (by decide), h.2.1 32 (by decide) (by decide) (by decide), h.2.1 40 (by decide) (by decide) (by decide)⟩, h.2.2⟩
theorem mFr.qu {a b : mS} (h : mFr a b) : mQu a b := ⟨fun k _ _ _ _ q _ => h.1 k q, fun k q1 q2 => h.2.1 k (by omega) (by omega) (by omega) (by omega), h.2.2⟩
theorem xQu.si {a b : xS} (h : xQu a b) {k : Nat} (hk : k = 15 ∨ k = 16 ∨ k = 18 ∨ k = 19 ∨ k = 20 ∨ k = 23 ∨ k = 25) (v : Int32) : xQu a (xSi b k v) := h.tr ⟨fun j q1 q2 q3 q4 q5 q6 q7 => xSi_n _ (by omega) _, ⟨rfl, rfl, rfl⟩, rfl⟩
theorem xQu.sj {a b : xS} (h : xQu a b) {k : Nat} (hk : k ≠ 8 ∧ k ≠ 32 ∧ k ≠ 40) (i : Nat) (v : Int32) : xQu a (xSj b k i v) := h.tr ⟨fun _ _ _ _ _ _ _ _ => rfl, ⟨xSj_n _ (by omega) _ _, xSj_n _ (by omega) _ _, xSj_n _ (by omega) _ _⟩, rfl⟩
theorem mQu.si {a b : mS} (h : mQu a b) {k : Nat} (hk : (18 ≤ k ∧ k ≤ 21) ∨ k = 44 ∨ k = 49 ∨ k = 50 ∨ k = 51 ∨ k = 52) (v : Int32) : mQu a (mSi b k v) := h.tr ⟨fun j q1 q2 q3 q4 q5 q6 => mSi_n _ (by omega) _, fun _ _ _ => rfl, rfl⟩
theorem mQu.sj {a b : mS} (h : mQu a b) {k : Nat} (hk : (22 ≤ k ∧ k ≤ 27) ∨ 45 ≤ k) (i : Nat) (v : Int32) : mQu a (mSj b k i v) := h.tr ⟨fun _ _ _ _ _ _ _ => rfl, fun j q1 q2 => mSj_n _ (by omega) _ _, rfl⟩
theorem pLn.qu {m m' : mS} (h : mQu m m') : ∀ (ls : List (List Int32 × List Int32)) (j pos : Nat), pLn m j pos ls → pLn m' j pos ls := by
  intro ls
  induction ls with
  | nil => intro j pos hl; exact ⟨(h.1 13 (by decide) (by decide) (by decide) (by decide) (by decide) (by decide)).trans hl.1, hl.2⟩
  | cons x xs ih =>
    intro j pos hl
    obtain ⟨l1, l2, l3, l4, l5, l6, l7, l8, l9, l10⟩ := hl
    have e : ∀ k, k < 22 → m'.2.1 k = m.2.1 k := fun k hk => h.2.1 k (Or.inl hk) (by omega)
    refine ⟨l1, ?_, ?_, ?_, l5, fun i hi => ?_, fun i hi => ?_, l8, l9, ih _ _ l10⟩
    · rw [e 14 (by decide)]; exact l2
    · rw [e 15 (by decide)]; exact l3
    · rw [e 16 (by decide)]; exact l4
    · rw [e 17 (by decide)]; exact l6 i hi
    · rw [e 17 (by decide)]; exact l7 i hi
theorem pLaw.qu {m m' : mS} {Y : Option (List (List Int32 × List Int32))} (h : mQu m m') (hl : pLaw m Y) : pLaw m' Y := by
  have e := h.1 12 (by decide) (by decide) (by decide) (by decide) (by decide) (by decide)
  rcases hl with ⟨a, b⟩ | ⟨ls, a, b, c⟩
  · exact Or.inl ⟨e.trans a, b⟩
  · exact Or.inr ⟨ls, e.trans a, b, pLn.qu h _ _ _ c⟩
theorem pRel.qu {x x' : xS} {m m' : mS} (R : pRel x m) (hx : xQu x x') (hm : mQu m m') : pRel x' m' := by
  obtain ⟨n, b, ⟨a1, a2, a3, a4, a5, a6, ⟨a7, a8, a9⟩, a10, a11, a12, a13⟩, ⟨d, u, b1, b2, b3, b4, b5, b6, b7⟩, ⟨t, c1, c2, c3, c4⟩, hl, ⟨e1, e2⟩, ⟨tr, f1, f2, f3, f4⟩, ⟨g1, g2, g3, g4, g5⟩, hs, k1, k2⟩ := R
  obtain ⟨x1, ⟨x2, x3, x4⟩, x5⟩ := hx
  have xi : ∀ k, k ≠ 15 → k ≠ 16 → k ≠ 18 → k ≠ 19 → k ≠ 20 → k ≠ 23 → k ≠ 25 → xI x' k = xI x k := x1
  have mi := hm.1
  have mj := hm.2.1
  have hE : ∀ s k, xE x' s k = xE x s k := fun s k => by show x'.2.2.1 s k = _; rw [x5]
  have hC : ∀ s k, xC x' s k = xC x s k := fun s k => by show x'.2.2.2.2.1 s k = _; rw [x5]
  have hn : xn x' = xn x := by show x'.2.2.2.1 = _; rw [x5]
  have hmm : xm x' = xm x := by show x'.2.2.2.2.2.1 = _; rw [x5]
  have hB : xB x' = xB x := by show x'.2.2.2.2.2.2.1 = _; rw [x5]
  have hkk : xk x' = xk x := by show x'.2.2.2.2.2.2.2.1 = _; rw [x5]
  have hH : xH x' = xH x := by show x'.2.2.2.2.2.2.2.2.1 = _; rw [x5]
  have hY : xY x' = xY x := by show x'.2.2.2.2.2.2.2.2.2 = _; rw [x5]
  have m7 := mj 7 (by decide) (by decide)
  have m36 := mj 36 (by decide) (by decide)
  refine ⟨n, b, ⟨a1, (xi 1 (by decide) (by decide) (by decide) (by decide) (by decide) (by decide) (by decide)).trans a2, hn.trans a3, (mi 0 (by decide) (by decide) (by decide) (by decide) (by decide) (by decide)).trans a4, fun s hs k hk => ?_, fun s hs => ?_, ⟨?_, ?_, ?_⟩, fun s hs k hk => ?_, ?_, ?_, ?_⟩, ⟨d, u, b1, by rw [hmm]; exact b2, (xi 6 (by decide) (by decide) (by decide) (by decide) (by decide) (by decide) (by decide)).trans b3, (xi 7 (by decide) (by decide) (by decide) (by decide) (by decide) (by decide) (by decide)).trans b4, (mi 35 (by decide) (by decide) (by decide) (by decide) (by decide) (by decide)).trans b5, (mi 34 (by decide) (by decide) (by decide) (by decide) (by decide) (by decide)).trans b6, fun i hi => ?_⟩, ⟨t, c1, (xi 9 (by decide) (by decide) (by decide) (by decide) (by decide) (by decide) (by decide)).trans c2, (mi 10 (by decide) (by decide) (by decide) (by decide) (by decide) (by decide)).trans c3, fun i hi => ?_⟩, by rw [hY]; exact hl.qu hm, ⟨fun i hi => ?_, ?_⟩, ⟨tr, f1, (xi 39 (by decide) (by decide) (by decide) (by decide) (by decide) (by decide) (by decide)).trans f2, (mi 39 (by decide) (by decide) (by decide) (by decide) (by decide) (by decide)).trans f3, fun i hi h24 => ?_⟩, ⟨g1, (xi 42 (by decide) (by decide) (by decide) (by decide) (by decide) (by decide) (by decide)).trans g2, (mi 37 (by decide) (by decide) (by decide) (by decide) (by decide) (by decide)).trans g3, hkk.trans g4, fun i hi => ?_⟩, fun j hj => ?_, (xi 17 (by decide) (by decide) (by decide) (by decide) (by decide) (by decide) (by decide)).trans k1, (mi 48 (by decide) (by decide) (by decide) (by decide) (by decide) (by decide)).trans k2⟩
  · rw [hE, mj (k + 1) (by omega) (by omega)]; exact a5 s hs k hk
  · rw [hE, hE, mj 8 (by decide) (by decide), mj 9 (by decide) (by decide)]; exact a6 s hs
  · rw [m7]; exact (xi 2 (by decide) (by decide) (by decide) (by decide) (by decide) (by decide) (by decide)).trans a7
  · rw [m7]; exact (xi 3 (by decide) (by decide) (by decide) (by decide) (by decide) (by decide) (by decide)).trans a8
  · rw [m7]; exact (xi 4 (by decide) (by decide) (by decide) (by decide) (by decide) (by decide) (by decide)).trans a9
  · rw [mj (k + 1) (by omega) (by omega)]; exact a10 s hs k hk
  · rw [m7]; exact a11
  · rw [m7]; exact a12
  · rw [m7]; exact a13
  · unfold pCh
    simp only [hC, m36]
    exact b7 i hi
  · rw [mj 11 (by decide) (by decide), x2]; exact c4 i hi
  · rw [mj 28 (by decide) (by decide)]; exact (xi (26 + i) (by omega) (by omega) (by omega) (by omega) (by omega) (by omega) (by omega)).trans (e1 i hi)
  · rcases e2 with ⟨q1, q2⟩ | ⟨q1, q2, n0, q3, q4, q5, q6, q7⟩
    · exact Or.inl ⟨(mi 29 (by decide) (by decide) (by decide) (by decide) (by decide) (by decide)).trans q1, (xi 31 (by decide) (by decide) (by decide) (by decide) (by decide) (by decide) (by decide)).trans q2⟩
    · refine Or.inr ⟨(mi 29 (by decide) (by decide) (by decide) (by decide) (by decide) (by decide)).trans q1, (xi 31 (by decide) (by decide) (by decide) (by decide) (by decide) (by decide) (by decide)).trans q2, n0, q3, (xi 33 (by decide) (by decide) (by decide) (by decide) (by decide) (by decide) (by decide)).trans q4, (mi 30 (by decide) (by decide) (by decide) (by decide) (by decide) (by decide)).trans q5, fun s hs => ?_, fun i hi => ?_⟩
      · rw [x3, mj 31 (by decide) (by decide), mj 32 (by decide) (by decide)]; exact q6 s hs
      · rw [mj 33 (by decide) (by decide)]; exact (xi (34 + i) (by omega) (by omega) (by omega) (by omega) (by omega) (by omega) (by omega)).trans (q7 i hi)
  · rw [x4, mj 40 (by decide) (by decide)]; exact f4 i hi h24
  · rw [hB, mj 38 (by decide) (by decide)]; exact g5 i hi
  · rw [hH]
    unfold pShf
    rw [mj 41 (by decide) (by decide), mj 42 (by decide) (by decide), hm.2.2]
    exact hs j hj
/-! A shelf's row becomes the routine -/
def cnS (w : Nat → Int32) : Nat → Nat → Nat
  | 0, k => k
  | m + 1, k => if w k < 0 ∨ 4 < w k then k else cnS w m (k + 1)
theorem cnS_le (w : Nat → Int32) : ∀ m k, k ≤ cnS w m k ∧ cnS w m k ≤ k + m := by
  intro m
  induction m with
  | zero => intro k; exact ⟨Nat.le_refl _, Nat.le_refl _⟩
  | succ m ih =>
    intro k
    unfold cnS
    split
    · exact ⟨Nat.le_refl _, by omega⟩
    · have := ih (k + 1); omega
theorem X_layLp {N : Nat} (f : Nat → Int64) {n : Nat} (hn : n ≤ 60) (hN : 400 < N) (x : xS) (h15 : xI x 15 = 0) : ∃ x', fX_layLp f n N x 0 = some (x', 0) ∧ xI x' 15 = nI (cnS (fun i => (f i).toInt32) n 0) ∧ (∀ k, k < cnS (fun i => (f i).toInt32) n 0 → xJ x' 12 k = (f k).toInt32) ∧ (∀ k, k ≠ 15 → xI x' k = xI x k) ∧ (∀ k, k ≠ 12 → xJ x' k = xJ x k) ∧ x'.2.2 = x.2.2 := by
  obtain ⟨u, hu, e⟩ := pl_lp (fun m j t => fX_layLp f n m t (nI j)) (fun t : xS => some (t, 0)) n (fun j t => cnS (fun i => (f i).toInt32) n 0 = cnS (fun i => (f i).toInt32) (n - j) j ∧ xI t 15 = nI j ∧ (∀ k, k < j → xJ t 12 k = (f k).toInt32) ∧ (∀ k, k ≠ 15 → xI t k = xI x k) ∧ (∀ k, k ≠ 12 → xJ t k = xJ x k) ∧ t.2.2 = x.2.2) (fun x' => xI x' 15 = nI (cnS (fun i => (f i).toInt32) n 0) ∧ (∀ k, k < cnS (fun i => (f i).toInt32) n 0 → xJ x' 12 k = (f k).toInt32) ∧ (∀ k, k ≠ 15 → xI x' k = xI x k) ∧ (∀ k, k ≠ 12 → xJ x' k = xJ x k) ∧ x'.2.2 = x.2.2) (by
    intro j t hj ⟨h1, h2, h3, h4, h5, h6⟩
    by_cases hjn : n ≤ j
    · have ez : cnS (fun i => (f i).toInt32) n 0 = j := by rw [h1, show n - j = 0 from by omega]; rfl
      refine Or.inr ⟨t, ⟨by rw [ez]; exact h2, by rw [ez]; exact h3, h4, h5, h6⟩, fun m => ?_⟩
      simp only [fX_layLp]
      rw [if_pos (nI_le hjn (by omega))]
    · rw [show n - j = (n - (j + 1)) + 1 from by omega] at h1
      simp only [cnS] at h1
      by_cases hw : (f j).toInt32 < 0 ∨ 4 < (f j).toInt32
      · rw [if_pos hw] at h1
        refine Or.inr ⟨t, ⟨by rw [h1]; exact h2, by rw [h1]; exact h3, h4, h5, h6⟩, fun m => ?_⟩
        simp only [fX_layLp, nmvE]
        rw [if_neg (nI_ge (by omega) (by omega)), if_neg (show ¬ (60 : Int32) ≤ nI j from nI_ge (b := 60) (by omega) (by decide)), pl_ck rfl (show j < n by omega) (by omega), nI_clamp (by omega), if_pos hw]
      · rw [if_neg hw] at h1
        refine Or.inl ⟨by omega, xSi (xSj t 12 j (f j).toInt32) 15 (nI (j + 1)), ⟨h1, xSi_s _ _ _, fun k hk => ?_, fun k hk => ?_, fun k hk => ?_, h6⟩, fun m => ?_⟩
        · show xJ (xSj t 12 j _) 12 k = _
          rw [xSj_s]
          by_cases hkj : k = j
          · subst hkj; exact upd_s _ _ _
          · rw [upd_n _ hkj]; exact h3 k (by omega)
        · rw [xSi_n _ hk]; exact h4 k hk
        · show xJ (xSj t 12 j _) k = _
          rw [xSj_n _ hk]; exact h5 k hk
        · simp only [fX_layLp, nmvE]
          have h2' : xI (xSj t 12 j (f j).toInt32) 15 = nI j := h2
          rw [if_neg (nI_ge (by omega) (by omega)), if_neg (show ¬ (60 : Int32) ≤ nI j from nI_ge (b := 60) (by omega) (by decide)), pl_ck rfl (show j < n by omega) (by omega), nI_clamp (by omega), if_neg hw, pl_ck rfl (show j < 60 by omega) (by decide), h2', nI_1]) N 0 x (by omega) (Nat.zero_le _) ⟨rfl, h15, fun k hk => absurd hk (Nat.not_lt_zero _), fun _ _ => rfl, fun _ _ => rfl, rfl⟩
  exact ⟨u, e, hu⟩
theorem l32_lt {x : Int64} (h : x.toInt32.toInt64 = x) (a : Int32) : (x < a.toInt64 ↔ x.toInt32 < a) ∧ (a.toInt64 < x ↔ a < x.toInt32) := by
  rw [← h]
  constructor
  · rw [Int64.lt_iff_toInt_lt, Int32.lt_iff_toInt_lt, Int32.toInt_toInt64, Int32.toInt_toInt64, Int32.toInt32_toInt64]
  · rw [Int64.lt_iff_toInt_lt, Int32.lt_iff_toInt_lt, Int32.toInt_toInt64, Int32.toInt_toInt64, Int32.toInt32_toInt64]
theorem M_reads {N : Nat} {f : Nat → Int64} {n j : Nat} (hn : n ≤ 60) (hj6 : j < 6) (hN : 400 < N) (m : mS) (h42 : m.2.1 42 j = nI n) (h43 : ∀ i, i < n → m.2.2 (60 * j + i) = f i ∧ (f i).toInt32.toInt64 = f i) : ∃ m', fM_reads N m (nI j) = some (m', ()) ∧ m'.1 44 = nI (cnS (fun i => (f i).toInt32) n 0) ∧ (∀ k, k < cnS (fun i => (f i).toInt32) n 0 → m'.2.1 45 k = (f k).toInt32) ∧ (∀ k, k ≠ 44 → m'.1 k = m.1 k) ∧ (∀ k, k ≠ 45 → m'.2.1 k = m.2.1 k) ∧ m'.2.2 = m.2.2 := by
  obtain ⟨u, hu, e⟩ := pl_lp (fun q (k : Nat) t => fM_reads_b5 N q t (nI j)) (fun t : mS => some (t, ())) n (fun k t => cnS (fun i => (f i).toInt32) n 0 = cnS (fun i => (f i).toInt32) (n - k) k ∧ t.1 44 = nI k ∧ (∀ q, q < k → t.2.1 45 q = (f q).toInt32) ∧ (∀ q, q ≠ 44 → t.1 q = m.1 q) ∧ (∀ q, q ≠ 45 → t.2.1 q = m.2.1 q) ∧ t.2.2 = m.2.2) (fun m' => m'.1 44 = nI (cnS (fun i => (f i).toInt32) n 0) ∧ (∀ k, k < cnS (fun i => (f i).toInt32) n 0 → m'.2.1 45 k = (f k).toInt32) ∧ (∀ k, k ≠ 44 → m'.1 k = m.1 k) ∧ (∀ k, k ≠ 45 → m'.2.1 k = m.2.1 k) ∧ m'.2.2 = m.2.2) (by
    intro k t hk ⟨h1, h2, h3, h4, h5, h6⟩
    have t42 : t.2.1 42 j = nI n := by rw [h5 42 (by decide)]; exact h42
    by_cases hjn : n ≤ k
    · have ez : cnS (fun i => (f i).toInt32) n 0 = k := by rw [h1, show n - k = 0 from by omega]; rfl
      refine Or.inr ⟨t, ⟨by rw [ez]; exact h2, by rw [ez]; exact h3, h4, h5, h6⟩, fun q => ?_⟩
      simp only [fM_reads_b5, nmvE, h2]
      rw [pl_ck rfl hj6 (by decide), nI_clamp (by omega), t42, if_pos (nI_le hjn (by omega))]
    · rw [show n - k = (n - (k + 1)) + 1 from by omega] at h1
      simp only [cnS] at h1
      obtain ⟨g1, g2⟩ := h43 k (by omega)
      have t43 : t.2.2 (60 * j + k) = f k := by rw [h6]; exact g1
      have l0 : (lg_cmp (f k) 0 < 0) ↔ (f k).toInt32 < 0 := (lg_cmp_lt _ _).trans (l32_lt g2 0).1
      have l4 : (0 < lg_cmp (f k) 4) ↔ 4 < (f k).toInt32 := (lg_cmp_gt _ _).trans (l32_lt g2 4).2
      have stop : (f k).toInt32 < 0 ∨ 4 < (f k).toInt32 → ∀ q, fM_reads_b5 N (q + 1) t (nI j) = some (t, ()) := by
        intro hw q
        simp only [fM_reads_b5, nmvE, h2]
        rw [pl_ck rfl hj6 (by decide), nI_clamp (show j < 2 ^ 31 by omega), t42, if_neg (nI_ge (by omega) (by omega)), pl_i60, pl_ck rfl (show 60 * j + k < 360 by omega) (by decide), nI_clamp (show 60 * j + k < 2 ^ 31 by omega), t43]
        by_cases h0 : (f k).toInt32 < 0
        · rw [if_pos (l0.mpr h0)]
        · rw [if_neg (fun z => h0 (l0.mp z)), pl_ck rfl (show 60 * j + k < 360 by omega) (by decide), if_pos (l4.mpr (hw.resolve_left h0))]
      by_cases hw : (f k).toInt32 < 0 ∨ 4 < (f k).toInt32
      · rw [if_pos hw] at h1
        exact Or.inr ⟨t, ⟨by rw [h1]; exact h2, by rw [h1]; exact h3, h4, h5, h6⟩, fun q => stop hw q⟩
      · rw [if_neg hw] at h1
        refine Or.inl ⟨by omega, mSi (mSj t 45 k (f k).toInt32) 44 (nI (k + 1)), ⟨h1, mSi_s _ _ _, fun q hq => ?_, fun q hq => ?_, fun q hq => ?_, h6⟩, fun q => ?_⟩
        · show (mSj t 45 k _).2.1 45 q = _
          rw [mSj_s]
          by_cases hkj : q = k
          · subst hkj; exact upd_s _ _ _
          · rw [upd_n _ hkj]; exact h3 q (by omega)
        · rw [mSi_n _ hq]; exact h4 q hq
        · show (mSj t 45 k _).2.1 q = _
          rw [mSj_n _ hq]; exact h5 q hq
        · simp only [fM_reads_b5, nmvE, h2]
          rw [pl_ck rfl hj6 (by decide), nI_clamp (show j < 2 ^ 31 by omega), t42, if_neg (nI_ge (by omega) (by omega)), pl_i60, pl_ck rfl (show 60 * j + k < 360 by omega) (by decide), nI_clamp (show 60 * j + k < 2 ^ 31 by omega), t43, if_neg (fun z => hw (Or.inl (l0.mp z))), pl_ck rfl (show 60 * j + k < 360 by omega) (by decide), if_neg (fun z => hw (Or.inr (l4.mp z))), pl_ck rfl (show 60 * j + k < 360 by omega) (by decide), pl_ck rfl (show k < 60 by omega) (by decide), nI_clamp (show k < 2 ^ 31 by omega), nI_1]) N 0 (mSi m 44 0) (by omega) (Nat.zero_le _) ⟨rfl, mSi_s _ _ _, fun k hk => absurd hk (Nat.not_lt_zero _), fun k hk => mSi_n _ hk _, fun _ _ => rfl, rfl⟩
  refine ⟨u, ?_, hu⟩
  unfold fM_reads
  rw [nmvE]
  exact e
