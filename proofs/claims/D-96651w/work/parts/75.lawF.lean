/-! Marks -/
def smS (f : Nat → Int32) : Nat → Int32
  | 0 => 0
  | n + 1 => smS f n + f n
def prS (n : Nat) (f : Nat → Nat → Int32) : Int32 := prA (fun a b x => x + f a b) n 0 n
theorem i32_swap (a b c d : Int32) : (a + b) + (c + d) = (a + c) + (b + d) := by
  rw [Int32.add_assoc, Int32.add_assoc, ← Int32.add_assoc b c d, Int32.add_comm b c, Int32.add_assoc c b d]
theorem prS_add (n : Nat) (f g : Nat → Nat → Int32) : prS n (fun a b => f a b + g a b) = prS n f + prS n g := by
  have h1 := prA_rel (fun (x : Int32) (y : Int32 × Int32) => x = y.1 + y.2) (f := fun a b x => x + (f a b + g a b)) (g := fun a b (y : Int32 × Int32) => (y.1 + f a b, y.2 + g a b)) (n := n) (z := 0) (w := (0, 0)) (by decide) (by
    intro a b x y _ _ h
    show x + (f a b + g a b) = (y.1 + f a b) + (y.2 + g a b)
    rw [h, i32_swap]) n (Nat.le_refl _)
  have h2 := prA_rel (fun (y : Int32 × Int32) (x : Int32) => y.1 = x) (f := fun a b (y : Int32 × Int32) => (y.1 + f a b, y.2 + g a b)) (g := fun a b x => x + f a b) (n := n) (z := ((0 : Int32), (0 : Int32))) (w := 0) rfl (by
    intro a b x y _ _ h
    show x.1 + f a b = y + f a b
    rw [h]) n (Nat.le_refl _)
  have h3 := prA_rel (fun (y : Int32 × Int32) (x : Int32) => y.2 = x) (f := fun a b (y : Int32 × Int32) => (y.1 + f a b, y.2 + g a b)) (g := fun a b x => x + g a b) (n := n) (z := ((0 : Int32), (0 : Int32))) (w := 0) rfl (by
    intro a b x y _ _ h
    show x.2 + g a b = y + g a b
    rw [h]) n (Nat.le_refl _)
  unfold prS
  rw [h1, h2, h3]
theorem prS_zero (n : Nat) : prS n (fun _ _ => 0) = 0 := prA_inv (f := fun _ _ (x : Int32) => x + 0) (fun (x : Int32) => x = 0) rfl (fun a b x _ _ h => by rw [h]; rfl)
theorem prS_sm (n : Nat) (f : Nat → Nat → Nat → Int32) : ∀ c, prS n (fun a b => smS (fun k => f k a b) c) = smS (fun k => prS n (f k)) c := by
  intro c
  induction c with
  | zero => exact prS_zero n
  | succ c ih =>
    show prS n (fun a b => smS (fun k => f k a b) c + f c a b) = _
    rw [prS_add, ih]
    rfl
/-- what is stored by pairs -/
theorem ups_R {w : Nat} {n : Nat} (hn : n ≤ w) (G : Nat → Nat → (Nat → Int32) → Int32) (hG : ∀ a b A B, A (w * a + b) = B (w * a + b) → G a b A = G a b B) (a : Nat) (B : Nat → Int32) : ∀ j, j ≤ n - (a + 1) → ∀ q, prR (fun a b (A : Nat → Int32) => upd A (w * a + b) (G a b A)) a B j q = if q / w = a ∧ a < q % w ∧ q % w < a + 1 + j then G a (q % w) B else B q := by
  intro j
  induction j with
  | zero =>
    intro _ q
    rw [if_neg (by omega)]
    rfl
  | succ j ih =>
    intro hj q
    have hb : a + 1 + j < w := by omega
    have hw : 0 < w := by omega
    have e1 : (w * a + (a + 1 + j)) / w = a := by rw [Nat.mul_add_div hw, Nat.div_eq_of_lt hb, Nat.add_zero]
    have e2 : (w * a + (a + 1 + j)) % w = a + 1 + j := by rw [Nat.mul_add_mod, Nat.mod_eq_of_lt hb]
    show upd (prR _ a B j) (w * a + (a + 1 + j)) (G a (a + 1 + j) (prR _ a B j)) q = _
    by_cases hq : q = w * a + (a + 1 + j)
    · subst hq
      rw [upd_s, e1, e2, if_pos ⟨rfl, by omega, by omega⟩]
      refine hG _ _ _ _ ?_
      rw [ih (by omega), e1, e2, if_neg (by omega)]
    · rw [upd_n _ hq, ih (by omega) q]
      by_cases hc : q / w = a ∧ a < q % w ∧ q % w < a + 1 + j
      · rw [if_pos hc, if_pos ⟨hc.1, hc.2.1, by omega⟩]
      · rw [if_neg hc, if_neg (fun z => by
          have h1 := z.1
          have h2 : q % w = a + 1 + j := by omega
          have h3 := Nat.div_add_mod q w
          rw [h1, h2] at h3
          exact hq h3.symm)]
theorem ups_A {w : Nat} {n : Nat} (hn : n ≤ w) (G : Nat → Nat → (Nat → Int32) → Int32) (hG : ∀ a b A B, A (w * a + b) = B (w * a + b) → G a b A = G a b B) (A : Nat → Int32) : ∀ k, k ≤ n → ∀ q, prA (fun a b (A : Nat → Int32) => upd A (w * a + b) (G a b A)) n A k q = if q / w < k ∧ q / w < q % w ∧ q % w < n then G (q / w) (q % w) A else A q := by
  intro k
  induction k with
  | zero =>
    intro _ q
    rw [if_neg (fun z => absurd z.1 (Nat.not_lt_zero _))]
    rfl
  | succ k ih =>
    intro hk q
    show prR _ k (prA _ n A k) (n - (k + 1)) q = _
    rw [ups_R hn G hG k _ _ (Nat.le_refl _) q]
    by_cases hc : q / w = k ∧ k < q % w ∧ q % w < k + 1 + (n - (k + 1))
    · rw [if_pos hc, if_pos ⟨by omega, by omega, by omega⟩, hc.1]
      refine hG _ _ _ _ ?_
      have hq : w * k + q % w = q := by
        have := Nat.div_add_mod q w
        rw [hc.1] at this
        exact this
      rw [hq, ih (by omega) q, if_neg (by omega)]
    · rw [if_neg hc, ih (by omega) q]
      by_cases hd : q / w < k ∧ q / w < q % w ∧ q % w < n
      · rw [if_pos hd, if_pos ⟨by omega, hd.2.1, hd.2.2⟩]
      · rw [if_neg hd, if_neg (fun z => by omega)]
/-- a count's marks, by two -/
def fdS (P : mS) (Y : Option (List (List Int32 × List Int32))) (k : Nat) (d : Nat → Int32) (a b : Nat) : Int32 := lossS P Y a b (apS P d a b) (P.2.1 45 k) (nI k)
def fS (P : mS) (Y : Option (List (List Int32 × List Int32))) (ex : Nat → Nat → Int32) (k a b : Nat) : Int32 := fdS P Y k (drS P ex (k + 1)) a b
theorem fdS_congr {P : mS} {Y : Option (List (List Int32 × List Int32))} {k n : Nat} {d d' : Nat → Int32} (h : ∀ s, s < n → d s = d' s) {a b : Nat} (ha : a < n) (hb : b < n) : fdS P Y k d a b = fdS P Y k d' a b := by
  unfold fdS
  rw [apS_congr h ha hb]
theorem X_marksIn {n c : Nat} {P : mS} {σ : xS} (V : pVw n c P σ) (O : pOk n c P) {N : Nat} (hN : 400 < N) {k : Nat} (hk : k < c) {d : Nat → Int32} (hd : ∀ s, s < n → xJ σ 13 s = d s) :
    ∃ σ', fX_marksIn N σ (nI k) = some (σ', prS n (fdS P (xY σ) k d)) ∧ qFr σ σ' ∧ xJ σ' 13 = xJ σ 13 ∧ ∀ q, xJ σ' 14 q = if q / 8 < n ∧ q / 8 < q % 8 ∧ q % 8 < n then xJ σ 14 q + fdS P (xY σ) k d (q / 8) (q % 8) else xJ σ 14 q := by
  have o1 := O.1
  have o2 := O.2.1
  obtain ⟨m, t, ⟨h1, h3⟩, h2, e⟩ := pl_pr (fun m a (t : xS × Int32) => fX_marksIn_b4 N m t.1 (nI k) t.2 (nI a)) (fun m a m' b (t : xS × Int32) => fX_marksIn_b17 N (fX_marksIn_b4 N m) m' t.1 (nI k) t.2 (nI a) (nI b)) n N (by omega) (fun t => qFr σ t.1 ∧ xJ t.1 13 = xJ σ 13) (fun t => (t.2, xJ t.1 14)) (fun a b (x : Int32 × (Nat → Int32)) => (x.1 + fdS P (xY σ) k d a b, upd x.2 (8 * a + b) (x.2 (8 * a + b) + fdS P (xY σ) k d a b))) (0, xJ σ 14) (by
    intro m a t ha ⟨h1, h3⟩
    have V' := V.fr h1
    simp only [fX_marksIn_b4, nmvE, V'.1]
    rw [if_neg (nI_ge ha (by omega)), nI_1]) (by
    intro a b t hab hb ⟨h1, h3⟩
    have V' := V.fr h1
    have hY : xY t.1 = xY σ := by show t.1.2.2.2.2.2.2.2.2.2 = _; rw [h1.2.2]
    obtain ⟨σ', e1, f1⟩ := X_losesBy V' O hN (show a < n by omega) hb (apS P d a b) (P.2.1 45 k) (nI k)
    have hd' : ∀ s, s < n → xJ t.1 13 s = d s := fun s hs => by rw [h3]; exact hd s hs
    refine ⟨(xSj σ' 14 (8 * a + b) (xJ t.1 14 (8 * a + b) + fdS P (xY σ) k d a b), t.2 + fdS P (xY σ) k d a b), ⟨(h1.tr f1.fr).sj (by decide) _ _, ?_⟩, ?_, fun m m' => ?_⟩
    · rw [xSj_n _ (by decide), f1.2.1 13 (by decide)]; exact h3
    · show (_, xJ (xSj σ' 14 _ _) 14) = _
      rw [xSj_s, f1.2.1 14 (by decide)]
    · simp only [fX_marksIn_b17, nmvE, V'.1]
      rw [if_neg (nI_ge hb (by omega)), pl_ck rfl (show a < 8 by omega) (by decide), pl_ck rfl (show b < 8 by omega) (by decide), nI_clamp (by omega), nI_clamp (by omega), pl_cl (by rw [V'.2.1]; omega), pl_cl (by rw [V'.2.1]; exact hb), X_apartOf V' O hd' (show a < n by omega) hb]
      simp only [obi]
      rw [pl_ck rfl (show k < 60 by omega) (by decide), nI_clamp (by omega), V'.2.2.2.2.2.1 k hk, e1]
      simp only [obi]
      rw [pl_i88, pl_ck rfl (show 8 * a + b < 64 by omega) (by decide), pl_ck rfl (show 8 * a + b < 64 by omega) (by decide), nI_clamp (by omega), nI_1, f1.2.1 14 (by decide), hY]
      rfl) (by
    intro a t ha ⟨h1, h3⟩ m m'
    have V' := V.fr h1
    simp only [fX_marksIn_b17, nmvE, V'.1]
    rw [if_pos (nI_le (Nat.le_refl _) (by omega)), nI_1]) N (σ, 0) (by omega) ⟨qFr.rf, rfl⟩ rfl
  have V' := V.fr h1
  have k1 := prA_rel (fun (x : Int32 × (Nat → Int32)) (y : Int32) => x.1 = y) (f := fun a b (x : Int32 × (Nat → Int32)) => (x.1 + fdS P (xY σ) k d a b, upd x.2 (8 * a + b) (x.2 (8 * a + b) + fdS P (xY σ) k d a b))) (g := fun a b x => x + fdS P (xY σ) k d a b) (n := n) (z := ((0 : Int32), xJ σ 14)) (w := 0) rfl (by
    intro a b x y _ _ h
    show x.1 + _ = y + _
    rw [h]) n (Nat.le_refl _)
  have k2 := prA_rel (fun (x : Int32 × (Nat → Int32)) (y : Nat → Int32) => x.2 = y) (f := fun a b (x : Int32 × (Nat → Int32)) => (x.1 + fdS P (xY σ) k d a b, upd x.2 (8 * a + b) (x.2 (8 * a + b) + fdS P (xY σ) k d a b))) (g := fun a b (A : Nat → Int32) => upd A (8 * a + b) (A (8 * a + b) + fdS P (xY σ) k d a b)) (n := n) (z := ((0 : Int32), xJ σ 14)) (w := xJ σ 14) rfl (by
    intro a b x y _ _ h
    show upd x.2 _ _ = upd y _ _
    rw [h]) n (Nat.le_refl _)
  rw [← h2] at k1 k2
  refine ⟨t.1, ?_, h1, h3, fun q => ?_⟩
  · have e2 : fX_marksIn N σ (nI k) = fX_marksIn_b4 N (m + 1) t.1 (nI k) t.2 (nI n) := e
    rw [e2]
    simp only [fX_marksIn_b4, nmvE, V'.1]
    rw [if_pos (nI_le (Nat.le_refl _) (by omega))]
    exact congrArg some (Prod.ext rfl k1)
  · have k3 : xJ t.1 14 = _ := k2
    rw [k3]
    have k4 := ups_A o1 (fun a b A => A (8 * a + b) + fdS P (xY σ) k d a b) (fun a b A B h => by show A _ + _ = B _ + _; rw [h]) (xJ σ 14) n (Nat.le_refl _) q
    refine k4.trans ?_
    split
    · rw [Nat.div_add_mod]
    · rfl
theorem X_marks {n c : Nat} {P : mS} {σ : xS} (V : pVw n c P σ) (O : pOk n c P) {N : Nat} (hN : 400 < N) :
    ∃ σ', fX_marks N σ = some (σ', smS (fun k => prS n (fS P (xY σ) ex0 k)) c) ∧ qFr σ σ' ∧ ∀ q, q < 64 → xJ σ' 14 q = if q / 8 < n ∧ q / 8 < q % 8 ∧ q % 8 < n then smS (fun k => fS P (xY σ) ex0 k (q / 8) (q % 8)) c else 0 := by
  have o1 := O.1
  have o2 := O.2.1
  obtain ⟨m, σ1, ⟨a1, a2⟩, e⟩ := pl_for (fun m j t => fX_marks_b2 N m t (nI j)) 64 (fun j t => qFr σ t ∧ ∀ q, q < j → xJ t 14 q = 0) (by
    intro j t hj ⟨h1, h2⟩
    refine ⟨xSj t 14 j 0, ⟨h1.sj (by decide) _ _, fun q hq => ?_⟩, fun m => ?_⟩
    · rw [xSj_s]
      by_cases hqj : q = j
      · subst hqj; exact upd_s _ _ _
      · rw [upd_n _ hqj]; exact h2 q (by omega)
    · simp only [fX_marks_b2, nmvE]
      rw [if_neg (show ¬ (64 : Int32) ≤ nI j from nI_ge hj (by decide)), pl_ck rfl hj (by decide), nI_clamp (by omega), nI_1]) N 0 σ (by omega) (Nat.zero_le _) ⟨qFr.rf, fun q hq => absurd hq (Nat.not_lt_zero _)⟩
  have V1 := V.fr a1
  have e2 : fX_marks N σ = fX_marks_b2 N (m + 1) σ1 (nI 64) := e
  rw [e2]
  simp only [fX_marks_b2]
  rw [if_pos (show (64 : Int32) ≤ nI 64 from Int32.le_refl _)]
  obtain ⟨σ2, e3, b1, b2, b3⟩ : ∃ σ2, fX_begin N σ1 = some (σ2, ()) ∧ qFr σ1 σ2 ∧ (∀ s, s < n → xJ σ2 13 s = 0) ∧ xJ σ2 14 = xJ σ1 14 := by
    obtain ⟨m, σ', ⟨h1, h2, h3⟩, e⟩ := pl_for (fun m j t => fX_begin_b2 N m t (nI j)) n (fun j t => qFr σ1 t ∧ (∀ s, s < j → xJ t 13 s = 0) ∧ xJ t 14 = xJ σ1 14) (by
      intro k t hk ⟨h1, h2, h3⟩
      have V' := V1.fr h1
      refine ⟨xSj t 13 k 0, ⟨h1.sj (Or.inl rfl) _ _, fun s hs => ?_, (xSj_n _ (by decide) _ _).trans h3⟩, fun m => ?_⟩
      · rw [xSj_s]
        by_cases hsk : s = k
        · subst hsk; exact upd_s _ _ _
        · rw [upd_n _ hsk]; exact h2 s (by omega)
      · simp only [fX_begin_b2, nmvE, V'.1]
        rw [if_neg (nI_ge hk (by omega)), pl_ck rfl (show k < 8 by omega) (by decide), nI_clamp (by omega), nI_1]) N 0 σ1 (by omega) (Nat.zero_le _) ⟨qFr.rf, fun s hs => absurd hs (Nat.not_lt_zero _), rfl⟩
    refine ⟨σ', ?_, h1, h2, h3⟩
    have e2 : fX_begin N σ1 = fX_begin_b2 N (m + 1) σ' (nI n) := e
    rw [e2]
    simp only [fX_begin_b2, nmvE, (V1.fr h1).1]
    exact if_pos (nI_le (Nat.le_refl _) (by omega))
  rw [e3]
  simp only [obi]
  have hY : ∀ t : xS, qFr σ t → xY t = xY σ := fun t h => by show t.2.2.2.2.2.2.2.2.2 = _; rw [h.2.2]
  obtain ⟨m3, t, ⟨c1, c2, c3, c4⟩, e4⟩ := pl_for (fun m j (t : xS × Int32) => fX_marks_b29 N m t.1 t.2 (nI j)) c (fun j t => qFr σ t.1 ∧ (∀ s, s < n → xJ t.1 13 s = drS P ex0 j s) ∧ t.2 = smS (fun k => prS n (fS P (xY σ) ex0 k)) j ∧ ∀ q, q < 64 → xJ t.1 14 q = if q / 8 < n ∧ q / 8 < q % 8 ∧ q % 8 < n then smS (fun k => fS P (xY σ) ex0 k (q / 8) (q % 8)) j else 0) (by
    intro j t hj ⟨h1, h2, h3, h4⟩
    have V' := V.fr h1
    obtain ⟨t1, f1, f2, f4, f3⟩ := X_goCount V' O (show 100 < N by omega) hj h2
    have f5 : ∀ s, s < n → xJ t1 13 s = drS P ex0 (j + 1) s := fun s hs => by rw [f3 s hs, drS_0 P j O s hs]
    obtain ⟨t2, g1, g2, g3, g4⟩ := X_marksIn (V'.fr f2) O hN hj f5
    rw [hY t1 (h1.tr f2)] at g1 g4
    refine ⟨(t2, t.2 + prS n (fdS P (xY σ) j (drS P ex0 (j + 1)))), ⟨(h1.tr f2).tr g2, fun s hs => by rw [g3]; exact f5 s hs, ?_, fun q hq => ?_⟩, fun m => ?_⟩
    · show t.2 + _ = smS _ j + _
      rw [h3]
      rfl
    · rw [g4 q, f4, h4 q hq]
      split
      · rfl
      · rfl
    · simp only [fX_marks_b29, nmvE, V'.2.2.2.2.1]
      rw [if_neg (nI_ge hj (by omega)), f1]
      simp only [obi]
      rw [g1]
      simp only [obi, nI_1]) N 0 (σ2, 0) (by omega) (Nat.zero_le _) ⟨a1.tr b1, b2, rfl, fun q hq => by
        show xJ σ2 14 q = _
        rw [b3, a2 q hq]
        split <;> rfl⟩
  refine ⟨t.1, ?_, c1, c4⟩
  have e5 : fX_marks_b29 N N σ2 0 0 = fX_marks_b29 N (m3 + 1) t.1 t.2 (nI c) := e4
  rw [e5]
  simp only [fX_marks_b29, nmvE, (V.fr c1).2.2.2.2.1]
  rw [if_pos (nI_le (Nat.le_refl _) (by omega)), c3]
