/-! Marks: the reference's; who lost most -/
theorem pl_nn {x : Int32} {b : Nat} (hb : b < 2 ^ 31) (h : 0 ≤ x.toInt ∧ x.toInt ≤ b) : ∃ k, k ≤ b ∧ x = nI k := by
  have h0 : (0 : Int32).toInt = 0 := by decide
  exact pl_rng hb ⟨Int32.le_iff_toInt_le.mpr (by omega), Int32.le_iff_toInt_le.mpr (by rw [nI_toInt hb]; exact h.2)⟩
theorem M_marks {n c : Nat} {P : mS} (O : pOk n c P) {Y : Option (List (List Int32 × List Int32))} (hL : pLaw P Y) {N : Nat} (hN : 400 < N) {D : Nat → Nat → Int32} (hD : ∀ k, k ≤ 60 → ∀ s, s < n → pBd (D k s) 6540) {μ : mS} (hf : mFr P μ) (hr : mRows n D c μ) :
    ∃ μ', fM_marks N μ = some (μ', prS n (fun a b => smS (fun k => fdS P Y k (D (k + 1)) a b) c)) ∧ mFr P μ' ∧ mRows n D c μ' ∧ μ'.1 51 = μ.1 51 ∧ ∀ a b, a < b → b < n → μ'.2.1 47 (10 * a + b) = smS (fun k => fdS P Y k (D (k + 1)) a b) c := by
  have o1 := O.1
  have o2 := O.2.1
  have o3 := O.2.2.1
  have o4 := O.2.2.2.1
  -- the marks of two
  have two : ∀ (a b : Nat) (μ : mS), a < b → b < n → mFr P μ → mRows n D c μ → μ.2.1 47 (10 * a + b) = 0 → ∃ m μ', (mFr P μ' ∧ mRows n D c μ' ∧ μ'.1 51 = μ.1 51 ∧ μ'.2.1 47 = upd (μ.2.1 47) (10 * a + b) (smS (fun k => fdS P Y k (D (k + 1)) a b) c)) ∧ ∀ k16 x1, fM_marks_b39 N k16 N μ x1 (nI a) (nI b) 0 = fM_marks_b39 N k16 (m + 1) μ' x1 (nI a) (nI b) (nI c) := by
    intro a b μ hab hb hf hr h0
    obtain ⟨m, μ', h, e⟩ := pl_for (fun m j (t : mS) (kx : (mS → Int32 → Int32 → Int32 → Option (mS × Int32)) × Int32) => fM_marks_b39 N kx.1 m t kx.2 (nI a) (nI b) (nI j)) c (fun j t => mFr P t ∧ mRows n D c t ∧ t.1 51 = μ.1 51 ∧ t.2.1 47 = upd (μ.2.1 47) (10 * a + b) (smS (fun k => fdS P Y k (D (k + 1)) a b) j)) (by
      intro j t hj ⟨h1, h2, h3, h4⟩
      have hap := apS_bd O (hD (j + 1) (by omega)) (show a < n by omega) hb
      obtain ⟨oo, hoo, eo⟩ := pl_nn (b := 13278) (by decide) hap
      obtain ⟨t1, q1, q2⟩ := M_loss O hL hN h1 (show a < n by omega) hb hoo (P.2.1 45 j) (nI j)
      rw [← eo] at q1
      have hB : t1.2.1 47 = t.2.1 47 := q2.2.1 47 (by decide) (by decide)
      refine ⟨mSj t1 47 (10 * a + b) (smS (fun k => fdS P Y k (D (k + 1)) a b) (j + 1)), ⟨(h1.tr q2.fr).sj (by decide) _ _, fun i hi s hs => ?_, ?_, ?_⟩, fun m => funext fun kx => ?_⟩
      · rw [mSj_n _ (by decide), q2.2.1 46 (by decide) (by decide)]
        exact h2 i hi s hs
      · show t1.1 51 = _
        rw [q2.1]
        exact h3
      · rw [mSj_s, hB, h4]
        funext q
        by_cases hq : q = 10 * a + b
        · subst hq; rw [upd_s, upd_s]
        · rw [upd_n _ hq, upd_n _ hq, upd_n _ hq]
      · simp only [fM_marks_b39, nmvE, h1.1 44 (by decide), o4]
        rw [if_neg (nI_ge hj (by omega)), pl_i10, pl_ck rfl (show 10 * a + b < 80 by omega) (by decide), nI_clamp (show 10 * a + b < 2 ^ 31 by omega), nI_1, M_apartOf O h1 (show j + 1 ≤ c by omega) h2 (show a < n by omega) hb]
        simp only [obi]
        rw [pl_ck rfl (show j < 60 by omega) (by decide), nI_clamp (show j < 2 ^ 31 by omega), h1.2.1 45 (by decide) (by decide) (by decide) (by decide), q1]
        simp only [obi]
        rw [pl_ck rfl (show 10 * a + b < 80 by omega) (by decide), h4, upd_s]
        rfl) N 0 μ (by omega) (Nat.zero_le _) ⟨hf, hr, rfl, by
          funext q
          by_cases hq : q = 10 * a + b
          · subst hq; rw [upd_s]; exact h0
          · rw [upd_n _ hq]⟩
    exact ⟨m, μ', h, fun k16 x1 => congrFun e (k16, x1)⟩
  obtain ⟨m, t, ⟨h1, h3, h4⟩, h2, e⟩ := pl_pr (fun m a (t : mS × Int32) => fM_marks_b4 N m t.1 t.2 (nI a)) (fun m a m' b (t : mS × Int32) => fM_marks_b16 N (fM_marks_b4 N m) m' t.1 t.2 (nI a) (nI b)) n N (by omega) (fun t => mFr P t.1 ∧ mRows n D c t.1 ∧ t.1.1 51 = μ.1 51) (fun t => (t.2, t.1.2.1 47)) (fun a b (x : Int32 × (Nat → Int32)) => (x.1 + smS (fun k => fdS P Y k (D (k + 1)) a b) c, upd x.2 (10 * a + b) (smS (fun k => fdS P Y k (D (k + 1)) a b) c))) (0, μ.2.1 47) (by
    intro m a t ha ⟨h1, h3, h4⟩
    simp only [fM_marks_b4, nmvE, h1.1 0 (by decide), o3]
    rw [if_neg (nI_ge ha (by omega)), nI_1]) (by
    intro a b t hab hb ⟨h1, h3, h4⟩
    obtain ⟨mm, t', ⟨q1, q2, q3, q4⟩, e1⟩ := two a b (mSj t.1 47 (10 * a + b) 0) hab hb (h1.sj (by decide) _ _) (fun i hi s hs => by rw [mSj_n _ (by decide)]; exact h3 i hi s hs) (by rw [mSj_s, upd_s])
    have hB : t'.2.1 47 = upd (t.1.2.1 47) (10 * a + b) (smS (fun k => fdS P Y k (D (k + 1)) a b) c) := by
      rw [q4, mSj_s]
      funext q
      by_cases hq : q = 10 * a + b
      · subst hq; rw [upd_s, upd_s]
      · rw [upd_n _ hq, upd_n _ hq, upd_n _ hq]
    refine ⟨(t', t.2 + smS (fun k => fdS P Y k (D (k + 1)) a b) c), ⟨q1, q2, q3.trans h4⟩, ?_, fun m m' => ?_⟩
    · show (_, t'.2.1 47) = _
      rw [hB]
    · simp only [fM_marks_b16, nmvE, h1.1 0 (by decide), o3]
      rw [if_neg (nI_ge hb (by omega)), pl_i10, pl_ck rfl (show 10 * a + b < 80 by omega) (by decide), nI_clamp (show 10 * a + b < 2 ^ 31 by omega), e1]
      simp only [fM_marks_b39, nmvE, q1.1 44 (by decide), o4]
      rw [if_pos (nI_le (Nat.le_refl _) (by omega)), pl_i10, pl_ck rfl (show 10 * a + b < 80 by omega) (by decide), nI_clamp (show 10 * a + b < 2 ^ 31 by omega), hB, upd_s, nI_1]) (by
    intro a t ha ⟨h1, h3, h4⟩ m m'
    simp only [fM_marks_b16, nmvE, h1.1 0 (by decide), o3]
    rw [if_pos (nI_le (Nat.le_refl _) (by omega)), nI_1]) N (μ, 0) (by omega) ⟨hf, hr, rfl⟩ rfl
  have k1 := prA_rel (fun (x : Int32 × (Nat → Int32)) (y : Int32) => x.1 = y) (f := fun a b (x : Int32 × (Nat → Int32)) => (x.1 + smS (fun k => fdS P Y k (D (k + 1)) a b) c, upd x.2 (10 * a + b) (smS (fun k => fdS P Y k (D (k + 1)) a b) c))) (g := fun a b x => x + smS (fun k => fdS P Y k (D (k + 1)) a b) c) (n := n) (z := ((0 : Int32), μ.2.1 47)) (w := 0) rfl (by
    intro a b x y _ _ h
    show x.1 + _ = y + _
    rw [h]) n (Nat.le_refl _)
  have k2 := prA_rel (fun (x : Int32 × (Nat → Int32)) (y : Nat → Int32) => x.2 = y) (f := fun a b (x : Int32 × (Nat → Int32)) => (x.1 + smS (fun k => fdS P Y k (D (k + 1)) a b) c, upd x.2 (10 * a + b) (smS (fun k => fdS P Y k (D (k + 1)) a b) c))) (g := fun a b (A : Nat → Int32) => upd A (10 * a + b) (smS (fun k => fdS P Y k (D (k + 1)) a b) c)) (n := n) (z := ((0 : Int32), μ.2.1 47)) (w := μ.2.1 47) rfl (by
    intro a b x y _ _ h
    show upd x.2 _ _ = upd y _ _
    rw [h]) n (Nat.le_refl _)
  rw [← h2] at k1 k2
  refine ⟨t.1, ?_, h1, h3, h4, fun a b hab hb => ?_⟩
  · have e2 : fM_marks N μ = fM_marks_b4 N (m + 1) t.1 t.2 (nI n) := e
    rw [e2]
    simp only [fM_marks_b4, nmvE, h1.1 0 (by decide), o3]
    rw [if_pos (nI_le (Nat.le_refl _) (by omega))]
    exact congrArg some (Prod.ext rfl k1)
  · have k3 : t.1.2.1 47 = _ := k2
    rw [k3]
    have k4 := ups_A (w := 10) (show n ≤ 10 by omega) (fun a b _ => smS (fun k => fdS P Y k (D (k + 1)) a b) c) (fun _ _ _ _ _ => rfl) (μ.2.1 47) n (Nat.le_refl _) (10 * a + b)
    have z1 : (10 * a + b) / 10 = a := by omega
    have z2 : (10 * a + b) % 10 = b := by omega
    rw [z1, z2, if_pos ⟨by omega, hab, hb⟩] at k4
    exact k4
/-- who lost most -/
def loS (n : Nat) (f : Nat → Nat → Int32) : Int32 × Int32 := prA (fun a b (x : Int32 × Int32) => if x.2 < f a b then (nI (10 * a + b), f a b) else x) n (-2, 0) n
theorem M_losers {n c : Nat} {P : mS} (O : pOk n c P) {N : Nat} (hN : 400 < N) {μ : mS} (hf : mFr P μ) {f : Nat → Nat → Int32} (h47 : ∀ a b, a < b → b < n → μ.2.1 47 (10 * a + b) = f a b) : fM_losers N μ = some (μ, (loS n f).1) := by
  have o1 := O.1
  have hm : μ.1 0 = nI n := (hf.1 0 (by decide)).trans O.2.2.1
  obtain ⟨m, t, h1, h2, e⟩ := pl_pr (fun m a (t : Int32 × Int32) => fM_losers_b7 N m μ t.1 t.2 (nI a)) (fun m a m' b (t : Int32 × Int32) => fM_losers_b20 N (fM_losers_b7 N m) m' μ t.1 t.2 (nI a) (nI b)) n N (by omega) (fun _ => True) (fun t => t) (fun a b (x : Int32 × Int32) => if x.2 < f a b then (nI (10 * a + b), f a b) else x) (-2, 0) (by
    intro m a t ha _
    simp only [fM_losers_b7, nmvE, hm]
    rw [if_neg (nI_ge ha (by omega)), nI_1]) (by
    intro a b t hab hb _
    refine ⟨_, trivial, rfl, fun m m' => ?_⟩
    simp only [fM_losers_b20, nmvE, hm, pl_i10]
    rw [if_neg (nI_ge hb (by omega)), pl_ck rfl (show 10 * a + b < 80 by omega) (by decide), nI_clamp (by omega), h47 a b hab hb]
    by_cases hc : t.2 < f a b
    · rw [if_pos hc, if_pos hc, pl_ck rfl (show 10 * a + b < 80 by omega) (by decide)]
      simp only [fM_losers_b69, nmvE, nI_1]
    · rw [if_neg hc, if_neg hc]
      simp only [fM_losers_b69, nmvE, nI_1]) (by
    intro a t ha _ m m'
    simp only [fM_losers_b20, nmvE, hm]
    rw [if_pos (nI_le (Nat.le_refl _) (by omega)), nI_1]) N (-2, 0) (by omega) trivial rfl
  have e2 : fM_losers N μ = fM_losers_b7 N (m + 1) μ t.1 t.2 (nI n) := e
  rw [e2]
  simp only [fM_losers_b7, nmvE, hm]
  rw [if_pos (nI_le (Nat.le_refl _) (by omega)), h2]
  rfl
/-- the fold by pairs, as far as place k of eight times eight -/
def prW {α : Type} (f : Nat → Nat → α → α) (n : Nat) (z : α) (k : Nat) : α := if k / 8 < n then prR f (k / 8) (prA f n z (k / 8)) (min (k % 8) n - (k / 8 + 1)) else prA f n z n
theorem prW_succ {α : Type} (f : Nat → Nat → α → α) {n : Nat} (hn : n ≤ 8) (z : α) {k : Nat} : prW f n z (k + 1) = if k / 8 < k % 8 ∧ k % 8 < n then f (k / 8) (k % 8) (prW f n z k) else prW f n z k := by
  have hz : ∀ a, a < n → prA f n z (a + 1) = prR f a (prA f n z a) (n - (a + 1)) := fun a _ => rfl
  unfold prW
  by_cases h7 : k % 8 = 7
  · have e1 : (k + 1) / 8 = k / 8 + 1 := by omega
    have e2 : (k + 1) % 8 = 0 := by omega
    rw [e1, e2, Nat.zero_min, Nat.zero_sub]
    by_cases ha : k / 8 < n
    · rw [if_pos ha]
      have e3 : (if k / 8 + 1 < n then prR f (k / 8 + 1) (prA f n z (k / 8 + 1)) 0 else prA f n z n) = prA f n z (k / 8 + 1) := by
        split
        · rfl
        · rw [show n = k / 8 + 1 from by omega]
      rw [e3, hz _ ha]
      by_cases hc : k / 8 < k % 8 ∧ k % 8 < n
      · rw [if_pos hc, show n - (k / 8 + 1) = (min (k % 8) n - (k / 8 + 1)) + 1 from by omega]
        show f (k / 8) (k / 8 + 1 + _) _ = _
        rw [show k / 8 + 1 + (min (k % 8) n - (k / 8 + 1)) = k % 8 from by omega]
      · rw [if_neg hc, show n - (k / 8 + 1) = min (k % 8) n - (k / 8 + 1) from by omega]
    · rw [if_neg ha, if_neg (show ¬ k / 8 + 1 < n from by omega), if_neg (show ¬ (k / 8 < k % 8 ∧ k % 8 < n) from by omega)]
  · have e1 : (k + 1) / 8 = k / 8 := by omega
    have e2 : (k + 1) % 8 = k % 8 + 1 := by omega
    rw [e1, e2]
    by_cases ha : k / 8 < n
    · rw [if_pos ha, if_pos ha]
      by_cases hc : k / 8 < k % 8 ∧ k % 8 < n
      · rw [if_pos hc, show min (k % 8 + 1) n - (k / 8 + 1) = (min (k % 8) n - (k / 8 + 1)) + 1 from by omega]
        show f (k / 8) (k / 8 + 1 + _) _ = _
        rw [show k / 8 + 1 + (min (k % 8) n - (k / 8 + 1)) = k % 8 from by omega]
      · rw [if_neg hc, show min (k % 8 + 1) n - (k / 8 + 1) = min (k % 8) n - (k / 8 + 1) from by omega]
    · rw [if_neg ha, if_neg ha, if_neg (show ¬ (k / 8 < k % 8 ∧ k % 8 < n) from by omega)]
theorem X_worst {n c : Nat} {P : mS} (O : pOk n c P) {N : Nat} (hN : 400 < N) {σ : xS} {f : Nat → Nat → Int32} (h14 : ∀ q, q < 64 → xJ σ 14 q = if q / 8 < n ∧ q / 8 < q % 8 ∧ q % 8 < n then f (q / 8) (q % 8) else 0) : fX_worstTwo_b12 N N σ (-2) 0 0 = some (σ, (loS n f).1) := by
  have o1 := O.1
  obtain ⟨m, t, ⟨h1, h2⟩, e⟩ := pl_for (fun m j (t : Int32 × Int32) => fX_worstTwo_b12 N m σ t.1 t.2 (nI j)) 64 (fun j t => t = prW (fun a b (x : Int32 × Int32) => if x.2 < f a b then (nI (10 * a + b), f a b) else x) n (-2, 0) j ∧ 0 ≤ t.2) (by
    intro j t hj ⟨h1, h2⟩
    have hs := prW_succ (fun a b (x : Int32 × Int32) => if x.2 < f a b then (nI (10 * a + b), f a b) else x) o1 (-2, 0) (k := j)
    rw [← h1] at hs
    have hv := h14 j hj
    by_cases hc : j / 8 < j % 8 ∧ j % 8 < n
    · rw [if_pos hc] at hs
      rw [if_pos ⟨by omega, hc.1, hc.2⟩] at hv
      refine ⟨_, ⟨hs.symm, ?_⟩, fun m => ?_⟩
      · split
        · rename_i hlt
          exact Int32.le_of_lt (Int32.lt_of_le_of_lt h2 hlt)
        · exact h2
      · simp only [fX_worstTwo_b12, nmvE, pl_cz8]
        rw [if_neg (show ¬ (64 : Int32) ≤ nI j from nI_ge hj (by decide)), pl_ck rfl hj (by decide), nI_clamp (by omega), hv]
        by_cases hlt : t.2 < f (j / 8) (j % 8)
        · rw [if_pos hlt, if_pos hlt, pl_ck rfl hj (by decide)]
          simp only [fX_worstTwo_b51, nmvE, nI_1]
          rw [show (8 : Int32) = nI 8 from rfl, pl_mod (by omega) (by decide) (by decide), pl_div (by omega) (by decide) (by decide), show (10 : Int32) = nI 10 from rfl, nI_mul, nI_add, Nat.mul_comm]
        · rw [if_neg hlt, if_neg hlt]
          simp only [fX_worstTwo_b51, nmvE, nI_1]
    · rw [if_neg hc] at hs
      rw [if_neg (by omega)] at hv
      refine ⟨t, ⟨hs.symm, h2⟩, fun m => ?_⟩
      simp only [fX_worstTwo_b12, nmvE, pl_cz8]
      rw [if_neg (show ¬ (64 : Int32) ≤ nI j from nI_ge hj (by decide)), pl_ck rfl hj (by decide), nI_clamp (by omega), hv, if_neg (Int32.not_lt.mpr h2)]
      simp only [fX_worstTwo_b51, nmvE, nI_1]) N 0 (-2, 0) (by omega) (Nat.zero_le _) ⟨by
        unfold prW
        split
        · rw [show min (0 % 8) n - (0 / 8 + 1) = 0 from by omega]; rfl
        · rename_i h
          rw [show n = 0 from by omega]; rfl, Int32.le_refl _⟩
  have e2 : fX_worstTwo_b12 N N σ (-2) 0 0 = fX_worstTwo_b12 N (m + 1) σ t.1 t.2 (nI 64) := e
  rw [e2]
  simp only [fX_worstTwo_b12]
  rw [if_pos (show (64 : Int32) ≤ nI 64 from Int32.le_refl _), h1]
  unfold prW loS
  rw [if_neg (by omega)]
