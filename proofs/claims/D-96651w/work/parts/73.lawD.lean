/-! Apart -/
theorem pBd.add {a b : Int32} {x y : Int} (ha : pBd a x) (hb : pBd b y) (h : x + y < 2147483648) : (a + b).toInt = a.toInt + b.toInt ∧ pBd (a + b) (x + y) := by
  have e : (a + b).toInt = a.toInt + b.toInt := by
    rw [Int32.toInt_add]
    exact Int.bmod_eq_of_le (by have := ha.1; have := hb.1; omega) (by have := ha.2; have := hb.2; omega)
  exact ⟨e, by unfold pBd at *; omega⟩
theorem pBd.sub {a b : Int32} {x y : Int} (ha : pBd a x) (hb : pBd b y) (h : x + y < 2147483648) : (a - b).toInt = a.toInt - b.toInt ∧ pBd (a - b) (x + y) := by
  have e : (a - b).toInt = a.toInt - b.toInt := by
    rw [Int32.toInt_sub]
    exact Int.bmod_eq_of_le (by have := ha.1; have := hb.2; omega) (by have := ha.2; have := hb.1; omega)
  exact ⟨e, by unfold pBd at *; omega⟩
theorem pBd.mono {a : Int32} {x y : Int} (ha : pBd a x) (h : x ≤ y) : pBd a y := by unfold pBd at *; omega
theorem pl_m2 {s : Nat} (h : s < 2 ^ 31) : ¬ nI s = -2 := fun q => by
  have q2 := congrArg Int32.toInt q
  rw [nI_toInt h] at q2
  have : (-2 : Int32).toInt = -2 := by decide
  omega
theorem pl_m1 {s : Nat} (h : s < 2 ^ 31) : ¬ nI s = -1 := fun q => by
  have q2 := congrArg Int32.toInt q
  rw [nI_toInt h] at q2
  have : (-1 : Int32).toInt = -1 := by decide
  omega
theorem pBd0 {x : Int} (h : 0 ≤ x) : pBd 0 x := by
  have : (0 : Int32).toInt = 0 := by decide
  unfold pBd
  omega
theorem goS_bd {n c : Nat} {P : mS} (O : pOk n c P) {k : Nat} {d : Nat → Int32} {x : Int} (hx : x + 108 < 2147483648) (hd : ∀ s, s < n → pBd (d s) x) : ∀ s, s < n → pBd (goS P k d s) (x + 108) := by
  intro s hs
  have O' := O
  obtain ⟨o1, o2, o3, o4, o5, o6, o7, o8, o9⟩ := O
  have h1 : pBd (if P.2.1 45 k = 4 ∧ (0 ≤ P.2.1 7 0 ∧ P.2.1 7 0 ≤ P.1 0 - 1) then d (P.2.1 7 0).toNatClampNeg + P.2.1 5 (P.2.1 7 0).toNatClampNeg else d s + P.2.1 5 s) (x + 9) := by
    split
    · rename_i hc
      obtain ⟨ld, hl, e⟩ := pOk_ld O' (by rw [← o3]; exact hc.2)
      rw [e, nI_clamp (by omega)]
      exact ((hd ld hl).add (o8 ld hl).1 (by omega)).2
    · exact ((hd s hs).add (o8 s hs).1 (by omega)).2
  have h2 : pBd (if P.1 48 = nI s ∧ P.1 49 = nI k then P.1 50 else 0) 99 := by
    split
    · rename_i hc
      rcases o9 with h | h
      · exact absurd (hc.1.symm.trans h) (pl_m2 (by omega))
      · exact h
    · exact pBd0 (by decide)
  exact (h1.add h2 (by omega)).2.mono (by omega)
theorem drS_bd {n c : Nat} {P : mS} (O : pOk n c P) {ex : Nat → Nat → Int32} (hex : ∀ k s, s < n → pBd (ex k s) 1) : ∀ k, k ≤ 60 → ∀ s, s < n → pBd (drS P ex k s) (109 * k) := by
  intro k
  induction k with
  | zero => intro _ s hs; exact pBd0 (by omega)
  | succ k ih =>
    intro hk s hs
    have h := goS_bd O (k := k) (d := fun s => drS P ex k s + ex k s) (x := 109 * k + 1) (by omega) (fun s hs => ((ih (by omega) s hs).add (hex k s hs) (by omega)).2) s hs
    exact h.mono (by omega)
def abS (x : Int32) : Int32 := if 0 ≤ x then x else 0 - x
def apS (P : mS) (d : Nat → Int32) (a b : Nat) : Int32 := abS ((d a - P.2.1 6 a) - (d b - P.2.1 6 b))
theorem abS_bd {x : Int32} {b : Int} (h : pBd x b) (hb : b < 2147483648) : 0 ≤ (abS x).toInt ∧ (abS x).toInt ≤ b := by
  unfold abS
  have h0 : (0 : Int32).toInt = 0 := by decide
  split
  · rename_i hc
    have := Int32.le_iff_toInt_le.mp hc
    unfold pBd at h
    omega
  · rename_i hc
    have := Int32.lt_iff_toInt_lt.mp (Int32.not_le.mp hc)
    have e := ((pBd0 (x := 0) (by decide)).sub h (by omega)).1
    unfold pBd at h
    omega
theorem apS_bd {n c : Nat} {P : mS} (O : pOk n c P) {d : Nat → Int32} (hd : ∀ s, s < n → pBd (d s) 6540) {a b : Nat} (ha : a < n) (hb : b < n) : 0 ≤ (apS P d a b).toInt ∧ (apS P d a b).toInt ≤ 13278 := by
  obtain ⟨o1, o2, o3, o4, o5, o6, o7, o8, o9⟩ := O
  have h1 := ((hd a ha).sub (o8 a ha).2 (by omega)).2
  have h2 := ((hd b hb).sub (o8 b hb).2 (by omega)).2
  exact abS_bd ((h1.sub h2 (by omega)).2.mono (by omega)) (by decide)
def mxS (P : mS) (d : Nat → Int32) (n : Nat) : Int32 := prA (fun a b x => if x < apS P d a b then apS P d a b else x) n 0 n
def faS (P : mS) (d : Nat → Int32) (n : Nat) : Int32 × Int32 := prA (fun a b (x : Int32 × Int32) => if x.2 < apS P d a b then (nI (10 * a + b), apS P d a b) else x) n (-2, -1) n
theorem apS_congr {P : mS} {n : Nat} {d d' : Nat → Int32} (h : ∀ s, s < n → d s = d' s) {a b : Nat} (ha : a < n) (hb : b < n) : apS P d a b = apS P d' a b := by
  unfold apS
  rw [h a ha, h b hb]
/-- the greatest of all is that of the two who are farthest apart -/
theorem fa_mx {n c : Nat} {P : mS} (O : pOk n c P) {d : Nat → Int32} (hd : ∀ s, s < n → pBd (d s) 6540) : ((faS P d n).1 = -2 ∧ mxS P d n = 0 ∧ n < 2) ∨ (∃ a b, a < b ∧ b < n ∧ (faS P d n).1 = nI (10 * a + b) ∧ mxS P d n = apS P d a b) := by
  have key := prA_rel (fun (x : Int32 × Int32) (y : Int32 × Bool) => (x = (-2, -1) ∧ y = (0, false)) ∨ (y.2 = true ∧ ∃ a b, a < b ∧ b < n ∧ x.1 = nI (10 * a + b) ∧ x.2 = apS P d a b ∧ y.1 = apS P d a b))
    (f := fun a b (x : Int32 × Int32) => if x.2 < apS P d a b then (nI (10 * a + b), apS P d a b) else x) (g := fun a b (y : Int32 × Bool) => (if y.1 < apS P d a b then apS P d a b else y.1, true)) (n := n) (z := (-2, -1)) (w := (0, false)) (Or.inl ⟨rfl, rfl⟩) (by
    intro a b x y hab hb h
    have hap := apS_bd O hd (show a < n by omega) hb
    have h0 : (0 : Int32).toInt = 0 := by decide
    have h1 : (-1 : Int32).toInt = -1 := by decide
    refine Or.inr ⟨rfl, ?_⟩
    rcases h with ⟨rfl, rfl⟩ | ⟨_, a', b', h1, h2, h3, h4, h5⟩
    · refine ⟨a, b, hab, hb, ?_⟩
      have c1 : (-1 : Int32) < apS P d a b := Int32.lt_iff_toInt_lt.mpr (by omega)
      show (if (-1 : Int32) < apS P d a b then (nI (10 * a + b), apS P d a b) else ((-2 : Int32), (-1 : Int32))).1 = _ ∧ (if (-1 : Int32) < apS P d a b then (nI (10 * a + b), apS P d a b) else ((-2 : Int32), (-1 : Int32))).2 = _ ∧ (if (0 : Int32) < apS P d a b then apS P d a b else 0) = _
      rw [if_pos c1]
      refine ⟨rfl, rfl, ?_⟩
      split
      · rfl
      · rename_i c2
        have := Int32.le_iff_toInt_le.mp (Int32.not_lt.mp c2)
        exact Int32.toInt_inj.mp (by omega)
    · show ∃ a1 b1, a1 < b1 ∧ b1 < n ∧ (if x.2 < apS P d a b then (nI (10 * a + b), apS P d a b) else x).1 = _ ∧ (if x.2 < apS P d a b then (nI (10 * a + b), apS P d a b) else x).2 = _ ∧ (if y.1 < apS P d a b then apS P d a b else y.1) = _
      rw [h4, h5]
      by_cases c1 : apS P d a' b' < apS P d a b
      · rw [if_pos c1, if_pos c1]
        exact ⟨a, b, hab, hb, rfl, rfl, rfl⟩
      · rw [if_neg c1, if_neg c1]
        exact ⟨a', b', h1, h2, h3, h4, rfl⟩) n (Nat.le_refl _)
  -- the second fold is the greatest, and whether there were two at all
  have k2 := prA_rel (fun (y : Int32 × Bool) (z : Int32) => y.1 = z) (f := fun a b (y : Int32 × Bool) => (if y.1 < apS P d a b then apS P d a b else y.1, true)) (g := fun a b x => if x < apS P d a b then apS P d a b else x) (n := n) (z := ((0 : Int32), false)) (w := 0) rfl (by
    intro a b x y hab hb h
    show (if x.1 < apS P d a b then apS P d a b else x.1) = _
    rw [h]) n (Nat.le_refl _)
  have k3 : 2 ≤ n → (prA (fun a b (y : Int32 × Bool) => (if y.1 < apS P d a b then apS P d a b else y.1, true)) n ((0 : Int32), false) n).2 = true := by
    intro h2
    have aux : ∀ k, 0 < k → (prA (fun a b (y : Int32 × Bool) => (if y.1 < apS P d a b then apS P d a b else y.1, true)) n ((0 : Int32), false) k).2 = true := by
      intro k
      induction k with
      | zero => intro h; omega
      | succ k ih =>
        intro _
        simp only [prA]
        by_cases hz : n - (k + 1) = 0
        · rw [hz]
          by_cases hk : k = 0
          · omega
          · simp only [prR]
            exact ih (by omega)
        · obtain ⟨j, hj⟩ : ∃ j, n - (k + 1) = j + 1 := ⟨n - (k + 1) - 1, by omega⟩
          rw [hj]
          rfl
    exact aux n (by omega)
  have k2' : (prA (fun a b (y : Int32 × Bool) => (if y.1 < apS P d a b then apS P d a b else y.1, true)) n ((0 : Int32), false) n).1 = mxS P d n := k2
  rcases key with ⟨h1, h2⟩ | ⟨h1, a, b, h2, h3, h4, h5, h6⟩
  · refine Or.inl ⟨?_, ?_, ?_⟩
    · unfold faS
      rw [h1]
    · rw [← k2', h2]
    · apply Decidable.byContradiction
      intro h
      have := k3 (by omega)
      rw [h2] at this
      cases this
  · exact Or.inr ⟨a, b, h2, h3, h4, by rw [← k2', h6]⟩
theorem X_apartOf {n c : Nat} {P : mS} {σ : xS} (V : pVw n c P σ) (O : pOk n c P) {N : Nat} {d : Nat → Int32} (hd : ∀ s, s < n → xJ σ 13 s = d s) {a b : Nat} (ha : a < n) (hb : b < n) : fX_apartOf N σ (nI a) (nI b) = some (σ, apS P d a b) := by
  have o1 := O.1
  have off : ∀ s, s < n → fX_offOf N σ (nI s) = some (σ, d s - P.2.1 6 s) := by
    intro s hs
    simp only [fX_offOf, nmvE]
    simp only [nI_clamp (show s < 2 ^ 31 by omega)]
    rw [pl_ck rfl (show s < 8 by omega) (by decide), pl_ck rfl (show s < 8 by omega) (by decide), pl_cl (by rw [V.2.1]; exact hs), pl_cl (by rw [V.2.1]; exact hs), V.2.2.1 s hs 5 (by decide), hd s hs]
  simp only [fX_apartOf, off a ha, off b hb, obi, nmvE]
  rfl
theorem X_off {n c : Nat} {P : mS} {σ : xS} (V : pVw n c P σ) (O : pOk n c P) {N : Nat} {d : Nat → Int32} (hd : ∀ s, s < n → xJ σ 13 s = d s) {s : Nat} (hs : s < n) : fX_offOf N σ (nI s) = some (σ, d s - P.2.1 6 s) := by
  have o1 := O.1
  simp only [fX_offOf, nmvE]
  simp only [nI_clamp (show s < 2 ^ 31 by omega)]
  rw [pl_ck rfl (show s < 8 by omega) (by decide), pl_ck rfl (show s < 8 by omega) (by decide), pl_cl (by rw [V.2.1]; exact hs), pl_cl (by rw [V.2.1]; exact hs), V.2.2.1 s hs 5 (by decide), hd s hs]
theorem M_off {n c : Nat} {P : mS} {μ : mS} (O : pOk n c P) (hf : mFr P μ) {N : Nat} {D : Nat → Nat → Int32} {k : Nat} (hk : k ≤ c) (hr : mRows n D c μ) {s : Nat} (hs : s < n) : fM_offOf N μ (nI s) (nI k) = some (μ, D k s - P.2.1 6 s) := by
  have o1 := O.1
  have o2 := O.2.1
  simp only [fM_offOf, nmvE]
  rw [pl_i88, pl_ck rfl (show 8 * k + s < 488 by omega) (by decide), nI_clamp (by omega), nI_clamp (by omega), pl_ck rfl (show s < 8 by omega) (by decide), hr k hk s hs, hf.2.1 6 (by decide) (by decide) (by decide) (by decide)]
theorem M_apartOf {n c : Nat} {P : mS} {μ : mS} (O : pOk n c P) (hf : mFr P μ) {N : Nat} {D : Nat → Nat → Int32} {k : Nat} (hk : k ≤ c) (hr : mRows n D c μ) {a b : Nat} (ha : a < n) (hb : b < n) : fM_apartOf N μ (nI a) (nI b) (nI k) = some (μ, apS P (D k) a b) := by
  simp only [fM_apartOf, M_off O hf hk hr ha, M_off O hf hk hr hb, obi, nmvE]
  rfl
theorem X_apartNow {n c : Nat} {P : mS} {σ : xS} (V : pVw n c P σ) (O : pOk n c P) {N : Nat} (hN : 100 < N) {d : Nat → Int32} (hd : ∀ s, s < n → xJ σ 13 s = d s) : fX_apartNow N σ = some (σ, mxS P d n) := by
  have o1 := O.1
  obtain ⟨m, t, h1, h2, e⟩ := pl_pr (fun m a (t : Int32) => fX_apartNow_b4 N m σ t (nI a)) (fun m a m' b (t : Int32) => fX_apartNow_b16 N (fX_apartNow_b4 N m) m' σ t (nI a) (nI b)) n N (by omega) (fun _ => True) (fun t => t) (fun a b x => if x < apS P d a b then apS P d a b else x) 0 (by
    intro m a t ha _
    simp only [fX_apartNow_b4, nmvE, V.1]
    rw [if_neg (nI_ge ha (by omega)), nI_1]) (by
    intro a b t hab hb _
    refine ⟨_, trivial, rfl, fun m m' => ?_⟩
    simp only [fX_apartNow_b16, nmvE, V.1]
    rw [if_neg (nI_ge hb (by omega)), X_apartOf V O hd (show a < n by omega) hb]
    simp only [obi, nI_1]) (by
    intro a t ha _ m m'
    simp only [fX_apartNow_b16, nmvE, V.1]
    rw [if_pos (nI_le (Nat.le_refl _) (by omega)), nI_1]) N 0 (by omega) trivial rfl
  have e2 : fX_apartNow N σ = fX_apartNow_b4 N (m + 1) σ t (nI n) := e
  rw [e2]
  simp only [fX_apartNow_b4, nmvE, V.1]
  rw [if_pos (nI_le (Nat.le_refl _) (by omega)), h2]
  rfl
theorem X_firstApart {n c : Nat} {P : mS} {σ : xS} (V : pVw n c P σ) (O : pOk n c P) {N : Nat} (hN : 100 < N) {d : Nat → Int32} (hd : ∀ s, s < n → xJ σ 13 s = d s) : fX_firstApart N σ = some (σ, (faS P d n).1) := by
  have o1 := O.1
  obtain ⟨m, t, h1, h2, e⟩ := pl_pr (fun m a (t : Int32 × Int32) => fX_firstApart_b7 N m σ t.1 t.2 (nI a)) (fun m a m' b (t : Int32 × Int32) => fX_firstApart_b20 N (fX_firstApart_b7 N m) m' σ t.1 t.2 (nI a) (nI b)) n N (by omega) (fun _ => True) (fun t => t) (fun a b (x : Int32 × Int32) => if x.2 < apS P d a b then (nI (10 * a + b), apS P d a b) else x) (-2, -1) (by
    intro m a t ha _
    simp only [fX_firstApart_b7, nmvE, V.1]
    rw [if_neg (nI_ge ha (by omega)), nI_1]) (by
    intro a b t hab hb _
    refine ⟨_, trivial, rfl, fun m m' => ?_⟩
    simp only [fX_firstApart_b20, nmvE, V.1]
    rw [if_neg (nI_ge hb (by omega)), X_apartOf V O hd (show a < n by omega) hb]
    simp only [obi]
    by_cases hc : t.2 < apS P d a b
    · rw [if_pos hc, if_pos hc]
      simp only [obi, X_apartOf V O hd (show a < n by omega) hb, fX_firstApart_b59, nmvE, nI_1, pl_i10]
    · rw [if_neg hc, if_neg hc]
      simp only [fX_firstApart_b59, nmvE, nI_1]) (by
    intro a t ha _ m m'
    simp only [fX_firstApart_b20, nmvE, V.1]
    rw [if_pos (nI_le (Nat.le_refl _) (by omega)), nI_1]) N (-2, -1) (by omega) trivial rfl
  have e2 : fX_firstApart N σ = fX_firstApart_b7 N (m + 1) σ t.1 t.2 (nI n) := e
  rw [e2]
  simp only [fX_firstApart_b7, nmvE, V.1]
  rw [if_pos (nI_le (Nat.le_refl _) (by omega)), h2]
  rfl
theorem M_farthest {n c : Nat} {P : mS} {μ : mS} (O : pOk n c P) (hf : mFr P μ) {N : Nat} (hN : 100 < N) {D : Nat → Nat → Int32} {k : Nat} (hk : k ≤ c) (hr : mRows n D c μ) : fM_farthest N μ (nI k) = some (μ, (faS P (D k) n).1) := by
  have o1 := O.1
  have hm : μ.1 0 = nI n := (hf.1 0 (by decide)).trans O.2.2.1
  obtain ⟨m, t, h1, h2, e⟩ := pl_pr (fun m a (t : Int32 × Int32) => fM_farthest_b8 N m μ (nI k) t.1 t.2 (nI a)) (fun m a m' b (t : Int32 × Int32) => fM_farthest_b23 N (fM_farthest_b8 N m) m' μ (nI k) t.1 t.2 (nI a) (nI b)) n N (by omega) (fun _ => True) (fun t => t) (fun a b (x : Int32 × Int32) => if x.2 < apS P (D k) a b then (nI (10 * a + b), apS P (D k) a b) else x) (-2, -1) (by
    intro m a t ha _
    simp only [fM_farthest_b8, nmvE, hm]
    rw [if_neg (nI_ge ha (by omega)), nI_1]) (by
    intro a b t hab hb _
    refine ⟨_, trivial, rfl, fun m m' => ?_⟩
    simp only [fM_farthest_b23, nmvE, hm]
    rw [if_neg (nI_ge hb (by omega)), M_apartOf O hf hk hr (show a < n by omega) hb]
    simp only [obi]
    by_cases hc : t.2 < apS P (D k) a b
    · rw [if_pos hc, if_pos hc]
      simp only [obi, M_apartOf O hf hk hr (show a < n by omega) hb, fM_farthest_b67, nmvE, nI_1, pl_i10]
    · rw [if_neg hc, if_neg hc]
      simp only [fM_farthest_b67, nmvE, nI_1]) (by
    intro a t ha _ m m'
    simp only [fM_farthest_b23, nmvE, hm]
    rw [if_pos (nI_le (Nat.le_refl _) (by omega)), nI_1]) N (-2, -1) (by omega) trivial rfl
  have e2 : fM_farthest N μ (nI k) = fM_farthest_b8 N (m + 1) μ (nI k) t.1 t.2 (nI n) := e
  rw [e2]
  simp only [fM_farthest_b8, nmvE, hm]
  rw [if_pos (nI_le (Nat.le_refl _) (by omega)), h2]
  rfl
theorem M_greatest {n c : Nat} {P : mS} {μ : mS} (O : pOk n c P) (hf : mFr P μ) {N : Nat} (hN : 100 < N) {D : Nat → Nat → Int32} {k : Nat} (hk : k ≤ c) (hr : mRows n D c μ) (hD : ∀ s, s < n → pBd (D k s) 6540) : fM_greatest N μ (nI k) = some (μ, mxS P (D k) n) := by
  have o1 := O.1
  simp only [fM_greatest, M_farthest O hf hN hk hr, obi, pl_cz10]
  rcases fa_mx O hD with ⟨h1, h2, _⟩ | ⟨a, b, h1, h2, h3, h4⟩
  · rw [if_pos h1, h2]
  · rw [h3, if_neg (pl_m2 (by omega)), h4, show (10 : Int32) = nI 10 from rfl, pl_mod (by omega) (by decide) (by decide), pl_div (by omega) (by decide) (by decide), show (10 * a + b) / 10 = a from by omega, show (10 * a + b) % 10 = b from by omega, M_apartOf O hf hk hr (by omega) h2]
