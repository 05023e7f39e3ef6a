/-! The reference's drift -/
def zN (z : Int32) : Nat → Int32
  | 0 => z
  | t + 1 => zN z t * 1103515245 + 12345
def eZ (x : Int32) : Int32 := ((x.toUInt32 >>> ((8 : Int32).toUInt32 &&& Int32.toUInt32 31)).toInt32) - ((x.toUInt32 >>> ((8 : Int32).toUInt32 &&& Int32.toUInt32 31)).toInt32) / 12 * 12
def exZ (n : Nat) (sl z : Int32) : Nat → Nat → Int32 := fun k s => if sl ≤ eZ (zN z (k * n + s + 1)) then 0 else 1
theorem pOk_ld {n c : Nat} {P : mS} (O : pOk n c P) (h : 0 ≤ P.2.1 7 0 ∧ P.2.1 7 0 ≤ nI n - 1) : ∃ ld, ld < n ∧ P.2.1 7 0 = nI ld := pl_one (by have := O.1; omega) h
/-- drift's rows, the later ones still to come -/
def mRows (n : Nat) (D : Nat → Nat → Int32) (k : Nat) (μ : mS) : Prop := ∀ j, j ≤ k → ∀ s, s < n → μ.2.1 46 (8 * j + s) = D j s
theorem M_dr33 {n c : Nat} {P : mS} (O : pOk n c P) {N : Nat} (hN : 100 < N) {a : Int32} (ha : a = 0 ∨ a = 1) {ex D : Nat → Nat → Int32} {zK : Nat → Int32}
    (hex : ∀ k s, s < n → (a = 0 → ex k s = 0 ∧ zK (k * n + s + 1) = zK (k * n + s)) ∧ (a = 1 → zK (k * n + s + 1) = zK (k * n + s) * 1103515245 + 12345 ∧ ex k s = if P.1 52 ≤ eZ (zK (k * n + s + 1)) then 0 else 1))
    {k : Nat} (hk : k < c) {μ : mS} (hf : mFr P μ) (hr : mRows n D k μ) (hz : μ.1 51 = zK (k * n)) {B : Nat → Int32} (hB : μ.2.1 47 = B) :
    ∃ m μ', (mFr P μ' ∧ mRows n D k μ' ∧ (∀ s, s < n → μ'.2.1 46 (8 * k + 8 + s) = D k s + P.2.1 5 s + ex k s) ∧ μ'.1 51 = zK ((k + 1) * n) ∧ μ'.2.1 47 = B) ∧ ∀ k23, fM_drifts_b33 N k23 N μ a (nI k) 0 = fM_drifts_b33 N k23 (m + 1) μ' a (nI k) (nI n) := by
  obtain ⟨o1, o2, o3, o4, o5, o6, o7, o8, o9⟩ := O
  obtain ⟨m, μ', ⟨h1, h2, h3, h4, h5⟩, e⟩ := pl_for (fun m j t (k23 : mS → Int32 → Int32 → Option (mS × Unit)) => fM_drifts_b33 N k23 m t a (nI k) (nI j)) n (fun j t => mFr P t ∧ mRows n D k t ∧ (∀ s, s < j → t.2.1 46 (8 * k + 8 + s) = D k s + P.2.1 5 s + ex k s) ∧ t.1 51 = zK (k * n + j) ∧ t.2.1 47 = B) (by
    intro o t ho ⟨h1, h2, h3, h4, h5⟩
    have hq : t.2.1 5 o = P.2.1 5 o := by rw [h1.2.1 5 (by decide) (by decide) (by decide) (by decide)]
    have hD : t.2.1 46 (8 * k + o) = D k o := h2 k (Nat.le_refl _) o ho
    have hx := hex k o ho
    -- the store, whatever the seed
    have st : ∀ (t1 : mS) (v : Int32), mFr P t1 → t1.2.1 46 = t.2.1 46 → t1.2.1 47 = B → t1.1 51 = zK (k * n + (o + 1)) → v = P.2.1 5 o + ex k o → (mFr P (mSj t1 46 (8 * k + 8 + o) (D k o + v)) ∧ mRows n D k (mSj t1 46 (8 * k + 8 + o) (D k o + v)) ∧ (∀ s, s < o + 1 → (mSj t1 46 (8 * k + 8 + o) (D k o + v)).2.1 46 (8 * k + 8 + s) = D k s + P.2.1 5 s + ex k s) ∧ (mSj t1 46 (8 * k + 8 + o) (D k o + v)).1 51 = zK (k * n + (o + 1)) ∧ (mSj t1 46 (8 * k + 8 + o) (D k o + v)).2.1 47 = B) ∧ ∀ m k23, fM_drifts_b89 N (fM_drifts_b33 N k23 m) t1 a (nI k) (nI o) v = fM_drifts_b33 N k23 m (mSj t1 46 (8 * k + 8 + o) (D k o + v)) a (nI k) (nI (o + 1)) := by
      intro t1 v g1 g2 g5 g3 g4
      refine ⟨⟨g1.sj (by decide) _ _, fun j hj s hs => ?_, fun s hs => ?_, g3, (mSj_n _ (by decide) _ _).trans g5⟩, fun m k23 => ?_⟩
      · rw [mSj_s, upd_n _ (by omega), g2]
        exact h2 j hj s hs
      · rw [mSj_s]
        by_cases hso : s = o
        · subst hso
          rw [upd_s, g4, Int32.add_assoc]
        · rw [upd_n _ (by omega), g2]
          exact h3 s (by omega)
      · simp only [fM_drifts_b89, nmvE]
        rw [pl_i88, pl_i8, pl_ck rfl (show 8 * k + o < 488 by omega) (by decide), nI_clamp (by omega), pl_ck rfl (show 8 * k + 8 + o < 488 by omega) (by decide), nI_clamp (by omega), nI_1, g2, hD]
    rcases ha with ha | ha
    · obtain ⟨x1, x2⟩ := hx.1 ha
      obtain ⟨q1, q2⟩ := st t (P.2.1 5 o) h1 rfl h5 (by rw [h4]; exact x2.symm) (by rw [x1, Int32.add_zero])
      refine ⟨_, q1, fun m => funext fun k23 => ?_⟩
      simp only [fM_drifts_b33, nmvE, h1.1 0 (by decide), o3]
      rw [if_neg (nI_ge ho (by omega)), pl_ck rfl (show o < 8 by omega) (by decide), nI_clamp (by omega), hq, if_pos ha]
      exact q2 m k23
    · obtain ⟨x1, x2⟩ := hx.2 ha
      have hne : ¬ a = 0 := by rw [ha]; decide
      have hx1 : t.1 51 * 1103515245 + 12345 = zK (k * n + o + 1) := by rw [h4]; exact x1.symm
      have s51 : upd t.1 51 (zK (k * n + o + 1)) 51 = zK (k * n + o + 1) := upd_s _ _ _
      have s52 : upd t.1 51 (zK (k * n + o + 1)) 52 = P.1 52 := (upd_n _ (by decide) _).trans (h1.1 52 (by decide))
      by_cases hh : P.1 52 ≤ eZ (zK (k * n + o + 1))
      · rw [if_pos hh] at x2
        obtain ⟨q1, q2⟩ := st (mSi t 51 (zK (k * n + o + 1))) (P.2.1 5 o) (h1.si _) rfl h5 (mSi_s _ _ _) (by rw [x2, Int32.add_zero])
        refine ⟨_, q1, fun m => funext fun k23 => ?_⟩
        simp only [fM_drifts_b33, nmvE, h1.1 0 (by decide), o3, hx1, s51, s52]
        rw [if_neg (nI_ge ho (by omega)), pl_ck rfl (show o < 8 by omega) (by decide), nI_clamp (by omega), hq, if_neg hne, pl_cz12]
        unfold eZ at hh
        rw [if_pos hh]
        exact q2 m k23
      · rw [if_neg hh] at x2
        obtain ⟨q1, q2⟩ := st (mSi t 51 (zK (k * n + o + 1))) (P.2.1 5 o + 1) (h1.si _) rfl h5 (mSi_s _ _ _) (by rw [x2])
        refine ⟨_, q1, fun m => funext fun k23 => ?_⟩
        simp only [fM_drifts_b33, nmvE, h1.1 0 (by decide), o3, hx1, s51, s52]
        rw [if_neg (nI_ge ho (by omega)), pl_ck rfl (show o < 8 by omega) (by decide), nI_clamp (by omega), hq, if_neg hne, pl_cz12]
        unfold eZ at hh
        rw [if_neg hh]
        exact q2 m k23) N 0 μ (by omega) (Nat.zero_le _) ⟨hf, hr, fun s hs => absurd hs (Nat.not_lt_zero _), hz, hB⟩
  exact ⟨m, μ', ⟨h1, h2, h3, by rw [h4, Nat.succ_mul], h5⟩, fun k23 => congrFun e k23⟩
/-- those who look, the slip: one row's end -/
theorem M_dr125 {n c : Nat} {P : mS} (O : pOk n c P) {N : Nat} (hN : 100 < N) (hs0 : P.1 48 = -2 ∨ ∃ s, s < n ∧ P.1 48 = nI s) {a : Int32} {D : Nat → Nat → Int32} {d : Nat → Int32}
    {k : Nat} (hk : k < c) {μ : mS} (hf : mFr P μ) (hr : mRows n D k μ) (hd : ∀ s, s < n → μ.2.1 46 (8 * k + 8 + s) = d s + P.2.1 5 s) {B : Nat → Int32} (hB : μ.2.1 47 = B) :
    ∃ μ', (mFr P μ' ∧ mRows n D k μ' ∧ (∀ s, s < n → μ'.2.1 46 (8 * k + 8 + s) = goS P k d s) ∧ μ'.1 51 = μ.1 51 ∧ μ'.2.1 47 = B) ∧ ∀ k23, fM_drifts_b125 N k23 N μ a (nI k) 0 = k23 μ' a (nI (k + 1)) := by
  have O' := O
  obtain ⟨o1, o2, o3, o4, o5, o6, o7, o8, o9⟩ := O
  have fin : ∀ (t : mS) (f : Nat → Int32), mFr P t → mRows n D k t → t.1 51 = μ.1 51 → t.2.1 47 = B → (∀ s, s < n → t.2.1 46 (8 * k + 8 + s) = f s) → ∃ μ', (mFr P μ' ∧ mRows n D k μ' ∧ (∀ s, s < n → μ'.2.1 46 (8 * k + 8 + s) = f s + (if P.1 48 = nI s ∧ P.1 49 = nI k then P.1 50 else 0)) ∧ μ'.1 51 = μ.1 51 ∧ μ'.2.1 47 = B) ∧ ∀ k23, fM_drifts_b195 N k23 t a (nI k) = k23 μ' a (nI (k + 1)) := by
    intro t f h1 h2 h3 h5 h4
    have t48 := h1.1 48 (by decide)
    have t49 := h1.1 49 (by decide)
    have t50 := h1.1 50 (by decide)
    rcases hs0 with b1 | ⟨s, b1, b2⟩
    · refine ⟨t, ⟨h1, h2, fun s hs => ?_, h3, h5⟩, ?_⟩
      · rw [if_neg (fun q => by
          have q2 := congrArg Int32.toInt (b1.symm.trans q.1)
          rw [nI_toInt (by omega)] at q2
          have : (-2 : Int32).toInt = -2 := by decide
          omega), Int32.add_zero]
        exact h4 s hs
      · intro k23
        simp only [fM_drifts_b195, fM_drifts_b236, nmvE, t48]
        rw [if_pos b1, nI_1]
    · have hn2 : ¬ nI s = -2 := fun q => by
        have q2 := congrArg Int32.toInt q
        rw [nI_toInt (by omega)] at q2
        have : (-2 : Int32).toInt = -2 := by decide
        omega
      by_cases hk2 : P.1 49 = nI k
      · refine ⟨mSj t 46 (8 * k + 8 + s) (f s + P.1 50), ⟨h1.sj (by decide) _ _, fun j hj q hq => ?_, fun q hq => ?_, h3, (mSj_n _ (by decide) _ _).trans h5⟩, ?_⟩
        · rw [mSj_s, upd_n _ (by omega)]
          exact h2 j hj q hq
        · rw [mSj_s]
          by_cases hqs : q = s
          · subst hqs
            rw [upd_s, if_pos ⟨b2, hk2⟩]
          · rw [upd_n _ (by omega), if_neg (fun z => hqs ((nI_eq (by omega) (by omega)).mp (b2.symm.trans z.1)).symm), Int32.add_zero]
            exact h4 q hq
        · intro k23
          simp only [fM_drifts_b195, fM_drifts_b236, nmvE, t48, t49, t50, b2]
          rw [if_neg hn2, if_pos hk2, pl_i8, pl_ck rfl (show 8 * k + 8 + s < 488 by omega) (by decide), nI_clamp (by omega), pl_ck rfl (show 8 * k + 8 + s < 488 by omega) (by decide), nI_1, h4 s b1]
      · refine ⟨t, ⟨h1, h2, fun q hq => ?_, h3, h5⟩, ?_⟩
        · rw [if_neg (fun z => hk2 z.2), Int32.add_zero]
          exact h4 q hq
        · intro k23
          simp only [fM_drifts_b195, fM_drifts_b236, nmvE, t48, t49, b2]
          rw [if_neg hn2, if_neg hk2, nI_1]
  by_cases h0 : n = 0
  · subst h0
    obtain ⟨μ', q1, q2⟩ := fin μ (fun s => d s + P.2.1 5 s) hf hr rfl hB hd
    refine ⟨μ', ⟨q1.1, q1.2.1, fun s hs => absurd hs (Nat.not_lt_zero _), q1.2.2.2⟩, fun k23 => ?_⟩
    obtain ⟨N', rfl⟩ : ∃ N', N = N' + 1 := ⟨N - 1, by omega⟩
    simp only [fM_drifts_b125, nmvE, hf.1 0 (by decide), o3]
    rw [if_pos (by rw [nI_0]; exact Int32.le_refl _)]
    exact q2 k23
  · by_cases hlook : P.2.1 45 k = 4 ∧ (0 ≤ P.2.1 7 0 ∧ P.2.1 7 0 ≤ nI n - 1)
    · obtain ⟨ld, hl, el⟩ := pOk_ld O' hlook.2
      have hone : 0 ≤ nI ld ∧ nI ld ≤ nI n - 1 := pl_oneI (by omega) hl
      obtain ⟨m2, μ2, ⟨c1, c2, c3, c4, c5⟩, e3⟩ := pl_for (fun m j t (k23 : mS → Int32 → Int32 → Option (mS × Unit)) => fM_drifts_b125 N k23 m t a (nI k) (nI j)) n (fun j t => mFr P t ∧ mRows n D k t ∧ t.1 51 = μ.1 51 ∧ t.2.1 47 = B ∧ ∀ s, s < n → t.2.1 46 (8 * k + 8 + s) = if s < j then d ld + P.2.1 5 ld else d s + P.2.1 5 s) (by
        intro j t hj ⟨h1, h2, h3, h5, h4⟩
        have t45 := h1.2.1 45 (by decide) (by decide) (by decide) (by decide)
        have t7 := h1.2.1 7 (by decide) (by decide) (by decide) (by decide)
        refine ⟨mSj t 46 (8 * k + 8 + j) (t.2.1 46 (8 * k + 8 + ld)), ⟨h1.sj (by decide) _ _, fun i hi s hs => ?_, h3, (mSj_n _ (by decide) _ _).trans h5, fun s hs => ?_⟩, fun m => ?_⟩
        · rw [mSj_s, upd_n _ (by omega)]
          exact h2 i hi s hs
        · rw [mSj_s]
          by_cases hsj : s = j
          · subst hsj
            rw [upd_s, if_pos (Nat.lt_succ_self _), h4 ld hl]
            split <;> rfl
          · rw [upd_n _ (by omega), h4 s hs]
            by_cases hlt : s < j
            · rw [if_pos hlt, if_pos (by omega)]
            · rw [if_neg hlt, if_neg (by omega)]
        · funext k23
          simp only [fM_drifts_b125, nmvE, h1.1 0 (by decide), o3]
          rw [if_neg (nI_ge hj (by omega)), pl_ck rfl (show k < 60 by omega) (by decide), nI_clamp (by omega), t45, if_pos hlook.1, pl_c03, t7]
          simp only [pl_mone, obi, pl_if0, h1.1 0 (by decide), o3, show (0 : Int32).toNatClampNeg = 0 from rfl, t7, el]
          rw [if_pos hone, pl_c03, pl_i8, pl_i8, pl_ck rfl (show 8 * k + 8 + ld < 488 by omega) (by decide), pl_ck rfl (show 8 * k + 8 + j < 488 by omega) (by decide), nI_clamp (by omega), nI_clamp (by omega), nI_1]) N 0 μ (by omega) (Nat.zero_le _) ⟨hf, hr, rfl, hB, fun s hs => by rw [if_neg (Nat.not_lt_zero _)]; exact hd s hs⟩
      have e4 : ∀ k23, fM_drifts_b125 N k23 N μ a (nI k) 0 = fM_drifts_b125 N k23 (m2 + 1) μ2 a (nI k) (nI n) := fun k23 => congrFun e3 k23
      obtain ⟨μ', q1, q2⟩ := fin μ2 (fun _ => d ld + P.2.1 5 ld) c1 c2 c3 c4 (fun s hs => by rw [c5 s hs, if_pos hs])
      refine ⟨μ', ⟨q1.1, q1.2.1, fun s hs => ?_, q1.2.2.2⟩, ?_⟩
      · rw [q1.2.2.1 s hs]
        rw [goS_pos ⟨hlook.1, by rw [o3]; exact hlook.2⟩, el, nI_clamp (by omega)]
      · intro k23
        rw [e4]
        simp only [fM_drifts_b125, nmvE, c1.1 0 (by decide), o3]
        rw [if_pos (nI_le (Nat.le_refl _) (by omega))]
        exact q2 k23
    · obtain ⟨μ', q1, q2⟩ := fin μ (fun s => d s + P.2.1 5 s) hf hr rfl hB hd
      refine ⟨μ', ⟨q1.1, q1.2.1, fun s hs => ?_, q1.2.2.2⟩, ?_⟩
      · rw [q1.2.2.1 s hs]
        rw [goS_neg (fun q => hlook ⟨q.1, by rw [← o3]; exact q.2⟩)]
      · intro k23
        obtain ⟨N', rfl⟩ : ∃ N', N = N' + 1 := ⟨N - 1, by omega⟩
        have t45 := hf.2.1 45 (by decide) (by decide) (by decide) (by decide)
        have t7 := hf.2.1 7 (by decide) (by decide) (by decide) (by decide)
        simp only [fM_drifts_b125, nmvE, hf.1 0 (by decide), o3]
        rw [if_neg (by rw [← nI_0]; exact nI_ge (by omega) (by omega)), pl_ck rfl (show k < 60 by omega) (by decide), nI_clamp (by omega), t45]
        by_cases h4 : P.2.1 45 k = 4
        · rw [if_pos h4, pl_c03, t7]
          simp only [pl_mone, obi, pl_if0, hf.1 0 (by decide), o3, show (0 : Int32).toNatClampNeg = 0 from rfl]
          rw [if_neg (fun q => hlook ⟨h4, q⟩)]
          exact q2 k23
        · rw [if_neg h4]
          exact q2 k23
theorem M_drifts {n c : Nat} {P : mS} (O : pOk n c P) {N : Nat} (hN : 100 < N) (hs0 : P.1 48 = -2 ∨ ∃ s, s < n ∧ P.1 48 = nI s) {a : Int32} (ha : a = 0 ∨ a = 1) {ex : Nat → Nat → Int32} {zK : Nat → Int32}
    (hex : ∀ k s, s < n → (a = 0 → ex k s = 0 ∧ zK (k * n + s + 1) = zK (k * n + s)) ∧ (a = 1 → zK (k * n + s + 1) = zK (k * n + s) * 1103515245 + 12345 ∧ ex k s = if P.1 52 ≤ eZ (zK (k * n + s + 1)) then 0 else 1))
    {μ : mS} (hf : mFr P μ) (hz : μ.1 51 = zK 0) :
    ∃ μ', fM_drifts N μ a = some (μ', ()) ∧ mFr P μ' ∧ mRows n (drS P ex) c μ' ∧ μ'.1 51 = zK (c * n) ∧ μ'.2.1 47 = μ.2.1 47 := by
  have O' := O
  obtain ⟨o1, o2, o3, o4, o5, o6, o7, o8, o9⟩ := O
  -- row 0
  obtain ⟨m, μ1, ⟨h1, h2, h3, h4⟩, e⟩ := pl_for (fun m j t => fM_drifts_b2 N m t a (nI j)) 8 (fun j t => mFr P t ∧ (∀ s, s < j → t.2.1 46 s = 0) ∧ t.1 51 = zK 0 ∧ t.2.1 47 = μ.2.1 47) (by
    intro j t hj ⟨h1, h2, h3, h4⟩
    refine ⟨mSj t 46 j 0, ⟨h1.sj (by decide) _ _, fun s hs => ?_, h3, (mSj_n _ (by decide) _ _).trans h4⟩, fun m => ?_⟩
    · rw [mSj_s]
      by_cases hsj : s = j
      · subst hsj; exact upd_s _ _ _
      · rw [upd_n _ hsj]; exact h2 s (by omega)
    · simp only [fM_drifts_b2, nmvE]
      rw [if_neg (show ¬ (8 : Int32) ≤ nI j from nI_ge hj (by decide)), pl_ck rfl (show j < 488 by omega) (by decide), nI_clamp (by omega), nI_1]) N 0 μ (by omega) (Nat.zero_le _) ⟨hf, fun s hs => absurd hs (Nat.not_lt_zero _), hz, rfl⟩
  have e1 : fM_drifts N μ a = fM_drifts_b2 N (m + 1) μ1 a (nI 8) := e
  have r0 : mRows n (drS P ex) 0 μ1 := by
    intro j hj s hs
    rw [show j = 0 from by omega, Nat.mul_zero, Nat.zero_add]
    exact h2 s (by omega)
  obtain ⟨m2, μ2, ⟨g1, g2, g3, g4⟩, e2⟩ := pl_for (fun m j t => fM_drifts_b23 N m t a (nI j)) c (fun j t => mFr P t ∧ mRows n (drS P ex) j t ∧ t.1 51 = zK (j * n) ∧ t.2.1 47 = μ.2.1 47) (by
    intro k t hk ⟨h1, h2, h3, h4⟩
    obtain ⟨mm, t1, ⟨q1, q2, q3, q4, q5⟩, e5⟩ := M_dr33 O' hN ha hex hk h1 h2 h3 h4
    obtain ⟨t2, ⟨p1, p2, p3, p4, p5⟩, e6⟩ := M_dr125 O' hN hs0 (a := a) (d := fun s => drS P ex k s + ex k s) hk q1 q2 (fun s hs => by rw [q3 s hs, Int32.add_assoc, Int32.add_assoc, Int32.add_comm (P.2.1 5 s)]) q5
    refine ⟨t2, ⟨p1, fun j hj s hs => ?_, by rw [p4, q4], p5⟩, fun m => ?_⟩
    · by_cases hjk : j = k + 1
      · subst hjk
        rw [show 8 * (k + 1) + s = 8 * k + 8 + s from by omega, p3 s hs]
        rfl
      · exact p2 j (by omega) s hs
    · simp only [fM_drifts_b23, nmvE, h1.1 44 (by decide), o4]
      rw [if_neg (nI_ge hk (by omega)), e5]
      simp only [fM_drifts_b33, nmvE, q1.1 0 (by decide), o3]
      rw [if_pos (nI_le (Nat.le_refl _) (by omega))]
      exact e6 _) N 0 μ1 (by omega) (Nat.zero_le _) ⟨h1, r0, by rw [Nat.zero_mul]; exact h3, h4⟩
  refine ⟨μ2, ?_, g1, g2, g3, g4⟩
  rw [e1]
  simp only [fM_drifts_b2]
  rw [if_pos (show (8 : Int32) ≤ nI 8 from Int32.le_refl _)]
  have e3 : fM_drifts_b23 N N μ1 a 0 = fM_drifts_b23 N (m2 + 1) μ2 a (nI c) := e2
  rw [e3]
  simp only [fM_drifts_b23, nmvE, g1.1 44 (by decide), o4]
  exact if_pos (nI_le (Nat.le_refl _) (by omega))
