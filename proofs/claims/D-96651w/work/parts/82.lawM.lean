/-! First, a slip, gone, least -/
theorem X_first {n c : Nat} {P : mS} {σ0 : xS} (V : pVw n c P σ0) (O : pOk n c P) {N : Nat} (hN : 400 < N) (a : Int32) : ∃ σ', fX_first_b41 N N σ0 a (-2) (-2) 0 = some (σ', if a = 0 then (whS (fun s => totS n c (mSj P 5 s 0) (xY σ0)) n).1 else (whS (fun s => totS n c (mSj P 5 s 0) (xY σ0)) n).2) ∧ qFr σ0 σ' := by
  have o1 := O.1
  obtain ⟨m, t, ⟨h1, h2⟩, e⟩ := pl_for (fun m j (t : xS × Int32 × Int32) => fX_first_b41 N m t.1 a t.2.1 t.2.2 (nI j)) n (fun j t => qFr σ0 t.1 ∧ t.2 = whS (fun s => totS n c (mSj P 5 s 0) (xY σ0)) j) (by
    intro j t hj ⟨h1, h2⟩
    obtain ⟨t0, b, l⟩ := t
    simp only at h1 h2 ⊢
    have V' := V.fr h1
    have h1s : qFr σ0 (xSe t0 j 4 (xE t0 j 4)) := by rw [xSe_self]; exact h1
    have V2 := V.sw (s := j) hj (Or.inl rfl) h1s 0
    have O2 : pOk n c (mSj P 5 j 0) := O.sw (Or.inl ⟨rfl, pBd0 (by decide)⟩)
    obtain ⟨t1, e1, f1⟩ := X_tot V2 O2 hN
    have hY : xY (xSe t0 j 4 0) = xY σ0 := by show t0.2.2.2.2.2.2.2.2.2 = _; rw [h1.2.2]
    rw [hY] at e1
    have hn1 : xn t1 = n := by
      show t1.2.2.2.1 = n
      rw [f1.2.2]
      exact V'.2.1
    have h2a : b = (whS (fun s => totS n c (mSj P 5 s 0) (xY σ0)) j).1 := by rw [← h2]
    have h2b : l = (whS (fun s => totS n c (mSj P 5 s 0) (xY σ0)) j).2 := by rw [← h2]
    have hlt := whS_lt (fun s => totS n c (mSj P 5 s 0) (xY σ0)) (s := j) (by omega)
    refine ⟨(xSe t1 j 4 (xE t0 j 4), whS (fun s => totS n c (mSj P 5 s 0) (xY σ0)) (j + 1)), ⟨h1s.sw f1, rfl⟩, fun m => ?_⟩
    simp only [fX_first_b41, nmvE, V'.1]
    rw [if_neg (nI_ge hj (by omega))]
    simp only [nI_clamp (show j < 2 ^ 31 by omega)]
    rw [pl_ck rfl (show j < 8 by omega) (by decide), pl_cl (by rw [V'.2.1]; exact hj), pl_cl (by rw [V'.2.1]; exact hj), pl_ck rfl (show j < 8 by omega) (by decide), pl_cl (by rw [V'.2.1]; exact hj), pl_cl (by rw [V'.2.1]; exact hj), e1, whS_succ]
    simp only [obi, h2a, h2b]
    rw [pl_ck rfl (show j < 8 by omega) (by decide), pl_cl (by rw [hn1]; exact hj), pl_cl (by rw [hn1]; exact hj)]
    by_cases hc1 : (whS (fun s => totS n c (mSj P 5 s 0) (xY σ0)) j).1 = -2
    · rw [if_pos (hlt.mpr hc1), if_pos (Or.inl hc1)]
      simp only [fX_first_b106, fX_first_b114, nmvE, nI_1]
    · rw [if_neg (fun z => hc1 (hlt.mp z))]
      by_cases hc2 : totS n c (mSj P 5 j 0) (xY σ0) < (whS (fun s => totS n c (mSj P 5 s 0) (xY σ0)) j).2
      · rw [if_pos hc2, if_pos (Or.inr hc2)]
        simp only [fX_first_b106, fX_first_b114, nmvE, nI_1]
      · rw [if_neg hc2, if_neg (fun z => z.elim hc1 hc2)]
        simp only [fX_first_b114, nmvE, nI_1]) N 0 (σ0, -2, -2) (by omega) (Nat.zero_le _) ⟨qFr.rf, rfl⟩
  obtain ⟨t0, b, l⟩ := t
  simp only at h1 h2
  refine ⟨t0, ?_, h1⟩
  have e2 : fX_first_b41 N N σ0 a (-2) (-2) 0 = fX_first_b41 N (m + 1) t0 a b l (nI n) := e
  rw [e2]
  simp only [fX_first_b41, nmvE, (V.fr h1).1]
  rw [if_pos (nI_le (Nat.le_refl _) (by omega)), ← h2]
  split <;> rfl
theorem M_first {n c : Nat} {P : mS} (O : pOk n c P) {Y : Option (List (List Int32 × List Int32))} (hL : pLaw P Y) {N : Nat} (hN : 400 < N) (hs0 : P.1 48 = -2) (a : Int32) : ∃ μ', fM_first_b47 N N P a (-2) (-2) 0 = some (μ', if a = 0 then (whS (fun s => totS n c (mSj P 5 s 0) Y) n).1 else (whS (fun s => totS n c (mSj P 5 s 0) Y) n).2) ∧ mFr P μ' := by
  have o1 := O.1
  obtain ⟨m, t, ⟨h1, h2⟩, e⟩ := pl_for (fun m j (t : mS × Int32 × Int32) => fM_first_b47 N m t.1 a t.2.1 t.2.2 (nI j)) n (fun j t => mFr P t.1 ∧ t.2 = whS (fun s => totS n c (mSj P 5 s 0) Y) j) (by
    intro j t hj ⟨h1, h2⟩
    obtain ⟨t0, b, l⟩ := t
    simp only at h1 h2 ⊢
    have h1' := h1.cell0 (k := 5) (by decide) j 0
    have O2 : pOk n c (mSj P 5 j 0) := O.sw (Or.inl ⟨rfl, pBd0 (by decide)⟩)
    obtain ⟨t1, e1, f1, _⟩ := M_marksNow O2 (pLaw.to (m := P) (m' := mSj P 5 j 0) rfl rfl (fun k q1 q2 => mSj_n _ (by omega) _ _) hL) hN (Or.inl hs0) h1'
    have hm : t0.1 0 = nI n := (h1.1 0 (by decide)).trans O.2.2.1
    have hq : t0.2.1 5 j = P.2.1 5 j := by rw [h1.2.1 5 (by decide) (by decide) (by decide) (by decide)]
    have h2a : b = (whS (fun s => totS n c (mSj P 5 s 0) Y) j).1 := by rw [← h2]
    have h2b : l = (whS (fun s => totS n c (mSj P 5 s 0) Y) j).2 := by rw [← h2]
    refine ⟨(mSj t1 5 j (P.2.1 5 j), whS (fun s => totS n c (mSj P 5 s 0) Y) (j + 1)), ⟨f1.back (by decide), rfl⟩, fun m => ?_⟩
    simp only [fM_first_b47, nmvE, hm]
    rw [if_neg (nI_ge hj (by omega))]
    simp only [nI_clamp (show j < 2 ^ 31 by omega), hq]
    rw [pl_ck rfl (show j < 8 by omega) (by decide), pl_ck rfl (show j < 8 by omega) (by decide), e1, whS_succ]
    simp only [obi, h2a, h2b]
    rw [pl_ck rfl (show j < 8 by omega) (by decide)]
    by_cases hc1 : (whS (fun s => totS n c (mSj P 5 s 0) Y) j).1 = -2
    · rw [if_pos hc1, if_pos (Or.inl hc1)]
      simp only [fM_first_b105, fM_first_b113, nmvE, nI_1]
    · rw [if_neg hc1]
      by_cases hc2 : totS n c (mSj P 5 j 0) Y < (whS (fun s => totS n c (mSj P 5 s 0) Y) j).2
      · rw [if_pos hc2, if_pos (Or.inr hc2)]
        simp only [fM_first_b105, fM_first_b113, nmvE, nI_1]
      · rw [if_neg hc2, if_neg (fun z => z.elim hc1 hc2)]
        simp only [fM_first_b113, nmvE, nI_1]) N 0 (P, -2, -2) (by omega) (Nat.zero_le _) ⟨mFr.rf, rfl⟩
  obtain ⟨t0, b, l⟩ := t
  simp only at h1 h2
  refine ⟨t0, ?_, h1⟩
  have e2 : fM_first_b47 N N P a (-2) (-2) 0 = fM_first_b47 N (m + 1) t0 a b l (nI n) := e
  rw [e2]
  simp only [fM_first_b47, nmvE, (h1.1 0 (by decide)).trans O.2.2.1]
  rw [if_pos (nI_le (Nat.le_refl _) (by omega)), ← h2]
  split <;> rfl
theorem op_first {x : xS} {m : mS} (R : pRel x m) {N : Nat} (hN : 400 < N) (a0 a1 : Int32) : Sim (fX_first N x a0 a1) (fM_first N m a0 a1) := by
  simp only [fX_first, fM_first, pl_xsh, pl_msh, obi, pl_if0, pl_in, pl_wi]
  by_cases h0 : 0 ≤ a0 ∧ a0 ≤ 5
  · rw [if_pos h0, if_pos h0]
    by_cases h1 : 0 ≤ a1 ∧ a1 ≤ 1
    · rw [if_pos h1, if_pos h1]
      obtain ⟨j, hj, rfl⟩ := pl_rng (b := 5) (by decide) h0
      obtain ⟨x1, r, e1, q1, e2, -, -, hr⟩ := lay R hN (show j < 6 by omega)
      rw [e1, e2]
      simp only [obi]
      rcases hr with rfl | rfl | ⟨rfl, n, c, m1, e3, q2, V, O, s48, R1, -, -⟩
      · rw [if_neg (by decide), if_neg (by decide)]
        exact ⟨x1, m, -11, rfl, rfl, R.qu q1 mQu.rf⟩
      · rw [if_neg (by decide), if_neg (by decide)]
        exact ⟨x1, m, -12, rfl, rfl, R.qu q1 mQu.rf⟩
      · rw [if_pos z00, if_pos z00, e3]
        obtain ⟨x2, e5, f5⟩ := X_first V O hN a1
        obtain ⟨m2, e6, f6⟩ := M_first O V.2.2.2.2.2.2.2 hN s48 a1
        simp only [obi]
        rw [e5, e6]
        exact ⟨x2, m2, _, rfl, rfl, R1.qu f5.qu f6.qu⟩
    · rw [if_neg h1, if_neg h1]
      exact ⟨x, m, -1, rfl, rfl, R⟩
  · rw [if_neg h0, if_neg h0]
    exact ⟨x, m, -1, rfl, rfl, R⟩
theorem pl_pos {a : Int32} (h : ¬ a < 0) : ∃ j, j < 2 ^ 31 ∧ a = nI j := nI_of h
theorem op_slip {x : xS} {m : mS} (R : pRel x m) {N : Nat} (hN : 400 < N) (a0 a1 a2 : Int32) : Sim (fX_slip N x a0 a1 a2) (fM_slip N m a0 a1 a2) := by
  have hmany : xI x 1 = m.1 0 := by obtain ⟨n, b, ⟨_, h1, _, h2, _⟩, _⟩ := R; rw [h1, h2]
  simp only [fX_slip, fM_slip, pl_xsh, pl_msh, obi, pl_if0, pl_in, pl_wi, pl_xone, pl_mone, hmany, pl_cz100]
  by_cases h0 : 0 ≤ a0 ∧ a0 ≤ 5
  · rw [if_pos h0, if_pos h0]
    by_cases h1 : a1 < 0
    · rw [if_pos h1, if_pos h1]
      exact ⟨x, m, _, rfl, rfl, R⟩
    rw [if_neg h1, if_neg h1]
    obtain ⟨ok, hok, rfl⟩ := pl_pos h1
    have ed : nI ok / 100 = nI (ok / 100) := pl_div hok (by decide) (by decide)
    have em : nI ok - nI ok / 100 * 100 = nI (ok % 100) := pl_mod hok (by decide) (by decide)
    rw [em, ed]
    by_cases h2 : 0 ≤ nI (ok / 100) ∧ nI (ok / 100) ≤ m.1 0 - 1
    · rw [if_pos h2, if_pos h2]
      by_cases h3 : ok % 100 < 60
      · rw [if_neg (show ¬ (60 : Int32) ≤ nI (ok % 100) from nI_ge (b := 60) h3 (by decide)), if_neg (show ¬ (59 : Int32) < nI (ok % 100) from nI_nlt (a := 59) (by omega) (by decide))]
        by_cases h4 : -99 ≤ a2 ∧ a2 ≤ 99
        · rw [if_pos h4, if_pos h4]
          obtain ⟨j, hj, rfl⟩ := pl_rng (b := 5) (by decide) h0
          obtain ⟨x1, r, e1, q1, e2, -, -, hr⟩ := lay R hN (show j < 6 by omega)
          rw [e1, e2]
          simp only [obi]
          rcases hr with rfl | rfl | ⟨rfl, n, c, m1, e3, q2, V, O, s48, R1, fi, -⟩
          · rw [if_neg (by decide), if_neg (by decide)]
            exact ⟨x1, m, _, rfl, rfl, R.qu q1 mQu.rf⟩
          · rw [if_neg (by decide), if_neg (by decide)]
            exact ⟨x1, m, _, rfl, rfl, R.qu q1 mQu.rf⟩
          · rw [if_pos z00, if_pos z00, e3]
            simp only [obi, nmvE]
            have hm0 : m.1 0 = nI n := (fi 0 (by decide)).symm.trans O.2.2.1
            rw [hm0] at h2
            obtain ⟨s, hs, es⟩ := pl_one (n := n) (by have := O.1; omega) h2
            rw [es]
            have e17 : xI x1 17 = -2 := by obtain ⟨n', b', _, _, _, _, _, _, _, _, q, _⟩ := R1; exact q
            have V2 : pVw n c (mSi (mSi (mSi m1 48 (nI s)) 49 (nI (ok % 100))) 50 a2) (xSi (xSi (xSi x1 16 (nI s)) 17 (nI (ok % 100))) 18 a2) := by
              obtain ⟨v1, v2, v3, ⟨v4, v5, v6⟩, v7, v8, v9, v10⟩ := V
              have g : ∀ k, k ≠ 16 → k ≠ 17 → k ≠ 18 → xI (xSi (xSi (xSi x1 16 (nI s)) 17 (nI (ok % 100))) 18 a2) k = xI x1 k := fun k c1 c2 c3 => by rw [xSi_n _ c3, xSi_n _ c2, xSi_n _ c1]
              have i48 : (mSi (mSi (mSi m1 48 (nI s)) 49 (nI (ok % 100))) 50 a2).1 48 = nI s := (mSi_n _ (by decide) _).trans ((mSi_n _ (by decide) _).trans (mSi_s _ _ _))
              have i49 : (mSi (mSi (mSi m1 48 (nI s)) 49 (nI (ok % 100))) 50 a2).1 49 = nI (ok % 100) := (mSi_n _ (by decide) _).trans (mSi_s _ _ _)
              have i50 : (mSi (mSi (mSi m1 48 (nI s)) 49 (nI (ok % 100))) 50 a2).1 50 = a2 := mSi_s _ _ _
              refine ⟨(g 1 (by decide) (by decide) (by decide)).trans v1, v2, v3, ⟨(g 2 (by decide) (by decide) (by decide)).trans v4, (g 3 (by decide) (by decide) (by decide)).trans v5, (g 4 (by decide) (by decide) (by decide)).trans v6⟩, (g 15 (by decide) (by decide) (by decide)).trans v7, v8, Or.inr ⟨s, hs, i48, ?_, ?_, ?_⟩, ?_⟩
              · rw [xSi_n _ (by decide), xSi_n _ (by decide), xSi_s]
              · rw [xSi_n _ (by decide), xSi_s, i49]
              · rw [xSi_s, i50]
              · refine pLaw.to (m := m1) ?_ ?_ (fun _ _ _ => rfl) v10
                · exact (mSi_n _ (by decide) _).trans ((mSi_n _ (by decide) _).trans (mSi_n _ (by decide) _))
                · exact (mSi_n _ (by decide) _).trans ((mSi_n _ (by decide) _).trans (mSi_n _ (by decide) _))
            have O2 : pOk n c (mSi (mSi (mSi m1 48 (nI s)) 49 (nI (ok % 100))) 50 a2) := by
              obtain ⟨o1, o2, o3, o4, o5, o6, o7, o8, o9⟩ := O
              have g : ∀ k, k ≠ 48 → k ≠ 49 → k ≠ 50 → (mSi (mSi (mSi m1 48 (nI s)) 49 (nI (ok % 100))) 50 a2).1 k = m1.1 k := fun k c1 c2 c3 => (mSi_n _ c3 _).trans ((mSi_n _ c2 _).trans (mSi_n _ c1 _))
              refine ⟨o1, o2, (g 0 (by decide) (by decide) (by decide)).trans o3, (g 44 (by decide) (by decide) (by decide)).trans o4, o5, o6, o7, o8, Or.inr ?_⟩
              have e50 : (mSi (mSi (mSi m1 48 (nI s)) 49 (nI (ok % 100))) 50 a2).1 50 = a2 := mSi_s _ _ _
              rw [e50]
              have z1 := Int32.le_iff_toInt_le.mp h4.1
              have z2 := Int32.le_iff_toInt_le.mp h4.2
              have e1 : (-99 : Int32).toInt = -99 := by decide
              have e2 : (99 : Int32).toInt = 99 := by decide
              unfold pBd
              omega
            have i48 : (mSi (mSi (mSi m1 48 (nI s)) 49 (nI (ok % 100))) 50 a2).1 48 = nI s := (mSi_n _ (by decide) _).trans ((mSi_n _ (by decide) _).trans (mSi_s _ _ _))
            obtain ⟨x2, e5, f5⟩ := X_tot V2 O2 hN
            obtain ⟨m2, e6, f6, _⟩ := M_marksNow O2 V2.2.2.2.2.2.2.2 hN (Or.inr ⟨s, hs, i48⟩) mFr.rf
            rw [e5, e6]
            simp only
            refine ⟨xSi x2 17 (-2), mSi m2 48 (-2), _, rfl, rfl, R1.qu ?_ ?_⟩
            · refine ⟨fun k c1 c2 c3 c4 c5 c6 c7 => ?_, ⟨f5.2.1 8 (by decide) (by decide) (by decide), f5.2.1 32 (by decide) (by decide) (by decide), f5.2.1 40 (by decide) (by decide) (by decide)⟩, f5.2.2⟩
              by_cases h17 : k = 17
              · subst h17; rw [xSi_s, e17]
              · rw [xSi_n _ h17, f5.1 k c4, xSi_n _ c3, xSi_n _ h17, xSi_n _ c2]
            · refine ⟨fun k c1 c2 c3 c4 c5 c6 => ?_, fun k c1 c2 => f6.2.1 k (by omega) (by omega) (by omega) (by omega), f6.2.2⟩
              by_cases h48 : k = 48
              · subst h48; exact (mSi_s _ _ _).trans s48.symm
              · exact (mSi_n _ h48 _).trans ((f6.1 k c5).trans ((mSi_n _ c4 _).trans ((mSi_n _ c3 _).trans (mSi_n _ h48 _))))
        · rw [if_neg h4, if_neg h4]
          exact ⟨x, m, _, rfl, rfl, R⟩
      · rw [if_pos (show (60 : Int32) ≤ nI (ok % 100) from nI_le (a := 60) (by omega) (by omega)), if_pos (show (59 : Int32) < nI (ok % 100) from nI_lt (a := 59) (by omega) (by omega))]
        exact ⟨x, m, _, rfl, rfl, R⟩
    · rw [if_neg h2, if_neg h2]
      exact ⟨x, m, _, rfl, rfl, R⟩
  · rw [if_neg h0, if_neg h0]
    exact ⟨x, m, _, rfl, rfl, R⟩
theorem op_gone {x : xS} {m : mS} (R : pRel x m) {N : Nat} (hN : 400 < N) (a0 a1 : Int32) : Sim (fX_gone N x a0 a1) (fM_gone N m a0 a1) := by
  have hmany : xI x 1 = m.1 0 := by obtain ⟨n, b, ⟨_, h1, _, h2, _⟩, _⟩ := R; rw [h1, h2]
  have hn8 : ∃ n, n ≤ 8 ∧ m.1 0 = nI n := by obtain ⟨n, b, ⟨h1, _, _, h2, _⟩, _⟩ := R; exact ⟨n, h1, h2⟩
  simp only [fX_gone, fM_gone, nmvE, pl_xsh, pl_msh, obi, pl_if0, pl_in, pl_wi, pl_xone, pl_mone, hmany]
  by_cases h0 : 0 ≤ a0 ∧ a0 ≤ 5
  · rw [if_pos h0, if_pos h0]
    obtain ⟨j, hj, rfl⟩ := pl_rng (b := 5) (by decide) h0
    have em1 : (-1 : Int32).toInt = -1 := by decide
    have e0 : (0 : Int32).toInt = 0 := by decide
    -- the routine's own part
    have main : (a1 = -1 ∨ (0 ≤ a1 ∧ a1 ≤ m.1 0 - 1)) → Sim (obi (fX_layRoutine N x (nI j)) fun x1 r => if 0 ≤ r then (if 0 ≤ a1 then chk a1 8 (chl a1.toNatClampNeg (xn x1) (chl a1.toNatClampNeg (xn x1) (obi (fX_goneAt N x1 (xE x1 a1.toNatClampNeg 3)) fun σ_17 r_18 => some (σ_17, r_18)))) else obi (fX_allGone N x1) fun σ_20 r_21 => some (σ_20, r_21)) else some (x1, r)) (fM_gone_b22 N m (nI j) a1) := by
      intro ha
      obtain ⟨x1, r, e1, q1, e2, -, -, hr⟩ := lay R hN (show j < 6 by omega)
      simp only [fM_gone_b22, e1, e2, obi]
      rcases hr with rfl | rfl | ⟨rfl, n, c, m1, e3, q2, V, O, s48, R1, fi, -⟩
      · rw [if_neg (by decide), if_neg (by decide)]
        exact ⟨x1, m, _, rfl, rfl, R.qu q1 mQu.rf⟩
      · rw [if_neg (by decide), if_neg (by decide)]
        exact ⟨x1, m, _, rfl, rfl, R.qu q1 mQu.rf⟩
      · rw [if_pos z00, if_pos z00, e3]
        simp only [nmvE]
        rcases ha with ha | ha
        · rw [if_neg (by rw [ha]; decide), if_pos ha]
          obtain ⟨x2, e5, f5⟩ := X_allGone V O hN
          rw [e5, M_goneBits O hN mFr.rf]
          exact ⟨x2, m1, _, rfl, rfl, R1.qu f5.qu mQu.rf⟩
        · have hm0 : m.1 0 = nI n := (fi 0 (by decide)).symm.trans O.2.2.1
          rw [hm0] at ha
          obtain ⟨s, hs, rfl⟩ := pl_one (n := n) (by have := O.1; omega) ha
          have o1 := O.1
          obtain ⟨x2, e5, f5, _⟩ := X_goneAt V O hN (m1.2.1 4 s)
          rw [if_pos ha.1, if_neg (pl_m1 (by omega)), nI_clamp (by omega), pl_ck rfl (show s < 8 by omega) (by decide), pl_cl (by rw [V.2.1]; exact hs), pl_cl (by rw [V.2.1]; exact hs), pl_ck rfl (show s < 8 by omega) (by decide), V.2.2.1 s hs 3 (by decide), e5, M_goneAt O hN mFr.rf]
          exact ⟨x2, m1, _, rfl, rfl, R1.qu f5.qu mQu.rf⟩
    obtain ⟨n, hn, en⟩ := hn8
    by_cases hm1 : a1 = -1
    · rw [if_pos (show -1 ≤ a1 ∧ a1 ≤ m.1 0 - 1 from by
        rw [hm1, en]
        refine ⟨Int32.le_refl _, Int32.le_iff_toInt_le.mpr ?_⟩
        cases n with
        | zero => decide
        | succ n => rw [nI_pred, nI_toInt (by omega)]; omega), if_pos hm1]
      exact main (Or.inl hm1)
    · rw [if_neg hm1]
      by_cases hc : 0 ≤ a1 ∧ a1 ≤ m.1 0 - 1
      · rw [if_pos hc, if_pos (show -1 ≤ a1 ∧ a1 ≤ m.1 0 - 1 from ⟨Int32.le_iff_toInt_le.mpr (by have := Int32.le_iff_toInt_le.mp hc.1; omega), hc.2⟩)]
        exact main (Or.inr hc)
      · rw [if_neg hc, if_neg (fun z => hc ⟨Int32.le_iff_toInt_le.mpr (by
          have := Int32.le_iff_toInt_le.mp z.1
          have hne : a1.toInt ≠ -1 := fun q => hm1 (Int32.toInt_inj.mp (by rw [q, em1]))
          omega), z.2⟩)]
        exact ⟨x, m, _, rfl, rfl, R⟩
  · rw [if_neg h0, if_neg h0]
    exact ⟨x, m, _, rfl, rfl, R⟩
theorem mn_gn (P : mS) : ∀ (m k u g : Nat) (a : Int32), u + m < 2 ^ 20 → g < 2 ^ 20 → ∃ G, mnS P m k (nI u) a (nI g) = nI G ∧ g ≤ G ∧ G ≤ max g (u + m) ∧ ∀ b, g ≤ b → b < 2 ^ 20 → k + m < 2 ^ 20 → (gnS P (nI b) m k (nI u) a = -2 ↔ G ≤ b) := by
  intro m
  induction m with
  | zero =>
    intro k u g a _ _
    exact ⟨g, rfl, Nat.le_refl _, by omega, fun b hb _ _ => ⟨fun _ => hb, fun _ => rfl⟩⟩
  | succ m ih =>
    intro k u g a hu hg
    unfold mnS gnS
    by_cases hun : P.2.1 45 k = 1 ∨ P.2.1 45 k = 2
    · simp only [if_pos hun, nI_1]
      have e : (if nI g < nI (u + 1) then nI (u + 1) else nI g) = nI (max g (u + 1)) := by
        by_cases h : g < u + 1
        · rw [if_pos (nI_lt h (by omega)), Nat.max_eq_right (by omega)]
        · rw [if_neg (nI_nlt (by omega) (by omega)), Nat.max_eq_left (by omega)]
      rw [e]
      obtain ⟨G, h1, h2, h3, h4⟩ := ih (k + 1) (u + 1) (max g (u + 1)) 0 (by omega) (by omega)
      refine ⟨G, h1, by omega, by omega, fun b hb hb2 hk => ?_⟩
      by_cases hub : u + 1 ≤ b
      · rw [if_pos (nI_le hub (by omega))]
        exact h4 b (by omega) hb2 (by omega)
      · rw [if_neg (nI_ge (by omega) (by omega))]
        exact ⟨fun z => absurd z (pl_m2 (by omega)), fun z => by omega⟩
    · simp only [if_neg hun]
      by_cases hga : a + 1 < P.2.1 7 2
      · simp only [if_pos hga]
        obtain ⟨G, h1, h2, h3, h4⟩ := ih (k + 1) u g (a + 1) (by omega) hg
        exact ⟨G, h1, h2, by omega, fun b hb hb2 hk => h4 b hb hb2 (by omega)⟩
      · simp only [if_neg hga]
        obtain ⟨G, h1, h2, h3, h4⟩ := ih (k + 1) 0 g (a + 1) (by omega) hg
        exact ⟨G, h1, h2, by omega, fun b hb hb2 hk => h4 b hb hb2 (by omega)⟩
theorem op_least {x : xS} {m : mS} (R : pRel x m) {N : Nat} (hN : 400 < N) (a0 a1 : Int32) : Sim (fX_least N x a0 a1) (fM_least N m a0 a1) := by
  have hmany : xI x 1 = m.1 0 := by obtain ⟨n, b, ⟨_, h1, _, h2, _⟩, _⟩ := R; rw [h1, h2]
  simp only [fX_least, fM_least, pl_xsh, pl_msh, obi, pl_if0, pl_in, pl_wi, pl_xone, pl_mone, hmany]
  by_cases h0 : 0 ≤ a0 ∧ a0 ≤ 5
  · rw [if_pos h0, if_pos h0]
    by_cases h1 : 0 ≤ a1 ∧ a1 ≤ m.1 0 - 1
    · rw [if_pos h1, if_pos h1]
      obtain ⟨j, hj, rfl⟩ := pl_rng (b := 5) (by decide) h0
      obtain ⟨x1, r, e1, q1, e2, -, -, hr⟩ := lay R hN (show j < 6 by omega)
      rw [e1, e2]
      simp only [obi]
      rcases hr with rfl | rfl | ⟨rfl, n, c, m1, e3, q2, V, O, s48, R1, -, -⟩
      · rw [if_neg (by decide), if_neg (by decide)]
        exact ⟨x1, m, -11, rfl, rfl, R.qu q1 mQu.rf⟩
      · rw [if_neg (by decide), if_neg (by decide)]
        exact ⟨x1, m, -12, rfl, rfl, R.qu q1 mQu.rf⟩
      · rw [if_pos z00, if_pos z00, e3]
        have o2 := O.2.1
        obtain ⟨x2, e5, f5, g5⟩ := X_goneAt V O hN 0
        obtain ⟨G, k1, k2, k3, k4⟩ := mn_gn m1 c 0 0 0 0 (by omega) (by decide)
        have hg19 : xI x2 19 = nI G := g5.trans k1
        simp only [e5, nmvE, hg19]
        have hmax : (if 1 < nI G then nI G else 1) = nI (max 1 G) := by
          by_cases h : 1 < G
          · rw [if_pos (show (1 : Int32) < nI G from nI_lt (a := 1) h (by omega)), Nat.max_eq_right (by omega)]
          · rw [if_neg (show ¬ (1 : Int32) < nI G from nI_nlt (a := 1) (by omega) (by decide)), Nat.max_eq_left (by omega)]
            rfl
        rw [hmax]
        obtain ⟨u, hu, e⟩ := pl_lp (fun q k (_ : Unit) => fM_least_b38 N q m1 (nI (k + 1))) (fun _ : Unit => some (m1, nI (max 1 G))) 60 (fun k _ => k + 1 ≤ max 1 G) (fun _ => True) (by
          intro k t hk h
          have hgn := k4 (k + 1) (by omega) (by omega) (by omega)
          by_cases hG : G ≤ k + 1
          · refine Or.inr ⟨(), trivial, fun q => ?_⟩
            simp only [fM_least_b38, M_goneAt O hN mFr.rf, obi]
            refine (if_pos (hgn.mpr hG)).trans ?_
            rw [show k + 1 = max 1 G from by omega]
          · refine Or.inl ⟨by omega, (), by omega, fun q => ?_⟩
            simp only [fM_least_b38, M_goneAt O hN mFr.rf, obi]
            refine (if_neg (fun z => hG (hgn.mp z))).trans ?_
            simp only [nmvE, nI_1]) N 0 () (by omega) (Nat.zero_le _) (by omega)
        have e' : fM_least_b38 N N m1 1 = some (m1, nI (max 1 G)) := e
        rw [e']
        exact ⟨x2, m1, _, rfl, rfl, R1.qu f5.qu mQu.rf⟩
    · rw [if_neg h1, if_neg h1]
      exact ⟨x, m, -1, rfl, rfl, R⟩
  · rw [if_neg h0, if_neg h0]
    exact ⟨x, m, -1, rfl, rfl, R⟩
