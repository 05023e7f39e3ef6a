/-! Mending -/
theorem X_mayBe (N : Nat) (x : xS) {k : Nat} (hk : k ≤ 8) (v : Int32) : (okW k v → fX_mayBe N x (nI k) v = some (x, 1)) ∧ (¬ okW k v → fX_mayBe N x (nI k) v = some (x, 0)) := by
  unfold fX_mayBe
  simp only [pl_in, pl_xcell, obi, pl_bi]
  have key : ∀ (c : Prop) (d : Decidable c), (c → some (x, @ite Int32 c d 1 0) = some (x, 1)) ∧ (¬ c → some (x, @ite Int32 c d 1 0) = some (x, 0)) := fun c d => ⟨fun h => by rw [if_pos h], fun h => by rw [if_neg h]⟩
  match k, hk with
  | 0, _ => exact key _ _
  | 1, _ => exact key _ _
  | 2, _ => exact key _ _
  | 3, _ => exact key _ _
  | 4, _ => exact key _ _
  | 5, _ => exact key _ _
  | 6, _ => exact key _ _
  | 7, _ => exact key _ _
  | 8, _ => exact key _ _
theorem M_isFit (N : Nat) (m : mS) {k : Nat} (hk : k ≤ 8) (v : Int32) : (okW k v → fM_isFit N m (nI k) v = some (m, 1)) ∧ (¬ okW k v → fM_isFit N m (nI k) v = some (m, 0)) := by
  unfold fM_isFit
  simp only [pl_wi, obi, pl_bi]
  have key : ∀ (c : Prop) (d : Decidable c), (c → some (m, @ite Int32 c d 1 0) = some (m, 1)) ∧ (¬ c → some (m, @ite Int32 c d 1 0) = some (m, 0)) := fun c d => ⟨fun h => by rw [if_pos h], fun h => by rw [if_neg h]⟩
  match k, hk with
  | 0, _ => exact key _ _
  | 1, _ => exact key _ _
  | 2, _ => exact key _ _
  | 3, _ => exact key _ _
  | 4, _ => exact key _ _
  | 5, _ => exact key _ _
  | 6, _ => exact key _ _
  | 7, _ => exact key _ _
  | 8, _ => exact key _ _
def pChA (n : Nat) (c : Nat → Int32) (A : Nat → Int32) (i : Nat) : Prop := ∃ w a : Nat, w ≤ 8 ∧ (w < 6 → a < n) ∧ (6 ≤ w → a = 0) ∧ c 0 = nI w ∧ A (4 * i + 1) = nI w ∧ c 1 = nI a ∧ A (4 * i) = nI a ∧ c 2 = A (4 * i + 2) ∧ c 3 = A (4 * i + 3) ∧ okW w (c 2) ∧ okW w (c 3)
theorem valM_ok {n : Nat} {x : xS} {m : mS} (r1 : pR1 n x m) {k s : Nat} (hk : k ≤ 8) (hs : k < 6 → s < n) : okW k (valM m k s) := by
  obtain ⟨a1, a2, a3, a4, a5, a6, ⟨a7, a8, a9⟩, a10, a11, a12, a13⟩ := r1
  unfold valM
  by_cases h : k < 6
  · rw [if_pos h]; exact a10 s (hs h) k h
  · rw [if_neg h]
    match k, hk, h with
    | 6, _, _ => exact a11
    | 7, _, _ => exact a12
    | 8, _, _ => exact a13
/-- a change is written down: both sides -/
theorem push_both (N : Nat) {d : Nat} {y : xS} {m2' : mS} (hd : d < 40) {k s : Nat} {had v : Int32} {x2 : xS}
    (hy6 : xI y 6 = nI d) (hym : d ≤ xm y) (hsx : fX_setTo N (xSi (xSc y d (chI (nI k) (nI s) had v)) 6 (nI (d + 1))) (nI k) (nI s) v = some (x2, ())) (h35 : m2'.1 35 = nI d) :
    fX_become_b64 N y (nI k) (nI s) had v = some (x2, had) ∧ fM_mend_b96 N m2' (nI s) (nI k) v had = some (mSi (mSi (mSj (mSj (mSj (mSj m2' 36 (4 * d) (nI s)) 36 (4 * d + 1) (nI k)) 36 (4 * d + 2) had) 36 (4 * d + 3) v) 35 (nI (d + 1))) 34 (nI (d + 1)), had) := by
  constructor
  · simp only [fX_become_b64, nmvE, hy6]
    have e6 : xI (xSc y d (chI (nI k) (nI s) had v)) 6 = nI d := hy6
    have hc : ∀ {α : Type} (o : Option α), cle d (xm y) o = o := fun o => by unfold cle; exact if_pos hym
    rw [pl_ck rfl hd (by decide), nI_clamp (by omega), hc, e6, nI_1, hsx]
    rfl
  · simp only [fM_mend_b96, nmvE, h35, pl_i40]
    rw [show nI (4 * d) + 1 = nI (4 * d + 1) from nI_1 _, show nI (4 * d) + 2 = nI (4 * d + 2) from nI_add _ 2, show nI (4 * d) + 3 = nI (4 * d + 3) from nI_add _ 3]
    simp only [nI_clamp (show 4 * d < 2 ^ 31 by omega), nI_clamp (show 4 * d + 1 < 2 ^ 31 by omega), nI_clamp (show 4 * d + 2 < 2 ^ 31 by omega), nI_clamp (show 4 * d + 3 < 2 ^ 31 by omega)]
    rw [pl_ck rfl (show 4 * d < 160 by omega) (by decide), pl_ck rfl (show 4 * d + 1 < 160 by omega) (by decide), pl_ck rfl (show 4 * d + 2 < 160 by omega) (by decide), pl_ck rfl (show 4 * d + 3 < 160 by omega) (by decide), nI_1, upd_s]
theorem op_mend {x : xS} {m : mS} (R : pRel x m) {N : Nat} (hN : 400 < N) (a0 a1 v : Int32) : Sim (fX_mend N x a0 a1 v) (fM_mend N m a0 a1 v) := by
  have R' := R
  obtain ⟨n, b, r1, ⟨d, u, b1, b2, b3, b4, b5, b6, b7⟩, r3, r4, r5, r6, r7, r8, r9⟩ := R
  have hmany : xI x 1 = m.1 0 := by rw [r1.2.1, r1.2.2.2.1]
  have hm0 := r1.2.2.2.1
  have o1 := r1.1
  simp only [fX_mend, fM_mend]
  by_cases h1 : isOfP m a0 a1
  · rw [(X_isOf N hmany a0 a1).1 h1, (M_isOf N a0 a1).1 h1]
    simp only [obi, show ¬ (1 : Int32) = 0 from by decide, if_false]
    obtain ⟨k, s, hk, rfl, rfl, hs1, hs2⟩ := isOf_nat o1 hm0 h1
    have hs8 : s < 8 := by
      by_cases h : k < 6
      · have := hs1 h; omega
      · have := hs2 (by omega); omega
    by_cases h2 : okW k v
    · rw [(X_mayBe N x hk v).1 h2, (M_isFit N m hk v).1 h2]
      simp only [show ¬ (1 : Int32) = 0 from by decide, if_false]
      rw [X_valueOf N r1 hk hs1, M_get N hk hs8]
      simp only
      have hokh := valM_ok r1 hk hs1
      by_cases h3 : valM m k s = v
      · rw [if_pos h3]
        simp only [fX_become]
        rw [if_pos h3]
        exact ⟨x, m, _, rfl, rfl, R'⟩
      · rw [if_neg h3]
        simp only [fX_become, nmvE]
        rw [if_neg h3]
        have e6 : xI (xSi x 7 0) 6 = nI d := (xSi_n _ (by decide) _).trans b3
        rw [e6]
        -- the change itself
        have fin : ∀ (y : xS) (d' : Nat), d' < 40 → xI y 6 = nI d' → xI y 7 = 0 → d' ≤ xm y → (∀ j, j ≠ 6 → j ≠ 7 → xI y j = xI x j) → y.2.1 = x.2.1 → xn y = xn x → xE y = xE x → y.2.2.2.2.2.2 = x.2.2.2.2.2.2 →
            ∃ x2 m2, fM_becomes N m (nI s) (nI k) v = some (m2, ()) ∧ m2.1 = m.1 ∧ m2.2.1 36 = m.2.1 36 ∧ ∀ (μ : mS), μ.1 35 = nI d' → (∀ j, j ≠ 35 → μ.1 j = m2.1 j) → (∀ j, j ≠ 36 → μ.2.1 j = m2.2.1 j) → μ.2.2 = m2.2.2 → (∀ i, i < d' → pChA n (xC y i) (μ.2.1 36) i) →
              ∃ m3, fX_become_b64 N y (nI k) (nI s) (valM m k s) v = some (x2, valM m k s) ∧ fM_mend_b96 N μ (nI s) (nI k) v (valM m k s) = some (m3, valM m k s) ∧ pRel x2 m3 := by
          intro y d' hd' hy6 hy7 hym hyi hyj hyn hyE hyr
          have r1y : pR1 n (xSi (xSc y d' (chI (nI k) (nI s) (valM m k s) v)) 6 (nI (d' + 1))) m := r1.to (fun j h1 h2 => (xSi_n _ (by omega) _).trans (hyi j (by omega) (by omega))) hyn hyE rfl (fun _ _ _ => rfl)
          obtain ⟨x2, m2, e1, e2, s1, s2, s3, s4, s5, s6, s7⟩ := set_both N r1y hk hs1 hs2 h2
          refine ⟨x2, m2, e2, s5, s6 36 (by decide), fun μ u1 u2 u3 u4 u5 => ?_⟩
          obtain ⟨q1, q2⟩ := push_both N hd' hy6 hym e1 u1
          have gi : ∀ j, j ≠ 34 → j ≠ 35 → (mSi (mSi (mSj (mSj (mSj (mSj μ 36 (4 * d') (nI s)) 36 (4 * d' + 1) (nI k)) 36 (4 * d' + 2) (valM m k s)) 36 (4 * d' + 3) v) 35 (nI (d' + 1))) 34 (nI (d' + 1))).1 j = m.1 j := fun j h1 h2 => (mSi_n _ h1 _).trans ((mSi_n _ h2 _).trans ((u2 j h2).trans (by rw [s5])))
          have gj : ∀ j, j ≠ 36 → (mSi (mSi (mSj (mSj (mSj (mSj μ 36 (4 * d') (nI s)) 36 (4 * d' + 1) (nI k)) 36 (4 * d' + 2) (valM m k s)) 36 (4 * d' + 3) v) 35 (nI (d' + 1))) 34 (nI (d' + 1))).2.1 j = m2.2.1 j := fun j h1 => by
            show (mSj (mSj (mSj (mSj μ 36 (4 * d') (nI s)) 36 (4 * d' + 1) (nI k)) 36 (4 * d' + 2) (valM m k s)) 36 (4 * d' + 3) v).2.1 j = _
            rw [mSj_n _ h1, mSj_n _ h1, mSj_n _ h1, mSj_n _ h1]
            exact u3 j h1
          have g36 : (mSi (mSi (mSj (mSj (mSj (mSj μ 36 (4 * d') (nI s)) 36 (4 * d' + 1) (nI k)) 36 (4 * d' + 2) (valM m k s)) 36 (4 * d' + 3) v) 35 (nI (d' + 1))) 34 (nI (d' + 1))).2.1 36 = upd (upd (upd (upd (μ.2.1 36) (4 * d') (nI s)) (4 * d' + 1) (nI k)) (4 * d' + 2) (valM m k s)) (4 * d' + 3) v := rfl
          refine ⟨_, q1, q2, pRel.ch (s1.to (fun _ _ _ => rfl) rfl rfl (by rw [s5]; exact gi 0 (by decide) (by decide)) (fun j h1 h2 => gj j (by omega))) ?_ r3 r4 r5 r6 r7 r8 r9 ?_ ?_ ?_ gi ?_ ?_⟩
          · refine ⟨d' + 1, 0, by omega, ?_, (s2 6 (by decide) (by decide) (by decide)).trans (xSi_s _ _ _), ?_, (mSi_n _ (by decide) _).trans (mSi_s _ _ _), mSi_s _ _ _, fun i hi => ?_⟩
            · show d' + 1 + 0 ≤ x2.2.2.2.2.2.1
              rw [s4]
              show d' + 1 + 0 ≤ (if d' = xm y then xm y + 1 else xm y)
              split <;> omega
            · exact (s2 7 (by decide) (by decide) (by decide)).trans ((xSi_n _ (by decide) _).trans hy7)
            · have hC : xC x2 = va_up (xC y) d' (chI (nI k) (nI s) (valM m k s) v) := by show x2.2.2.2.2.1 = _; rw [s4]
              show pChA n (xC x2 i) _ i
              rw [hC, g36]
              by_cases hid : i = d'
              · subst hid
                rw [va_up_s]
                refine ⟨k, s, hk, hs1, hs2, rfl, ?_, rfl, ?_, ?_, ?_, hokh, h2⟩
                · rw [upd_n _ (by omega), upd_n _ (by omega), upd_s]
                · rw [upd_n _ (by omega), upd_n _ (by omega), upd_n _ (by omega), upd_s]
                · rw [upd_n _ (by omega), upd_s]; rfl
                · rw [upd_s]; rfl
              · rw [va_up_n hid]
                obtain ⟨w, a, w1, w2, w3, w4, w5, w6, w7, w8, w9, w10, w11⟩ := u5 i (by omega)
                have far : ∀ j, j < 4 * d' → upd (upd (upd (upd (μ.2.1 36) (4 * d') (nI s)) (4 * d' + 1) (nI k)) (4 * d' + 2) (valM m k s)) (4 * d' + 3) v j = μ.2.1 36 j := fun j hj => by rw [upd_n _ (by omega), upd_n _ (by omega), upd_n _ (by omega), upd_n _ (by omega)]
                exact ⟨w, a, w1, w2, w3, w4, by rw [far _ (by omega)]; exact w5, w6, by rw [far _ (by omega)]; exact w7, by rw [far _ (by omega)]; exact w8, by rw [far _ (by omega)]; exact w9, w10, w11⟩
          · intro j hj
            exact (s2 j (by omega) (by omega) (by omega)).trans ((xSi_n _ (by omega) _).trans (hyi j (by omega) (by omega)))
          · rw [s3]; exact hyj
          · rw [s4]; exact hyr
          · intro j h1 h2
            exact (gj j h2).trans (s6 j (by omega))
          · show μ.2.2 = _
            rw [u4, s7]
        by_cases h40 : d = 40
        · subst h40
          rw [if_pos (show nI 40 = (40 : Int32) from rfl)]
          have hu : u = 0 := by omega
          subst hu
          -- the class: places move down
          obtain ⟨q, y, ⟨y1, y2, y3⟩, ey⟩ := pl_for (fun q j t => fX_become_b25 N q t (nI k) (nI s) (valM m k s) v (nI (j + 1))) 39 (fun j t => t.1 = (xSi x 7 0).1 ∧ (t.2.1 = x.2.1 ∧ xn t = xn x ∧ xE t = xE x ∧ xm t = xm x ∧ t.2.2.2.2.2.2 = x.2.2.2.2.2.2) ∧ ∀ i, xC t i = if i < j then xC x (i + 1) else xC x i) (by
            intro j t hj ⟨t1, ⟨t2, t3, t4, t5, t6⟩, t7⟩
            refine ⟨xSc t j (xC t (j + 1)), ⟨t1, ⟨t2, t3, t4, ?_, t6⟩, fun i => ?_⟩, fun q => ?_⟩
            · show (if j = xm t then xm t + 1 else xm t) = _
              rw [if_neg (by omega)]; exact t5
            · show va_up (xC t) j (xC t (j + 1)) i = _
              by_cases hij : i = j
              · subst hij
                rw [va_up_s, t7, if_neg (by omega), if_pos (by omega)]
              · rw [va_up_n hij, t7]
                by_cases hlt : i < j
                · rw [if_pos hlt, if_pos (by omega)]
                · rw [if_neg hlt, if_neg (by omega)]
            · simp only [fX_become_b25, nmvE]
              have hc : ∀ {α : Type} (o : Option α), cle j (xm t) o = o := fun o => by unfold cle; exact if_pos (by omega)
              rw [if_neg (show ¬ (40 : Int32) ≤ nI (j + 1) from nI_ge (b := 40) (by omega) (by decide)), pl_ck rfl (show j + 1 < 40 by omega) (by decide), nI_clamp (by omega), pl_cl (by omega), pl_cl (by omega), nI_pred, pl_ck rfl (show j < 40 by omega) (by decide), nI_clamp (by omega), hc, nI_1]) N 0 (xSi x 7 0) (by omega) (Nat.zero_le _) ⟨rfl, ⟨rfl, rfl, rfl, rfl, rfl⟩, fun i => by rw [if_neg (Nat.not_lt_zero _)]⟩
          have ey' : fX_become_b25 N N (xSi x 7 0) (nI k) (nI s) (valM m k s) v 1 = fX_become_b25 N (q + 1) y (nI k) (nI s) (valM m k s) v (nI (39 + 1)) := ey
          have hy6 : xI y 6 = nI 40 := by show y.1 6 = _; rw [y1]; exact e6
          obtain ⟨x2, m2, f1, f2, f3, f4⟩ := fin (xSi y 6 (nI 39)) 39 (by decide) (xSi_s _ _ _) ((xSi_n _ (by decide) _).trans (by show y.1 7 = _; rw [y1]; exact xSi_s _ _ _)) (by show 39 ≤ xm y; omega) (fun j h6 h7 => (xSi_n _ h6 _).trans (by show y.1 j = _; rw [y1]; exact xSi_n _ h7 _)) y2.1 y2.2.1 y2.2.2.1 y2.2.2.2.2
          rw [ey', f1]
          simp only [f2, b5]
          rw [if_pos (show nI 40 = (40 : Int32) from rfl)]
          -- the reference: its numbers move down
          obtain ⟨q', w, ⟨w1, w2, w3, w4⟩, ew⟩ := pl_for (fun q j t => fM_mend_b56 N q t (nI s) (nI k) v (valM m k s) (nI j)) 156 (fun j t => t.1 = m2.1 ∧ (∀ i, i ≠ 36 → t.2.1 i = m2.2.1 i) ∧ t.2.2 = m2.2.2 ∧ ∀ i, t.2.1 36 i = if i < j then m2.2.1 36 (i + 4) else m2.2.1 36 i) (by
            intro j t hj ⟨t1, t2, t3, t4⟩
            refine ⟨mSj t 36 j (t.2.1 36 (j + 4)), ⟨t1, fun i hi => (mSj_n _ hi _ _).trans (t2 i hi), t3, fun i => ?_⟩, fun q => ?_⟩
            · rw [mSj_s]
              by_cases hij : i = j
              · subst hij
                rw [upd_s, t4, if_neg (by omega), if_pos (by omega)]
              · rw [upd_n _ hij, t4]
                by_cases hlt : i < j
                · rw [if_pos hlt, if_pos (by omega)]
                · rw [if_neg hlt, if_neg (by omega)]
            · simp only [fM_mend_b56, nmvE]
              rw [if_neg (show ¬ (156 : Int32) ≤ nI j from nI_ge (b := 156) (by omega) (by decide)), show nI j + 4 = nI (j + 4) from nI_add j 4, pl_ck rfl (show j + 4 < 160 by omega) (by decide), nI_clamp (by omega), pl_ck rfl (show j < 160 by omega) (by decide), nI_clamp (by omega), nI_1]) N 0 m2 (by omega) (Nat.zero_le _) ⟨rfl, fun _ _ => rfl, rfl, fun i => by rw [if_neg (Nat.not_lt_zero _)]⟩
          have ew' : fM_mend_b56 N N m2 (nI s) (nI k) v (valM m k s) 0 = fM_mend_b56 N (q' + 1) w (nI s) (nI k) v (valM m k s) (nI 156) := ew
          have hw35 : w.1 35 = nI 40 := by rw [w1, f2]; exact b5
          obtain ⟨m3, g1, g2, g3⟩ := f4 (mSi w 35 (nI 39)) (mSi_s _ _ _) (fun j hj => (mSi_n _ hj _).trans (by rw [w1])) w2 w3 (fun i hi => by
            obtain ⟨w', a, z⟩ := b7 (i + 1) (by omega)
            have hc : xC (xSi y 6 (nI 39)) i = xC x (i + 1) := by show xC y i = _; rw [y3, if_pos (by omega)]
            rw [hc]
            refine ⟨w', a, ?_⟩
            have e36 : ∀ j, j < 156 → (mSi w 35 (nI 39)).2.1 36 j = m.2.1 36 (j + 4) := fun j hj => by show w.2.1 36 j = _; rw [w4, if_pos hj, f3]
            rw [e36 _ (by omega), e36 _ (by omega), e36 _ (by omega), e36 _ (by omega), show 4 * i + 1 + 4 = 4 * (i + 1) + 1 from by omega, show 4 * i + 4 = 4 * (i + 1) from by omega, show 4 * i + 2 + 4 = 4 * (i + 1) + 2 from by omega, show 4 * i + 3 + 4 = 4 * (i + 1) + 3 from by omega]
            exact z)
          rw [ew']
          simp only [fX_become_b25, fM_mend_b56, nmvE, hy6, hw35]
          rw [if_pos (show (40 : Int32) ≤ nI (39 + 1) from by decide), if_pos (show (156 : Int32) ≤ nI 156 from by decide), show nI 40 - 1 = nI 39 from nI_pred 39, g1, g2]
          exact ⟨x2, m3, _, rfl, rfl, g3⟩
        · have hne : ¬ nI d = (40 : Int32) := fun z => h40 ((nI_eq (b := 40) (by omega) (by decide)).mp z)
          rw [if_neg hne]
          obtain ⟨x2, m2, f1, f2, f3, f4⟩ := fin (xSi x 7 0) d (by omega) e6 (xSi_s _ _ _) (by show d ≤ xm x; omega) (fun j _ hj => xSi_n _ hj _) rfl rfl rfl rfl
          obtain ⟨m3, g1, g2, g3⟩ := f4 m2 (by rw [f2]; exact b5) (fun _ _ => rfl) (fun _ _ => rfl) rfl (fun i hi => by rw [f3]; exact b7 i (by omega))
          rw [f1]
          simp only [f2, b5]
          rw [if_neg hne, g1, g2]
          exact ⟨x2, m3, _, rfl, rfl, g3⟩
    · rw [(X_mayBe N x hk v).2 h2, (M_isFit N m hk v).2 h2]
      simp only [if_true]
      exact ⟨x, m, _, rfl, rfl, R'⟩
  · rw [(X_isOf N hmany a0 a1).2 h1, (M_isOf N a0 a1).2 h1]
    simp only [obi, if_true]
    exact ⟨x, m, _, rfl, rfl, R'⟩
