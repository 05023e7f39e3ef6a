section MWALK13
variable {p : Program} {l : Launch} {e : Env} {R : Room} {s : State} {m : MethodId} {args : Array Value} {below : List Frame} {meth : Method} {c : Code} {A : Nat → Prop}
variable {L : mL}
def fM_tells_e (N : Nat) (rc : mS → Int32 → Int32 → Int32 → Option (mS × Int32)) (σ : mS) (a0 : Int32) (a1 : Int32) (a2 : Int32) : Option (mS × Int32) :=
  if a1 = 0 then (
    obi (fM_ran N σ 2) fun σ_2 r_3 =>
    chk a0 50 <| nmv (σ_2.2.1 38 a0.toNatClampNeg) fun x_5 =>
    obi (fM_turnsBy N 8 σ_2 a0 x_5 a2) fun σ_6 r_7 =>
    chk a0 50 <| nmv (σ_6.2.1 38 a0.toNatClampNeg) fun x_9 =>
    obi (fM_sinksBy N 8 σ_6 a0 x_9 1) fun σ_10 r_11 =>
    some (σ_10, r_7 - r_11))
  else (
  if a1 = 5 then (
    obi (fM_ran N σ 60) fun σ_14 r_15 =>
    obi (rc σ_14 a0 3 a2) fun σ_17 r_18 =>
    some (σ_17, r_18 ^^^ 5))
  else (
  if a1 = 7 then (
    obi (fM_ran N σ 81) fun σ_21 r_22 =>
    obi (rc σ_21 a0 4 a2) fun σ_24 r_25 =>
    some (σ_24, r_25 - 1))
  else (
    obi (fM_above N σ a1) fun σ_27 r_28 =>
    obi (rc σ_27 a0 r_28 a2) fun σ_30 r_31 =>
    some (σ_30, r_31))))
def fM_tells (N : Nat) : Nat → mS → Int32 → Int32 → Int32 → Option (mS × Int32)
  | 0, _, _, _, _ => none
  | d + 1, σ, a0, a1, a2 => fM_tells_e N (fM_tells N d) σ a0 a1 a2
theorem bM_tells_e {N : Nat} {rc : mS → Int32 → Int32 → Int32 → Option (mS × Int32)} {fr lo : Nat} (C0 : mCx p s m args meth c cX2_tells 5 (some .int) L A) (hRo : fr + 585 ≤ R.frames ∧ lo + 13464 ≤ R.locals) (hrc : ∀ {σ σ1 : mS} {a0 a1 a2 : Int32} {r : Int32}, rc σ a0 a1 a2 = some (σ1, r) → mMet l yX2_tells cX2_tells 5 (some .int) (fr) (lo) [.ref L.1, .int a0, .int a1, .int a2] L σ (some (.int r)) σ1) {σ' : mS} {r : Int32} (σ : mS) (a0 : Int32) (a1 : Int32) (a2 : Int32) (H : Heap) (locs : List Loc) (ls : Array Slot) (hG : mG A L s σ H locs) (hl : lv_has ls 5 [(0, .ref L.1), (1, .int a0), (2, .int a1), (3, .int a2)]) (hF : fM_tells_e N rc σ a0 a1 a2 = some (σ', r)) : W p l e R s m args below meth c H locs 0 0 (mZ below L A s args σ' (some (.int r))) (F0 m 0 ls []) := by
  have hx := C0.1
  have hb := C0.2.1
  unfold fM_tells_e at hF
  refine lv_iload_n hx hb dX2_tells_0 rfl (lv_at hl 2 rfl) ?_
  by_cases c_1 : a1 = 0
  · have hF := ifp hF c_1
    refine lv_lookup (off := 35) (tgt := 36) hx hb dX2_tells_1 (by decide) (by rw [c_1]; decide) (by decide) ?_
    refine lv_aload_n hx hb dX2_tells_36 rfl (lv_at hl 0 rfl) ?_
    refine lv_iconst (v := 2) hx hb dX2_tells_37 (by decide) ?_
    obtain ⟨σ_2, r_3, e_4, hF⟩ := obi_of hF
    refine m_cVv (As := [.int 2]) (rest := []) C0 hG (mtM_ran l e_4) (lw_V q2078 q2080 qs94 q102 q2081) yd_X2_ran ⟨by omega, by omega⟩ rfl rfl hl.1 (Nat.le_of_ble_eq_true rfl) dX2_tells_38 (fun H locs hG => ?_)
    refine lv_aload_n hx hb dX2_tells_41 rfl (lv_at hl 0 rfl) ?_
    refine lv_iload_n hx hb dX2_tells_42 rfl (lv_at hl 1 rfl) ?_
    refine lv_aload_n hx hb dX2_tells_43 rfl (lv_at hl 0 rfl) ?_
    refine m_geta C0 hG 38 (by decide) rfl q1616 dX2_tells_44 ?_
    refine lv_iload_n hx hb dX2_tells_47 rfl (lv_at hl 1 rfl) ?_
    refine m_ld C0 hG 38 ⟨by decide, rfl, by decide⟩ dX2_tells_48 hF (fun x_5 hF => ?_)
    refine lv_iload_n hx hb dX2_tells_49 rfl (lv_at hl 3 rfl) ?_
    obtain ⟨σ_6, r_7, e_8, hF⟩ := obi_of hF
    refine m_cVi (As := [.int a0, .int x_5, .int a2]) (rest := []) C0 hG (mtM_turnsBy l 8 e_8) (lw_V q2085 q2087 qs95 q102 q2088) yd_X2_turnsBy ⟨by omega, by omega⟩ rfl rfl hl.1 (Nat.le_of_ble_eq_true rfl) dX2_tells_50 (fun H locs hG => ?_)
    refine lv_istore (lv' := [(4, .int r_7), (0, .ref L.1), (1, .int a0), (2, .int a1), (3, .int a2)]) hx hb dX2_tells_53 hl (by decide) rfl (fun ls hl => ?_)
    refine lv_iload hx hb dX2_tells_55 (lv_at hl 0 rfl) ?_
    refine lv_aload_n hx hb dX2_tells_57 rfl (lv_at hl 1 rfl) ?_
    refine lv_iload_n hx hb dX2_tells_58 rfl (lv_at hl 2 rfl) ?_
    refine lv_aload_n hx hb dX2_tells_59 rfl (lv_at hl 1 rfl) ?_
    refine m_geta C0 hG 38 (by decide) rfl q1616 dX2_tells_60 ?_
    refine lv_iload_n hx hb dX2_tells_63 rfl (lv_at hl 2 rfl) ?_
    refine m_ld C0 hG 38 ⟨by decide, rfl, by decide⟩ dX2_tells_64 hF (fun x_9 hF => ?_)
    refine lv_iconst (v := 1) hx hb dX2_tells_65 (by decide) ?_
    obtain ⟨σ_10, r_11, e_12, hF⟩ := obi_of hF
    refine m_cVi (As := [.int a0, .int x_9, .int 1]) (rest := [.int r_7]) C0 hG (mtM_sinksBy l 8 e_12) (lw_V q2089 q2091 qs96 q102 q2092) yd_X2_sinksBy ⟨by omega, by omega⟩ rfl rfl hl.1 (Nat.le_of_ble_eq_true rfl) dX2_tells_66 (fun H locs hG => ?_)
    refine lv_isub hx hb dX2_tells_69 ?_
    exact m_iret C0 hG dX2_tells_70 hF
  have hF := ifn hF c_1
  by_cases c_13 : a1 = 5
  · have hF := ifp hF c_13
    refine lv_lookup (off := 70) (tgt := 71) hx hb dX2_tells_1 (by decide) (by rw [c_13]; decide) (by decide) ?_
    refine lv_aload_n hx hb dX2_tells_71 rfl (lv_at hl 0 rfl) ?_
    refine lv_bipush (v := 60) hx hb dX2_tells_72 (by decide) ?_
    obtain ⟨σ_14, r_15, e_16, hF⟩ := obi_of hF
    refine m_cVv (As := [.int 60]) (rest := []) C0 hG (mtM_ran l e_16) (lw_V q2078 q2080 qs94 q102 q2081) yd_X2_ran ⟨by omega, by omega⟩ rfl rfl hl.1 (Nat.le_of_ble_eq_true rfl) dX2_tells_74 (fun H locs hG => ?_)
    refine lv_aload_n hx hb dX2_tells_77 rfl (lv_at hl 0 rfl) ?_
    refine lv_iload_n hx hb dX2_tells_78 rfl (lv_at hl 1 rfl) ?_
    refine lv_iconst (v := 3) hx hb dX2_tells_79 (by decide) ?_
    refine lv_iload_n hx hb dX2_tells_80 rfl (lv_at hl 3 rfl) ?_
    obtain ⟨σ_17, r_18, e_19, hF⟩ := obi_of hF
    refine m_cVi (As := [.int a0, .int 3, .int a2]) (rest := []) C0 hG (hrc e_19) (lw_V q2093 q2095 qs97 q102 q2096) yd_X2_tells ⟨by omega, by omega⟩ rfl rfl hl.1 (Nat.le_of_ble_eq_true rfl) dX2_tells_81 (fun H locs hG => ?_)
    refine lv_iconst (v := 5) hx hb dX2_tells_84 (by decide) ?_
    refine lv_ixor hx hb dX2_tells_85 ?_
    exact m_iret C0 hG dX2_tells_86 hF
  have hF := ifn hF c_13
  by_cases c_20 : a1 = 7
  · have hF := ifp hF c_20
    refine lv_lookup (off := 86) (tgt := 87) hx hb dX2_tells_1 (by decide) (by rw [c_20]; decide) (by decide) ?_
    refine lv_aload_n hx hb dX2_tells_87 rfl (lv_at hl 0 rfl) ?_
    refine lv_bipush (v := 81) hx hb dX2_tells_88 (by decide) ?_
    obtain ⟨σ_21, r_22, e_23, hF⟩ := obi_of hF
    refine m_cVv (As := [.int 81]) (rest := []) C0 hG (mtM_ran l e_23) (lw_V q2078 q2080 qs94 q102 q2081) yd_X2_ran ⟨by omega, by omega⟩ rfl rfl hl.1 (Nat.le_of_ble_eq_true rfl) dX2_tells_90 (fun H locs hG => ?_)
    refine lv_aload_n hx hb dX2_tells_93 rfl (lv_at hl 0 rfl) ?_
    refine lv_iload_n hx hb dX2_tells_94 rfl (lv_at hl 1 rfl) ?_
    refine lv_iconst (v := 4) hx hb dX2_tells_95 (by decide) ?_
    refine lv_iload_n hx hb dX2_tells_96 rfl (lv_at hl 3 rfl) ?_
    obtain ⟨σ_24, r_25, e_26, hF⟩ := obi_of hF
    refine m_cVi (As := [.int a0, .int 4, .int a2]) (rest := []) C0 hG (hrc e_26) (lw_V q2093 q2095 qs97 q102 q2096) yd_X2_tells ⟨by omega, by omega⟩ rfl rfl hl.1 (Nat.le_of_ble_eq_true rfl) dX2_tells_97 (fun H locs hG => ?_)
    refine lv_iconst (v := 1) hx hb dX2_tells_100 (by decide) ?_
    refine lv_isub hx hb dX2_tells_101 ?_
    exact m_iret C0 hG dX2_tells_102 hF
  have hF := ifn hF c_20
  refine lv_lookup (off := 102) (tgt := 103) hx hb dX2_tells_1 (by decide) ((lv_osw c_1 (show ((0 : Int32)).toInt = 0 from by decide)).trans <| (lv_osw c_13 (show ((5 : Int32)).toInt = 5 from by decide)).trans <| (lv_osw c_20 (show ((7 : Int32)).toInt = 7 from by decide)).trans <| rfl) (by decide) ?_
  refine lv_aload_n hx hb dX2_tells_103 rfl (lv_at hl 0 rfl) ?_
  refine lv_iload_n hx hb dX2_tells_104 rfl (lv_at hl 1 rfl) ?_
  refine lv_iload_n hx hb dX2_tells_105 rfl (lv_at hl 2 rfl) ?_
  obtain ⟨σ_27, r_28, e_29, hF⟩ := obi_of hF
  refine m_cSi (As := [.int a1]) (rest := [.int a0, .ref L.1]) C0 hG (mtM_above l e_29) (lw_S q2082 q2083 q102 q2084) yd_X2_above ⟨by omega, by omega⟩ rfl rfl hl.1 (Nat.le_of_ble_eq_true rfl) dX2_tells_106 (fun H locs hG => ?_)
  refine lv_iload_n hx hb dX2_tells_109 rfl (lv_at hl 3 rfl) ?_
  obtain ⟨σ_30, r_31, e_32, hF⟩ := obi_of hF
  refine m_cVi (As := [.int a0, .int r_28, .int a2]) (rest := []) C0 hG (hrc e_32) (lw_V q2093 q2095 qs97 q102 q2096) yd_X2_tells ⟨by omega, by omega⟩ rfl rfl hl.1 (Nat.le_of_ble_eq_true rfl) dX2_tells_110 (fun H locs hG => ?_)
  exact m_iret C0 hG dX2_tells_113 hF
theorem mtM_tells_e (l : Launch) {N : Nat} {L : mL} {rc : mS → Int32 → Int32 → Int32 → Option (mS × Int32)} {fr lo : Nat} (hrc : ∀ {σ σ1 : mS} {a0 a1 a2 : Int32} {r : Int32}, rc σ a0 a1 a2 = some (σ1, r) → mMet l yX2_tells cX2_tells 5 (some .int) (fr) (lo) [.ref L.1, .int a0, .int a1, .int a2] L σ (some (.int r)) σ1) {σ σ' : mS} {r : Int32} {a0 : Int32} {a1 : Int32} {a2 : Int32} (hF : fM_tells_e N rc σ a0 a1 a2 = some (σ', r)) : mMet l yX2_tells cX2_tells 5 (some .int) (fr + 585) (lo + 13464) [.ref L.1, .int a0, .int a1, .int a2] L σ (some (.int r)) σ' := by
  refine m_head (by decide) rfl ?_
  intro p e s m below meth c A C0 hG
  have hl := lv_entry ([.ref L.1, .int a0, .int a1, .int a2]) (n := 5) (Nat.le_of_ble_eq_true rfl)
  rw [lg_entry_eq]
  generalize (lg_sl ([.ref L.1, .int a0, .int a1, .int a2]) ++ List.replicate (5 - (lg_sl ([.ref L.1, .int a0, .int a1, .int a2])).length) Slot.unset).toArray = ls at hl ⊢
  have hl : lv_has ls 5 [(0, .ref L.1), (1, .int a0), (2, .int a1), (3, .int a2)] := hl
  exact bM_tells_e C0 ⟨Nat.le_refl _, Nat.le_refl _⟩ hrc _ _ _ _ _ [] ls hG hl hF
theorem mtM_tells (l : Launch) {N : Nat} {L : mL} : ∀ (d : Nat) {σ σ' : mS} { a0 a1 a2 r : Int32}, fM_tells N d σ a0 a1 a2 = some (σ', r) → mMet l yX2_tells cX2_tells 5 (some .int) (585 * d) (13464 * d) [.ref L.1, .int a0, .int a1, .int a2] L σ (some (.int r)) σ' := by
  intro d
  induction d with
  | zero => intro σ σ' a0 a1 a2 r hF; cases hF
  | succ d ih =>
    intro σ σ' a0 a1 a2 r hF
    unfold fM_tells at hF
    simp only [Nat.mul_succ]
    exact mtM_tells_e l ih hF
def fM_body (N : Nat) (σ : mS) (a0 : Int32) : Option (mS × Int32) :=
  obi (fM_within N σ a0 0 7) fun σ_1 r_2 =>
  if r_2 = 0 then (
    some (σ_1, (-1)))
  else (
    nmv (σ_1.1 37) fun x_5 =>
    if x_5 = 50 then (
      some (σ_1, (-3)))
    else (
      nmv (σ_1.1 37) fun x_7 =>
      chk x_7 50 <| nmv (mSj σ_1 38 x_7.toNatClampNeg a0) fun σ_8 =>
      nmv (σ_8.1 37) fun x_9 =>
      nmv (mSi σ_8 37 (x_9 + 1)) fun σ_10 =>
      some (σ_10, x_9)))
theorem bM_body_e {N : Nat} (C0 : mCx p s m args meth c cX2_body 2 (some .int) L A) (hRo : 1 ≤ R.frames ∧ 22 ≤ R.locals) {σ' : mS} {r : Int32} (σ : mS) (a0 : Int32) (H : Heap) (locs : List Loc) (ls : Array Slot) (hG : mG A L s σ H locs) (hl : lv_has ls 2 [(0, .ref L.1), (1, .int a0)]) (hF : fM_body N σ a0 = some (σ', r)) : W p l e R s m args below meth c H locs 0 0 (mZ below L A s args σ' (some (.int r))) (F0 m 0 ls []) := by
  have hx := C0.1
  have hb := C0.2.1
  unfold fM_body at hF
  refine lv_iload_n hx hb dX2_body_0 rfl (lv_at hl 1 rfl) ?_
  refine lv_iconst (v := 0) hx hb dX2_body_1 (by decide) ?_
  refine lv_bipush (v := 7) hx hb dX2_body_2 (by decide) ?_
  obtain ⟨σ_1, r_2, e_3, hF⟩ := obi_of hF
  refine m_cSi (As := [.int a0, .int 0, .int 7]) (rest := []) C0 hG (mtM_within l e_3) (lw_S q1751 q1752 q102 q1753) yd_X2_within ⟨by omega, by omega⟩ rfl rfl hl.1 (Nat.le_of_ble_eq_true rfl) dX2_body_4 (fun H locs hG => ?_)
  refine lv_if_ne (tgt := 12) hx hb dX2_body_7 (by decide) (fun c_4 => ?_) (fun c_4 => ?_)
  · have hF := ifn hF c_4
    refine lv_aload_n hx hb dX2_body_12 rfl (lv_at hl 0 rfl) ?_
    refine m_geti C0 hG 37 (by decide) rfl q1615 dX2_body_13 hF (fun x_5 hF => ?_)
    refine lv_bipush (v := 50) hx hb dX2_body_16 (by decide) ?_
    refine lv_icmp_ne (tgt := 24) hx hb dX2_body_18 (by decide) (fun c_6 => ?_) (fun c_6 => ?_)
    · have hF := ifn hF c_6
      refine lv_aload_n hx hb dX2_body_24 rfl (lv_at hl 0 rfl) ?_
      refine m_geta C0 hG 38 (by decide) rfl q1616 dX2_body_25 ?_
      refine lv_aload_n hx hb dX2_body_28 rfl (lv_at hl 0 rfl) ?_
      refine m_geti C0 hG 37 (by decide) rfl q1615 dX2_body_29 hF (fun x_7 hF => ?_)
      refine lv_iload_n hx hb dX2_body_32 rfl (lv_at hl 1 rfl) ?_
      refine m_st C0 hG 38 ⟨by decide, rfl, by decide⟩ dX2_body_33 hF (fun σ_8 H locs hG hF => ?_)
      refine lv_aload_n hx hb dX2_body_34 rfl (lv_at hl 0 rfl) ?_
      refine lv_dup hx hb dX2_body_35 rfl ?_
      refine m_geti C0 hG 37 (by decide) rfl q1615 dX2_body_36 hF (fun x_9 hF => ?_)
      refine lv_dup_x1 hx hb dX2_body_39 rfl rfl ?_
      refine lv_iconst (v := 1) hx hb dX2_body_40 (by decide) ?_
      refine lv_iadd hx hb dX2_body_41 ?_
      refine m_puti C0 hG 37 (by decide) rfl q1615 dX2_body_42 (Or.inl ⟨by decide, by decide⟩) hF (fun σ_10 H locs hG hF => ?_)
      exact m_iret C0 hG dX2_body_45 hF
    · have hF := ifp hF c_6
      refine lv_bipush (v := (-3)) hx hb dX2_body_21 (by decide) ?_
      exact m_iret C0 hG dX2_body_23 hF
  · have hF := ifp hF c_4
    refine lv_iconst (v := (-1)) hx hb dX2_body_10 (by decide) ?_
    exact m_iret C0 hG dX2_body_11 hF
theorem mtM_body (l : Launch) {N : Nat} {L : mL} {σ σ' : mS} {r : Int32} {a0 : Int32} (hF : fM_body N σ a0 = some (σ', r)) : mMet l yX2_body cX2_body 2 (some .int) (1) (22) [.ref L.1, .int a0] L σ (some (.int r)) σ' := by
  refine m_head (by decide) rfl ?_
  intro p e s m below meth c A C0 hG
  have hl := lv_entry ([.ref L.1, .int a0]) (n := 2) (Nat.le_of_ble_eq_true rfl)
  rw [lg_entry_eq]
  generalize (lg_sl ([.ref L.1, .int a0]) ++ List.replicate (2 - (lg_sl ([.ref L.1, .int a0])).length) Slot.unset).toArray = ls at hl ⊢
  have hl : lv_has ls 2 [(0, .ref L.1), (1, .int a0)] := hl
  exact bM_body_e C0 ⟨Nat.le_refl _, Nat.le_refl _⟩ _ _ _ [] ls hG hl hF
def fM_act (N : Nat) (σ : mS) (a0 : Int32) (a1 : Int32) (a2 : Int32) : Option (mS × Int32) :=
  nmv (mSi σ 39 0) fun σ_1 =>
  nmv (σ_1.1 37) fun x_2 =>
  obi (fM_within N σ_1 a0 0 (x_2 - 1)) fun σ_3 r_4 =>
  if r_4 = 0 then (
    some (σ_3, 0))
  else (
    obi (fM_within N σ_3 a1 0 3) fun σ_7 r_8 =>
    if r_8 = 0 then (
      some (σ_7, 0))
    else (
      chk a0 50 <| nmv (σ_7.2.1 38 a0.toNatClampNeg) fun x_11 =>
      if a1 = 0 then (
        obi (fM_countsBy N 8 σ_7 a0 x_11 a2) fun σ_24 r_25 =>
        some (σ_24, r_25))
      else (
        if a1 = 1 then (
          obi (fM_turnsBy N 8 σ_7 a0 x_11 a2) fun σ_21 r_22 =>
          some (σ_21, r_22))
        else (
          if a1 = 2 then (
            obi (fM_sinksBy N 8 σ_7 a0 x_11 a2) fun σ_18 r_19 =>
            some (σ_18, r_19))
          else (
            obi (fM_tells N 8 σ_7 a0 x_11 a2) fun σ_15 r_16 =>
            some (σ_15, r_16))))))
theorem bM_act_e {N : Nat} (C0 : mCx p s m args meth c cX2_act 5 (some .int) L A) (hRo : 4681 ≤ R.frames ∧ 107736 ≤ R.locals) {σ' : mS} {r : Int32} (σ : mS) (a0 : Int32) (a1 : Int32) (a2 : Int32) (H : Heap) (locs : List Loc) (ls : Array Slot) (hG : mG A L s σ H locs) (hl : lv_has ls 5 [(0, .ref L.1), (1, .int a0), (2, .int a1), (3, .int a2)]) (hF : fM_act N σ a0 a1 a2 = some (σ', r)) : W p l e R s m args below meth c H locs 0 0 (mZ below L A s args σ' (some (.int r))) (F0 m 0 ls []) := by
  have hx := C0.1
  have hb := C0.2.1
  unfold fM_act at hF
  refine lv_aload_n hx hb dX2_act_0 rfl (lv_at hl 0 rfl) ?_
  refine lv_iconst (v := 0) hx hb dX2_act_1 (by decide) ?_
  refine m_puti C0 hG 39 (by decide) rfl q1617 dX2_act_2 (Or.inl ⟨by decide, by decide⟩) hF (fun σ_1 H locs hG hF => ?_)
  refine lv_iload_n hx hb dX2_act_5 rfl (lv_at hl 1 rfl) ?_
  refine lv_iconst (v := 0) hx hb dX2_act_6 (by decide) ?_
  refine lv_aload_n hx hb dX2_act_7 rfl (lv_at hl 0 rfl) ?_
  refine m_geti C0 hG 37 (by decide) rfl q1615 dX2_act_8 hF (fun x_2 hF => ?_)
  refine lv_iconst (v := 1) hx hb dX2_act_11 (by decide) ?_
  refine lv_isub hx hb dX2_act_12 ?_
  obtain ⟨σ_3, r_4, e_5, hF⟩ := obi_of hF
  refine m_cSi (As := [.int a0, .int 0, .int (x_2 - 1)]) (rest := []) C0 hG (mtM_within l e_5) (lw_S q1751 q1752 q102 q1753) yd_X2_within ⟨by omega, by omega⟩ rfl rfl hl.1 (Nat.le_of_ble_eq_true rfl) dX2_act_13 (fun H locs hG => ?_)
  refine lv_if_eq (tgt := 28) hx hb dX2_act_16 (by decide) (fun c_6 => ?_) (fun c_6 => ?_)
  · have hF := ifp hF c_6
    refine lv_iconst (v := 0) hx hb dX2_act_28 (by decide) ?_
    exact m_iret C0 hG dX2_act_29 hF
  · have hF := ifn hF c_6
    refine lv_iload_n hx hb dX2_act_19 rfl (lv_at hl 2 rfl) ?_
    refine lv_iconst (v := 0) hx hb dX2_act_20 (by decide) ?_
    refine lv_iconst (v := 3) hx hb dX2_act_21 (by decide) ?_
    obtain ⟨σ_7, r_8, e_9, hF⟩ := obi_of hF
    refine m_cSi (As := [.int a1, .int 0, .int 3]) (rest := []) C0 hG (mtM_within l e_9) (lw_S q1751 q1752 q102 q1753) yd_X2_within ⟨by omega, by omega⟩ rfl rfl hl.1 (Nat.le_of_ble_eq_true rfl) dX2_act_22 (fun H locs hG => ?_)
    refine lv_if_ne (tgt := 30) hx hb dX2_act_25 (by decide) (fun c_10 => ?_) (fun c_10 => ?_)
    · have hF := ifn hF c_10
      refine lv_aload_n hx hb dX2_act_30 rfl (lv_at hl 0 rfl) ?_
      refine m_geta C0 hG 38 (by decide) rfl q1616 dX2_act_31 ?_
      refine lv_iload_n hx hb dX2_act_34 rfl (lv_at hl 1 rfl) ?_
      refine m_ld C0 hG 38 ⟨by decide, rfl, by decide⟩ dX2_act_35 hF (fun x_11 hF => ?_)
      refine lv_istore (lv' := [(4, .int x_11), (0, .ref L.1), (1, .int a0), (2, .int a1), (3, .int a2)]) hx hb dX2_act_36 hl (by decide) rfl (fun ls hl => ?_)
      refine lv_iload_n hx hb dX2_act_38 rfl (lv_at hl 3 rfl) ?_
      refine lv_if_ne (tgt := 53) hx hb dX2_act_39 (by decide) (fun c_12 => ?_) (fun c_12 => ?_)
      · have hF := ifn hF c_12
        refine lv_iload_n hx hb dX2_act_53 rfl (lv_at hl 3 rfl) ?_
        refine lv_iconst (v := 1) hx hb dX2_act_54 (by decide) ?_
        refine lv_icmp_ne (tgt := 69) hx hb dX2_act_55 (by decide) (fun c_13 => ?_) (fun c_13 => ?_)
        · have hF := ifn hF c_13
          refine lv_iload_n hx hb dX2_act_69 rfl (lv_at hl 3 rfl) ?_
          refine lv_iconst (v := 2) hx hb dX2_act_70 (by decide) ?_
          refine lv_icmp_ne (tgt := 85) hx hb dX2_act_71 (by decide) (fun c_14 => ?_) (fun c_14 => ?_)
          · have hF := ifn hF c_14
            refine lv_aload_n hx hb dX2_act_85 rfl (lv_at hl 1 rfl) ?_
            refine lv_iload_n hx hb dX2_act_86 rfl (lv_at hl 2 rfl) ?_
            refine lv_iload hx hb dX2_act_87 (lv_at hl 0 rfl) ?_
            refine lv_iload_n hx hb dX2_act_89 rfl (lv_at hl 4 rfl) ?_
            obtain ⟨σ_15, r_16, e_17, hF⟩ := obi_of hF
            refine m_cVi (As := [.int a0, .int x_11, .int a2]) (rest := []) C0 hG (mtM_tells l 8 e_17) (lw_V q2093 q2095 qs97 q102 q2096) yd_X2_tells ⟨by omega, by omega⟩ rfl rfl hl.1 (Nat.le_of_ble_eq_true rfl) dX2_act_90 (fun H locs hG => ?_)
            exact m_iret C0 hG dX2_act_93 hF
          · have hF := ifp hF c_14
            refine lv_aload_n hx hb dX2_act_74 rfl (lv_at hl 1 rfl) ?_
            refine lv_iload_n hx hb dX2_act_75 rfl (lv_at hl 2 rfl) ?_
            refine lv_iload hx hb dX2_act_76 (lv_at hl 0 rfl) ?_
            refine lv_iload_n hx hb dX2_act_78 rfl (lv_at hl 4 rfl) ?_
            obtain ⟨σ_18, r_19, e_20, hF⟩ := obi_of hF
            refine m_cVi (As := [.int a0, .int x_11, .int a2]) (rest := []) C0 hG (mtM_sinksBy l 8 e_20) (lw_V q2089 q2091 qs96 q102 q2092) yd_X2_sinksBy ⟨by omega, by omega⟩ rfl rfl hl.1 (Nat.le_of_ble_eq_true rfl) dX2_act_79 (fun H locs hG => ?_)
            refine lv_goto (tgt := 93) hx hb dX2_act_82 (by decide) ?_
            exact m_iret C0 hG dX2_act_93 hF
        · have hF := ifp hF c_13
          refine lv_aload_n hx hb dX2_act_58 rfl (lv_at hl 1 rfl) ?_
          refine lv_iload_n hx hb dX2_act_59 rfl (lv_at hl 2 rfl) ?_
          refine lv_iload hx hb dX2_act_60 (lv_at hl 0 rfl) ?_
          refine lv_iload_n hx hb dX2_act_62 rfl (lv_at hl 4 rfl) ?_
          obtain ⟨σ_21, r_22, e_23, hF⟩ := obi_of hF
          refine m_cVi (As := [.int a0, .int x_11, .int a2]) (rest := []) C0 hG (mtM_turnsBy l 8 e_23) (lw_V q2085 q2087 qs95 q102 q2088) yd_X2_turnsBy ⟨by omega, by omega⟩ rfl rfl hl.1 (Nat.le_of_ble_eq_true rfl) dX2_act_63 (fun H locs hG => ?_)
          refine lv_goto (tgt := 93) hx hb dX2_act_66 (by decide) ?_
          exact m_iret C0 hG dX2_act_93 hF
      · have hF := ifp hF c_12
        refine lv_aload_n hx hb dX2_act_42 rfl (lv_at hl 1 rfl) ?_
        refine lv_iload_n hx hb dX2_act_43 rfl (lv_at hl 2 rfl) ?_
        refine lv_iload hx hb dX2_act_44 (lv_at hl 0 rfl) ?_
        refine lv_iload_n hx hb dX2_act_46 rfl (lv_at hl 4 rfl) ?_
        obtain ⟨σ_24, r_25, e_26, hF⟩ := obi_of hF
        refine m_cVi (As := [.int a0, .int x_11, .int a2]) (rest := []) C0 hG (mtM_countsBy l 8 e_26) (lw_V q2074 q2076 qs93 q102 q2077) yd_X2_countsBy ⟨by omega, by omega⟩ rfl rfl hl.1 (Nat.le_of_ble_eq_true rfl) dX2_act_47 (fun H locs hG => ?_)
        refine lv_goto (tgt := 93) hx hb dX2_act_50 (by decide) ?_
        exact m_iret C0 hG dX2_act_93 hF
    · have hF := ifp hF c_10
      refine lv_iconst (v := 0) hx hb dX2_act_28 (by decide) ?_
      exact m_iret C0 hG dX2_act_29 hF
theorem mtM_act (l : Launch) {N : Nat} {L : mL} {σ σ' : mS} {r : Int32} {a0 : Int32} {a1 : Int32} {a2 : Int32} (hF : fM_act N σ a0 a1 a2 = some (σ', r)) : mMet l yX2_act cX2_act 5 (some .int) (4681) (107736) [.ref L.1, .int a0, .int a1, .int a2] L σ (some (.int r)) σ' := by
  refine m_head (by decide) rfl ?_
  intro p e s m below meth c A C0 hG
  have hl := lv_entry ([.ref L.1, .int a0, .int a1, .int a2]) (n := 5) (Nat.le_of_ble_eq_true rfl)
  rw [lg_entry_eq]
  generalize (lg_sl ([.ref L.1, .int a0, .int a1, .int a2]) ++ List.replicate (5 - (lg_sl ([.ref L.1, .int a0, .int a1, .int a2])).length) Slot.unset).toArray = ls at hl ⊢
  have hl : lv_has ls 5 [(0, .ref L.1), (1, .int a0), (2, .int a1), (3, .int a2)] := hl
  exact bM_act_e C0 ⟨Nat.le_refl _, Nat.le_refl _⟩ _ _ _ _ _ [] ls hG hl hF
def fM_trace (N : Nat) (σ : mS) (a0 : Int32) : Option (mS × Int32) :=
  nmv (σ.1 39) fun x_1 =>
  nmv (if x_1 < 24 then x_1 else 24) fun x_2 =>
  obi (fM_within N σ a0 0 (x_2 - 1)) fun σ_3 r_4 =>
  if r_4 = 0 then (
    some (σ_3, (-1)))
  else (
    chk a0 24 <| nmv (σ_3.2.1 40 a0.toNatClampNeg) fun x_7 =>
    some (σ_3, x_7))
theorem bM_trace_e {N : Nat} (C0 : mCx p s m args meth c cX2_trace 2 (some .int) L A) (hRo : 1 ≤ R.frames ∧ 22 ≤ R.locals) {σ' : mS} {r : Int32} (σ : mS) (a0 : Int32) (H : Heap) (locs : List Loc) (ls : Array Slot) (hG : mG A L s σ H locs) (hl : lv_has ls 2 [(0, .ref L.1), (1, .int a0)]) (hF : fM_trace N σ a0 = some (σ', r)) : W p l e R s m args below meth c H locs 0 0 (mZ below L A s args σ' (some (.int r))) (F0 m 0 ls []) := by
  have hx := C0.1
  have hb := C0.2.1
  unfold fM_trace at hF
  refine lv_iload_n hx hb dX2_trace_0 rfl (lv_at hl 1 rfl) ?_
  refine lv_iconst (v := 0) hx hb dX2_trace_1 (by decide) ?_
  refine lv_bipush (v := 24) hx hb dX2_trace_2 (by decide) ?_
  refine lv_aload_n hx hb dX2_trace_4 rfl (lv_at hl 0 rfl) ?_
  refine m_geti C0 hG 39 (by decide) rfl q1617 dX2_trace_5 hF (fun x_1 hF => ?_)
  refine m_min C0 hl.1 q1869 q679 q116 q680 ⟨by omega, by omega⟩ (Nat.le_of_ble_eq_true rfl) dX2_trace_8 hF (fun x_2 hF => ?_)
  refine lv_iconst (v := 1) hx hb dX2_trace_11 (by decide) ?_
  refine lv_isub hx hb dX2_trace_12 ?_
  obtain ⟨σ_3, r_4, e_5, hF⟩ := obi_of hF
  refine m_cSi (As := [.int a0, .int 0, .int (x_2 - 1)]) (rest := []) C0 hG (mtM_within l e_5) (lw_S q1751 q1752 q102 q1753) yd_X2_within ⟨by omega, by omega⟩ rfl rfl hl.1 (Nat.le_of_ble_eq_true rfl) dX2_trace_13 (fun H locs hG => ?_)
  refine lv_if_eq (tgt := 28) hx hb dX2_trace_16 (by decide) (fun c_6 => ?_) (fun c_6 => ?_)
  · have hF := ifp hF c_6
    refine lv_iconst (v := (-1)) hx hb dX2_trace_28 (by decide) ?_
    exact m_iret C0 hG dX2_trace_29 hF
  · have hF := ifn hF c_6
    refine lv_aload_n hx hb dX2_trace_19 rfl (lv_at hl 0 rfl) ?_
    refine m_geta C0 hG 40 (by decide) rfl q1618 dX2_trace_20 ?_
    refine lv_iload_n hx hb dX2_trace_23 rfl (lv_at hl 1 rfl) ?_
    refine m_ld C0 hG 40 ⟨by decide, rfl, by decide⟩ dX2_trace_24 hF (fun x_7 hF => ?_)
    refine lv_goto (tgt := 29) hx hb dX2_trace_25 (by decide) ?_
    exact m_iret C0 hG dX2_trace_29 hF
theorem mtM_trace (l : Launch) {N : Nat} {L : mL} {σ σ' : mS} {r : Int32} {a0 : Int32} (hF : fM_trace N σ a0 = some (σ', r)) : mMet l yX2_trace cX2_trace 2 (some .int) (1) (22) [.ref L.1, .int a0] L σ (some (.int r)) σ' := by
  refine m_head (by decide) rfl ?_
  intro p e s m below meth c A C0 hG
  have hl := lv_entry ([.ref L.1, .int a0]) (n := 2) (Nat.le_of_ble_eq_true rfl)
  rw [lg_entry_eq]
  generalize (lg_sl ([.ref L.1, .int a0]) ++ List.replicate (2 - (lg_sl ([.ref L.1, .int a0])).length) Slot.unset).toArray = ls at hl ⊢
  have hl : lv_has ls 2 [(0, .ref L.1), (1, .int a0)] := hl
  exact bM_trace_e C0 ⟨Nat.le_refl _, Nat.le_refl _⟩ _ _ _ [] ls hG hl hF
def fM_keep_b40 (N : Nat) (σ : mS) (y0 : Int32) (y1 : Int32) (x1 : Int32) : Option (mS × Int32) :=
  chk y1 6 <| nmv (mSj σ 41 y1.toNatClampNeg y0) fun σ_11 =>
  chk x1 6 <| nmv (mSj σ_11 42 x1.toNatClampNeg 0) fun σ_12 =>
  some (σ_12, 1)
def fM_keep (N : Nat) (σ : mS) (a0 : Int32) (a1 : Int32) : Option (mS × Int32) :=
  obi (fM_isShelf N σ a0) fun σ_1 r_2 =>
  if r_2 = 0 then (
    some (σ_1, (-1)))
  else (
    nmv (σ_1.1 37) fun x_5 =>
    obi (fM_within N σ_1 a1 (-1) (x_5 - 1)) fun σ_6 r_7 =>
    if r_7 = 0 then (
      some (σ_6, (-1)))
    else (
      if 0 ≤ a1 then (
        fM_keep_b40 N σ_6 ((10 : Int32) + a1) a0 a0)
      else (
        fM_keep_b40 N σ_6 (-1) a0 a0)))
theorem bM_keep_40 {N : Nat} (C0 : mCx p s m args meth c cX2_keep 3 (some .int) L A) (hRo : 2 ≤ R.frames ∧ 42 ≤ R.locals) {σ' : mS} {r : Int32} (σ : mS) (y0 : Int32) (y1 : Int32) (x1 : Int32) (H : Heap) (locs : List Loc) (ls : Array Slot) (hG : mG A L s σ H locs) (hl : lv_has ls 3 [(0, .ref L.1), (1, .int x1)]) (hF : fM_keep_b40 N σ y0 y1 x1 = some (σ', r)) : W p l e R s m args below meth c H locs 0 0 (mZ below L A s args σ' (some (.int r))) (F0 m 40 ls [.int y0, .int y1, .ref (L.2.1 41)]) := by
  have hx := C0.1
  have hb := C0.2.1
  unfold fM_keep_b40 at hF
  refine m_st C0 hG 41 ⟨by decide, rfl, by decide⟩ dX2_keep_40 hF (fun σ_11 H locs hG hF => ?_)
  refine lv_aload_n hx hb dX2_keep_41 rfl (lv_at hl 0 rfl) ?_
  refine m_geta C0 hG 42 (by decide) rfl q1620 dX2_keep_42 ?_
  refine lv_iload_n hx hb dX2_keep_45 rfl (lv_at hl 1 rfl) ?_
  refine lv_iconst (v := 0) hx hb dX2_keep_46 (by decide) ?_
  refine m_st C0 hG 42 ⟨by decide, rfl, by decide⟩ dX2_keep_47 hF (fun σ_12 H locs hG hF => ?_)
  refine lv_iconst (v := 1) hx hb dX2_keep_48 (by decide) ?_
  exact m_iret C0 hG dX2_keep_49 hF
theorem bM_keep_e {N : Nat} (C0 : mCx p s m args meth c cX2_keep 3 (some .int) L A) (hRo : 2 ≤ R.frames ∧ 42 ≤ R.locals) {σ' : mS} {r : Int32} (σ : mS) (a0 : Int32) (a1 : Int32) (H : Heap) (locs : List Loc) (ls : Array Slot) (hG : mG A L s σ H locs) (hl : lv_has ls 3 [(0, .ref L.1), (1, .int a0), (2, .int a1)]) (hF : fM_keep N σ a0 a1 = some (σ', r)) : W p l e R s m args below meth c H locs 0 0 (mZ below L A s args σ' (some (.int r))) (F0 m 0 ls []) := by
  have hx := C0.1
  have hb := C0.2.1
  unfold fM_keep at hF
  refine lv_iload_n hx hb dX2_keep_0 rfl (lv_at hl 1 rfl) ?_
  obtain ⟨σ_1, r_2, e_3, hF⟩ := obi_of hF
  refine m_cSi (As := [.int a0]) (rest := []) C0 hG (mtM_isShelf l e_3) (lw_S q1762 q1763 q102 q1764) yd_X2_isShelf ⟨by omega, by omega⟩ rfl rfl hl.1 (Nat.le_of_ble_eq_true rfl) dX2_keep_1 (fun H locs hG => ?_)
  refine lv_if_eq (tgt := 21) hx hb dX2_keep_4 (by decide) (fun c_4 => ?_) (fun c_4 => ?_)
  · have hF := ifp hF c_4
    refine lv_iconst (v := (-1)) hx hb dX2_keep_21 (by decide) ?_
    exact m_iret C0 hG dX2_keep_22 hF
  · have hF := ifn hF c_4
    refine lv_iload_n hx hb dX2_keep_7 rfl (lv_at hl 2 rfl) ?_
    refine lv_iconst (v := (-1)) hx hb dX2_keep_8 (by decide) ?_
    refine lv_aload_n hx hb dX2_keep_9 rfl (lv_at hl 0 rfl) ?_
    refine m_geti C0 hG 37 (by decide) rfl q1615 dX2_keep_10 hF (fun x_5 hF => ?_)
    refine lv_iconst (v := 1) hx hb dX2_keep_13 (by decide) ?_
    refine lv_isub hx hb dX2_keep_14 ?_
    obtain ⟨σ_6, r_7, e_8, hF⟩ := obi_of hF
    refine m_cSi (As := [.int a1, .int (-1), .int (x_5 - 1)]) (rest := []) C0 hG (mtM_within l e_8) (lw_S q1751 q1752 q102 q1753) yd_X2_within ⟨by omega, by omega⟩ rfl rfl hl.1 (Nat.le_of_ble_eq_true rfl) dX2_keep_15 (fun H locs hG => ?_)
    refine lv_if_ne (tgt := 23) hx hb dX2_keep_18 (by decide) (fun c_9 => ?_) (fun c_9 => ?_)
    · have hF := ifn hF c_9
      refine lv_aload_n hx hb dX2_keep_23 rfl (lv_at hl 0 rfl) ?_
      refine m_geta C0 hG 41 (by decide) rfl q1619 dX2_keep_24 ?_
      refine lv_iload_n hx hb dX2_keep_27 rfl (lv_at hl 1 rfl) ?_
      refine lv_iload_n hx hb dX2_keep_28 rfl (lv_at hl 2 rfl) ?_
      refine lv_if_ge (tgt := 36) hx hb dX2_keep_29 (by decide) (fun c_10 => ?_) (fun c_10 => ?_)
      · have hF := ifp hF c_10
        refine lv_bipush (v := 10) hx hb dX2_keep_36 (by decide) ?_
        refine lv_iload_n hx hb dX2_keep_38 rfl (lv_at hl 2 rfl) ?_
        refine lv_iadd hx hb dX2_keep_39 ?_
        exact bM_keep_40 C0 hRo _ _ _ _ H locs ls hG (lv_sub hl [0, 1] rfl) hF
      · have hF := ifn hF c_10
        refine lv_iconst (v := (-1)) hx hb dX2_keep_32 (by decide) ?_
        refine lv_goto (tgt := 40) hx hb dX2_keep_33 (by decide) ?_
        exact bM_keep_40 C0 hRo _ _ _ _ H locs ls hG (lv_sub hl [0, 1] rfl) hF
    · have hF := ifp hF c_9
      refine lv_iconst (v := (-1)) hx hb dX2_keep_21 (by decide) ?_
      exact m_iret C0 hG dX2_keep_22 hF
theorem mtM_keep (l : Launch) {N : Nat} {L : mL} {σ σ' : mS} {r : Int32} {a0 : Int32} {a1 : Int32} (hF : fM_keep N σ a0 a1 = some (σ', r)) : mMet l yX2_keep cX2_keep 3 (some .int) (2) (42) [.ref L.1, .int a0, .int a1] L σ (some (.int r)) σ' := by
  refine m_head (by decide) rfl ?_
  intro p e s m below meth c A C0 hG
  have hl := lv_entry ([.ref L.1, .int a0, .int a1]) (n := 3) (Nat.le_of_ble_eq_true rfl)
  rw [lg_entry_eq]
  generalize (lg_sl ([.ref L.1, .int a0, .int a1]) ++ List.replicate (3 - (lg_sl ([.ref L.1, .int a0, .int a1])).length) Slot.unset).toArray = ls at hl ⊢
  have hl : lv_has ls 3 [(0, .ref L.1), (1, .int a0), (2, .int a1)] := hl
  exact bM_keep_e C0 ⟨Nat.le_refl _, Nat.le_refl _⟩ _ _ _ _ [] ls hG hl hF
def fM_row_b48 (N : Nat) : Nat → mS → Int32 → Int32 → Option (mS × Int32)
  | 0, _, _, _ => none
  | n + 1, σ, x1, x4 =>
    if 60 ≤ x4 then (
      some (σ, 1))
    else (
      chk (((60 : Int32) * x1) + x4) 360 <| nmv (mSl σ (((60 : Int32) * x1) + x4).toNatClampNeg 0) fun σ_14 =>
      nmv (x4 + 1) fun x_15 =>
      (fM_row_b48 N n) σ_14 x1 x_15)
def fM_row (N : Nat) (σ : mS) (a0 : Int32) (a1 : Int32) (a2 : Int32) : Option (mS × Int32) :=
  obi (fM_isShelf N σ a0) fun σ_1 r_2 =>
  if r_2 = 0 then (
    some (σ_1, (-1)))
  else (
    obi (fM_within N σ_1 a1 0 4) fun σ_5 r_6 =>
    if r_6 = 0 then (
      some (σ_5, (-1)))
    else (
      if a2 ≤ 60 then (
        if 0 ≤ a2 then (
          chk a0 6 <| nmv (mSj σ_5 41 a0.toNatClampNeg a1) fun σ_11 =>
          chk a0 6 <| nmv (mSj σ_11 42 a0.toNatClampNeg a2) fun σ_12 =>
          fM_row_b48 N N σ_12 a0 0)
        else (
          some (σ_5, (-14))))
      else (
        some (σ_5, (-1)))))
theorem bM_row_48 {N : Nat} (C0 : mCx p s m args meth c cX2_row 5 (some .int) L A) (hRo : 2 ≤ R.frames ∧ 42 ≤ R.locals) {σ' : mS} {r : Int32} : ∀ (n : Nat) (σ : mS) (x1 : Int32) (x4 : Int32) (H : Heap) (locs : List Loc) (ls : Array Slot), mG A L s σ H locs → lv_has ls 5 [(0, .ref L.1), (1, .int x1), (4, .int x4)] → fM_row_b48 N n σ x1 x4 = some (σ', r) → W p l e R s m args below meth c H locs 0 0 (mZ below L A s args σ' (some (.int r))) (F0 m 48 ls []) := by
  have hx := C0.1
  have hb := C0.2.1
  intro n
  induction n with
  | zero => intro σ x1 x4 H locs ls hG hl hF; cases hF
  | succ n ih =>
    intro σ x1 x4 H locs ls hG hl hF
    unfold fM_row_b48 at hF
    refine lv_iload hx hb dX2_row_48 (lv_at hl 2 rfl) ?_
    refine lv_bipush (v := 60) hx hb dX2_row_50 (by decide) ?_
    refine lv_icmp_ge (tgt := 74) hx hb dX2_row_52 (by decide) (fun c_13 => ?_) (fun c_13 => ?_)
    · have hF := ifp hF c_13
      refine lv_iconst (v := 1) hx hb dX2_row_74 (by decide) ?_
      exact m_iret C0 hG dX2_row_75 hF
    · have hF := ifn hF c_13
      refine lv_aload_n hx hb dX2_row_55 rfl (lv_at hl 0 rfl) ?_
      refine m_geta C0 hG 43 (by decide) rfl q1621 dX2_row_56 ?_
      refine lv_bipush (v := 60) hx hb dX2_row_59 (by decide) ?_
      refine lv_iload_n hx hb dX2_row_61 rfl (lv_at hl 1 rfl) ?_
      refine lv_imul hx hb dX2_row_62 ?_
      refine lv_iload hx hb dX2_row_63 (lv_at hl 2 rfl) ?_
      refine lv_iadd hx hb dX2_row_65 ?_
      refine lv_lconst (v := 0) hx hb dX2_row_66 (by decide) ?_
      refine m_stl C0 hG dX2_row_67 hF (fun σ_14 H locs hG hF => ?_)
      refine w_iinc hx hb dX2_row_68 hl 2 rfl (v := 1) (by decide) (by decide) hF (fun x_15 ls hl hF => ?_)
      have hl : lv_has ls 5 [(4, .int x_15), (0, .ref L.1), (1, .int x1)] := hl
      refine lv_goto (tgt := 48) hx hb dX2_row_71 (by decide) ?_
      exact ih _ _ _ H locs ls hG (lv_sub hl [1, 2, 0] rfl) hF
theorem bM_row_e {N : Nat} (C0 : mCx p s m args meth c cX2_row 5 (some .int) L A) (hRo : 2 ≤ R.frames ∧ 42 ≤ R.locals) {σ' : mS} {r : Int32} (σ : mS) (a0 : Int32) (a1 : Int32) (a2 : Int32) (H : Heap) (locs : List Loc) (ls : Array Slot) (hG : mG A L s σ H locs) (hl : lv_has ls 5 [(0, .ref L.1), (1, .int a0), (2, .int a1), (3, .int a2)]) (hF : fM_row N σ a0 a1 a2 = some (σ', r)) : W p l e R s m args below meth c H locs 0 0 (mZ below L A s args σ' (some (.int r))) (F0 m 0 ls []) := by
  have hx := C0.1
  have hb := C0.2.1
  unfold fM_row at hF
  refine lv_iload_n hx hb dX2_row_0 rfl (lv_at hl 1 rfl) ?_
  obtain ⟨σ_1, r_2, e_3, hF⟩ := obi_of hF
  refine m_cSi (As := [.int a0]) (rest := []) C0 hG (mtM_isShelf l e_3) (lw_S q1762 q1763 q102 q1764) yd_X2_isShelf ⟨by omega, by omega⟩ rfl rfl hl.1 (Nat.le_of_ble_eq_true rfl) dX2_row_1 (fun H locs hG => ?_)
  refine lv_if_eq (tgt := 22) hx hb dX2_row_4 (by decide) (fun c_4 => ?_) (fun c_4 => ?_)
  · have hF := ifp hF c_4
    refine lv_iconst (v := (-1)) hx hb dX2_row_22 (by decide) ?_
    exact m_iret C0 hG dX2_row_23 hF
  · have hF := ifn hF c_4
    refine lv_iload_n hx hb dX2_row_7 rfl (lv_at hl 2 rfl) ?_
    refine lv_iconst (v := 0) hx hb dX2_row_8 (by decide) ?_
    refine lv_iconst (v := 4) hx hb dX2_row_9 (by decide) ?_
    obtain ⟨σ_5, r_6, e_7, hF⟩ := obi_of hF
    refine m_cSi (As := [.int a1, .int 0, .int 4]) (rest := []) C0 hG (mtM_within l e_7) (lw_S q1751 q1752 q102 q1753) yd_X2_within ⟨by omega, by omega⟩ rfl rfl hl.1 (Nat.le_of_ble_eq_true rfl) dX2_row_10 (fun H locs hG => ?_)
    refine lv_if_eq (tgt := 22) hx hb dX2_row_13 (by decide) (fun c_8 => ?_) (fun c_8 => ?_)
    · have hF := ifp hF c_8
      refine lv_iconst (v := (-1)) hx hb dX2_row_22 (by decide) ?_
      exact m_iret C0 hG dX2_row_23 hF
    · have hF := ifn hF c_8
      refine lv_iload_n hx hb dX2_row_16 rfl (lv_at hl 3 rfl) ?_
      refine lv_bipush (v := 60) hx hb dX2_row_17 (by decide) ?_
      refine lv_icmp_le (tgt := 24) hx hb dX2_row_19 (by decide) (fun c_9 => ?_) (fun c_9 => ?_)
      · have hF := ifp hF c_9
        refine lv_iload_n hx hb dX2_row_24 rfl (lv_at hl 3 rfl) ?_
        refine lv_if_ge (tgt := 31) hx hb dX2_row_25 (by decide) (fun c_10 => ?_) (fun c_10 => ?_)
        · have hF := ifp hF c_10
          refine lv_aload_n hx hb dX2_row_31 rfl (lv_at hl 0 rfl) ?_
          refine m_geta C0 hG 41 (by decide) rfl q1619 dX2_row_32 ?_
          refine lv_iload_n hx hb dX2_row_35 rfl (lv_at hl 1 rfl) ?_
          refine lv_iload_n hx hb dX2_row_36 rfl (lv_at hl 2 rfl) ?_
          refine m_st C0 hG 41 ⟨by decide, rfl, by decide⟩ dX2_row_37 hF (fun σ_11 H locs hG hF => ?_)
          refine lv_aload_n hx hb dX2_row_38 rfl (lv_at hl 0 rfl) ?_
          refine m_geta C0 hG 42 (by decide) rfl q1620 dX2_row_39 ?_
          refine lv_iload_n hx hb dX2_row_42 rfl (lv_at hl 1 rfl) ?_
          refine lv_iload_n hx hb dX2_row_43 rfl (lv_at hl 3 rfl) ?_
          refine m_st C0 hG 42 ⟨by decide, rfl, by decide⟩ dX2_row_44 hF (fun σ_12 H locs hG hF => ?_)
          refine lv_iconst (v := 0) hx hb dX2_row_45 (by decide) ?_
          refine lv_istore (lv' := [(4, .int 0), (0, .ref L.1), (1, .int a0), (2, .int a1), (3, .int a2)]) hx hb dX2_row_46 hl (by decide) rfl (fun ls hl => ?_)
          exact bM_row_48 C0 hRo N _ _ _ H locs ls hG (lv_sub hl [1, 2, 0] rfl) hF
        · have hF := ifn hF c_10
          refine lv_bipush (v := (-14)) hx hb dX2_row_28 (by decide) ?_
          exact m_iret C0 hG dX2_row_30 hF
      · have hF := ifn hF c_9
        refine lv_iconst (v := (-1)) hx hb dX2_row_22 (by decide) ?_
        exact m_iret C0 hG dX2_row_23 hF
theorem mtM_row (l : Launch) {N : Nat} {L : mL} {σ σ' : mS} {r : Int32} {a0 : Int32} {a1 : Int32} {a2 : Int32} (hF : fM_row N σ a0 a1 a2 = some (σ', r)) : mMet l yX2_row cX2_row 5 (some .int) (2) (42) [.ref L.1, .int a0, .int a1, .int a2] L σ (some (.int r)) σ' := by
  refine m_head (by decide) rfl ?_
  intro p e s m below meth c A C0 hG
  have hl := lv_entry ([.ref L.1, .int a0, .int a1, .int a2]) (n := 5) (Nat.le_of_ble_eq_true rfl)
  rw [lg_entry_eq]
  generalize (lg_sl ([.ref L.1, .int a0, .int a1, .int a2]) ++ List.replicate (5 - (lg_sl ([.ref L.1, .int a0, .int a1, .int a2])).length) Slot.unset).toArray = ls at hl ⊢
  have hl : lv_has ls 5 [(0, .ref L.1), (1, .int a0), (2, .int a1), (3, .int a2)] := hl
  exact bM_row_e C0 ⟨Nat.le_refl _, Nat.le_refl _⟩ _ _ _ _ _ [] ls hG hl hF
def fM_isRow (N : Nat) (σ : mS) (a0 : Int32) : Option (mS × Int32) :=
  chk a0 6 <| nmv (σ.2.1 41 a0.toNatClampNeg) fun x_1 =>
  obi (fM_within N σ x_1 0 4) fun σ_2 r_3 =>
  chb r_3 (some (σ_2, r_3))
theorem bM_isRow_e {N : Nat} (C0 : mCx p s m args meth c cX2_isRow 2 (some .boolean) L A) (hRo : 1 ≤ R.frames ∧ 22 ≤ R.locals) {σ' : mS} {r : Int32} (σ : mS) (a0 : Int32) (H : Heap) (locs : List Loc) (ls : Array Slot) (hG : mG A L s σ H locs) (hl : lv_has ls 2 [(0, .ref L.1), (1, .int a0)]) (hF : fM_isRow N σ a0 = some (σ', r)) : W p l e R s m args below meth c H locs 0 0 (mZ below L A s args σ' (some (.int r))) (F0 m 0 ls []) := by
  have hx := C0.1
  have hb := C0.2.1
  unfold fM_isRow at hF
  refine lv_aload_n hx hb dX2_isRow_0 rfl (lv_at hl 0 rfl) ?_
  refine m_geta C0 hG 41 (by decide) rfl q1619 dX2_isRow_1 ?_
  refine lv_iload_n hx hb dX2_isRow_4 rfl (lv_at hl 1 rfl) ?_
  refine m_ld C0 hG 41 ⟨by decide, rfl, by decide⟩ dX2_isRow_5 hF (fun x_1 hF => ?_)
  refine lv_iconst (v := 0) hx hb dX2_isRow_6 (by decide) ?_
  refine lv_iconst (v := 4) hx hb dX2_isRow_7 (by decide) ?_
  obtain ⟨σ_2, r_3, e_4, hF⟩ := obi_of hF
  refine m_cSi (As := [.int x_1, .int 0, .int 4]) (rest := []) C0 hG (mtM_within l e_4) (lw_S q1751 q1752 q102 q1753) yd_X2_within ⟨by omega, by omega⟩ rfl rfl hl.1 (Nat.le_of_ble_eq_true rfl) dX2_isRow_8 (fun H locs hG => ?_)
  exact m_zret C0 hG dX2_isRow_11 hF
theorem mtM_isRow (l : Launch) {N : Nat} {L : mL} {σ σ' : mS} {r : Int32} {a0 : Int32} (hF : fM_isRow N σ a0 = some (σ', r)) : mMet l yX2_isRow cX2_isRow 2 (some .boolean) (1) (22) [.ref L.1, .int a0] L σ (some (.int r)) σ' := by
  refine m_head (by decide) rfl ?_
  intro p e s m below meth c A C0 hG
  have hl := lv_entry ([.ref L.1, .int a0]) (n := 2) (Nat.le_of_ble_eq_true rfl)
  rw [lg_entry_eq]
  generalize (lg_sl ([.ref L.1, .int a0]) ++ List.replicate (2 - (lg_sl ([.ref L.1, .int a0])).length) Slot.unset).toArray = ls at hl ⊢
  have hl : lv_has ls 2 [(0, .ref L.1), (1, .int a0)] := hl
  exact bM_isRow_e C0 ⟨Nat.le_refl _, Nat.le_refl _⟩ _ _ _ [] ls hG hl hF
def fM_kept (N : Nat) (σ : mS) (a0 : Int32) (a1 : Int64) : Option (mS × Int64) :=
  if a0 = 0 then (
    some (σ, ((a1.toInt32).toInt8.toInt32).toInt64))
  else (
  if a0 = 1 then (
    some (σ, ((a1.toInt32).toInt16.toInt32).toInt64))
  else (
  if a0 = 2 then (
    some (σ, (a1.toInt32).toInt64))
  else (
  if a0 = 3 then (
    some (σ, a1))
  else (
    if (lg_cmp a1 0) = 0 then (
      some (σ, 0))
    else (
      some (σ, 1))))))
theorem bM_kept_e {N : Nat} (C0 : mCx p s m args meth c cX2_kept 3 (some .long) L A) (hRo : 0 ≤ R.frames ∧ 0 ≤ R.locals) {σ' : mS} {r : Int64} (σ : mS) (a0 : Int32) (a1 : Int64) (H : Heap) (locs : List Loc) (ls : Array Slot) (hG : mG A L s σ H locs) (hl : lv_has ls 3 [(0, .int a0), (1, .long a1)]) (hF : fM_kept N σ a0 a1 = some (σ', r)) : W p l e R s m args below meth c H locs 0 0 (mZ below L A s args σ' (some (.long r))) (F0 m 0 ls []) := by
  have hx := C0.1
  have hb := C0.2.1
  unfold fM_kept at hF
  refine lv_iload_n hx hb dX2_kept_0 rfl (lv_at hl 0 rfl) ?_
  by_cases c_1 : a0 = 0
  · have hF := ifp hF c_1
    refine lv_tableIn (off := 31) (tgt := 32) hx hb dX2_kept_1 (by rw [c_1]; decide) (by rw [c_1]; decide) (by rw [c_1]; rfl) (by decide) ?_
    refine lv_lload_n hx hb dX2_kept_32 rfl (lv_at hl 1 rfl) ?_
    refine lv_l2i (v := a1.toInt32) hx hb dX2_kept_33 rfl ?_
    refine lv_i2b (v := (a1.toInt32).toInt8.toInt32) hx hb dX2_kept_34 rfl ?_
    refine lv_i2l (v := ((a1.toInt32).toInt8.toInt32).toInt64) hx hb dX2_kept_35 rfl ?_
    exact m_lret C0 hG dX2_kept_36 hF
  have hF := ifn hF c_1
  by_cases c_2 : a0 = 1
  · have hF := ifp hF c_2
    refine lv_tableIn (off := 36) (tgt := 37) hx hb dX2_kept_1 (by rw [c_2]; decide) (by rw [c_2]; decide) (by rw [c_2]; rfl) (by decide) ?_
    refine lv_lload_n hx hb dX2_kept_37 rfl (lv_at hl 1 rfl) ?_
    refine lv_l2i (v := a1.toInt32) hx hb dX2_kept_38 rfl ?_
    refine lv_i2s (v := (a1.toInt32).toInt16.toInt32) hx hb dX2_kept_39 rfl ?_
    refine lv_i2l (v := ((a1.toInt32).toInt16.toInt32).toInt64) hx hb dX2_kept_40 rfl ?_
    exact m_lret C0 hG dX2_kept_41 hF
  have hF := ifn hF c_2
  by_cases c_3 : a0 = 2
  · have hF := ifp hF c_3
    refine lv_tableIn (off := 41) (tgt := 42) hx hb dX2_kept_1 (by rw [c_3]; decide) (by rw [c_3]; decide) (by rw [c_3]; rfl) (by decide) ?_
    refine lv_lload_n hx hb dX2_kept_42 rfl (lv_at hl 1 rfl) ?_
    refine lv_l2i (v := a1.toInt32) hx hb dX2_kept_43 rfl ?_
    refine lv_i2l (v := (a1.toInt32).toInt64) hx hb dX2_kept_44 rfl ?_
    exact m_lret C0 hG dX2_kept_45 hF
  have hF := ifn hF c_3
  by_cases c_4 : a0 = 3
  · have hF := ifp hF c_4
    refine lv_tableIn (off := 45) (tgt := 46) hx hb dX2_kept_1 (by rw [c_4]; decide) (by rw [c_4]; decide) (by rw [c_4]; rfl) (by decide) ?_
    refine lv_lload_n hx hb dX2_kept_46 rfl (lv_at hl 1 rfl) ?_
    exact m_lret C0 hG dX2_kept_47 hF
  have hF := ifn hF c_4
  refine lv_tableOut (tgt := 48) hx hb dX2_kept_1 (sw_out (fun q_ => by
      have zc_1 := lv_neT c_1 (show ((0 : Int32)).toInt = 0 from by decide)
      have zc_2 := lv_neT c_2 (show ((1 : Int32)).toInt = 1 from by decide)
      have zc_3 := lv_neT c_3 (show ((2 : Int32)).toInt = 2 from by decide)
      have zc_4 := lv_neT c_4 (show ((3 : Int32)).toInt = 3 from by decide)
      omega)) (by decide) ?_
  refine lv_lload_n hx hb dX2_kept_48 rfl (lv_at hl 1 rfl) ?_
  refine lv_lconst (v := 0) hx hb dX2_kept_49 (by decide) ?_
  refine W.lcmp hx hb dX2_kept_50 ?_
  refine lv_if_eq (tgt := 58) hx hb dX2_kept_51 (by decide) (fun c_5 => ?_) (fun c_5 => ?_)
  · have hF := ifp hF c_5
    refine lv_lconst (v := 0) hx hb dX2_kept_58 (by decide) ?_
    exact m_lret C0 hG dX2_kept_59 hF
  · have hF := ifn hF c_5
    refine lv_lconst (v := 1) hx hb dX2_kept_54 (by decide) ?_
    refine lv_goto (tgt := 59) hx hb dX2_kept_55 (by decide) ?_
    exact m_lret C0 hG dX2_kept_59 hF
theorem mtM_kept (l : Launch) {N : Nat} {L : mL} {σ σ' : mS} {r : Int64} {a0 : Int32} {a1 : Int64} (hF : fM_kept N σ a0 a1 = some (σ', r)) : mMet l yX2_kept cX2_kept 3 (some .long) (0) (0) [.int a0, .long a1] L σ (some (.long r)) σ' := by
  refine m_head (by decide) rfl ?_
  intro p e s m below meth c A C0 hG
  have hl := lv_entry ([.int a0, .long a1]) (n := 3) (Nat.le_of_ble_eq_true rfl)
  rw [lg_entry_eq]
  generalize (lg_sl ([.int a0, .long a1]) ++ List.replicate (3 - (lg_sl ([.int a0, .long a1])).length) Slot.unset).toArray = ls at hl ⊢
  have hl : lv_has ls 3 [(0, .int a0), (1, .long a1)] := hl
  exact bM_kept_e C0 ⟨Nat.le_refl _, Nat.le_refl _⟩ _ _ _ _ [] ls hG hl hF
def fM_put (N : Nat) (σ : mS) (a0 : Int32) (a1 : Int32) (a2 : Int64) : Option (mS × Int32) :=
  obi (fM_isShelf N σ a0) fun σ_1 r_2 =>
  if r_2 = 0 then (
    some (σ_1, (-1)))
  else (
    chk a0 6 <| nmv (σ_1.2.1 41 a0.toNatClampNeg) fun x_5 =>
    if x_5 = (-1) then (
      some (σ_1, (-11)))
    else (
      obi (fM_isRow N σ_1 a0) fun σ_7 r_8 =>
      if r_8 = 0 then (
        some (σ_7, (-12)))
      else (
        chk a0 6 <| nmv (σ_7.2.1 42 a0.toNatClampNeg) fun x_11 =>
        obi (fM_within N σ_7 a1 0 (x_11 - 1)) fun σ_12 r_13 =>
        if r_13 = 0 then (
          some (σ_12, (-13)))
        else (
          chk a0 6 <| nmv (σ_12.2.1 41 a0.toNatClampNeg) fun x_16 =>
          obi (fM_kept N σ_12 x_16 a2) fun σ_17 r_18 =>
          chk (((60 : Int32) * a0) + a1) 360 <| nmv (mSl σ_17 (((60 : Int32) * a0) + a1).toNatClampNeg r_18) fun σ_20 =>
          some (σ_20, 1)))))
theorem bM_put_e {N : Nat} (C0 : mCx p s m args meth c cX2_put 5 (some .int) L A) (hRo : 2 ≤ R.frames ∧ 43 ≤ R.locals) {σ' : mS} {r : Int32} (σ : mS) (a0 : Int32) (a1 : Int32) (a2 : Int64) (H : Heap) (locs : List Loc) (ls : Array Slot) (hG : mG A L s σ H locs) (hl : lv_has ls 5 [(0, .ref L.1), (1, .int a0), (2, .int a1), (3, .long a2)]) (hF : fM_put N σ a0 a1 a2 = some (σ', r)) : W p l e R s m args below meth c H locs 0 0 (mZ below L A s args σ' (some (.int r))) (F0 m 0 ls []) := by
  have hx := C0.1
  have hb := C0.2.1
  unfold fM_put at hF
  refine lv_iload_n hx hb dX2_put_0 rfl (lv_at hl 1 rfl) ?_
  obtain ⟨σ_1, r_2, e_3, hF⟩ := obi_of hF
  refine m_cSi (As := [.int a0]) (rest := []) C0 hG (mtM_isShelf l e_3) (lw_S q1762 q1763 q102 q1764) yd_X2_isShelf ⟨by omega, by omega⟩ rfl rfl hl.1 (Nat.le_of_ble_eq_true rfl) dX2_put_1 (fun H locs hG => ?_)
  refine lv_if_ne (tgt := 9) hx hb dX2_put_4 (by decide) (fun c_4 => ?_) (fun c_4 => ?_)
  · have hF := ifn hF c_4
    refine lv_aload_n hx hb dX2_put_9 rfl (lv_at hl 0 rfl) ?_
    refine m_geta C0 hG 41 (by decide) rfl q1619 dX2_put_10 ?_
    refine lv_iload_n hx hb dX2_put_13 rfl (lv_at hl 1 rfl) ?_
    refine m_ld C0 hG 41 ⟨by decide, rfl, by decide⟩ dX2_put_14 hF (fun x_5 hF => ?_)
    refine lv_iconst (v := (-1)) hx hb dX2_put_15 (by decide) ?_
    refine lv_icmp_ne (tgt := 22) hx hb dX2_put_16 (by decide) (fun c_6 => ?_) (fun c_6 => ?_)
    · have hF := ifn hF c_6
      refine lv_aload_n hx hb dX2_put_22 rfl (lv_at hl 0 rfl) ?_
      refine lv_iload_n hx hb dX2_put_23 rfl (lv_at hl 1 rfl) ?_
      obtain ⟨σ_7, r_8, e_9, hF⟩ := obi_of hF
      refine m_cVi (As := [.int a0]) (rest := []) C0 hG (mtM_isRow l e_9) (lw_V q2113 q2115 qs98 q102 q2116) yd_X2_isRow ⟨by omega, by omega⟩ rfl rfl hl.1 (Nat.le_of_ble_eq_true rfl) dX2_put_24 (fun H locs hG => ?_)
      refine lv_if_ne (tgt := 33) hx hb dX2_put_27 (by decide) (fun c_10 => ?_) (fun c_10 => ?_)
      · have hF := ifn hF c_10
        refine lv_iload_n hx hb dX2_put_33 rfl (lv_at hl 2 rfl) ?_
        refine lv_iconst (v := 0) hx hb dX2_put_34 (by decide) ?_
        refine lv_aload_n hx hb dX2_put_35 rfl (lv_at hl 0 rfl) ?_
        refine m_geta C0 hG 42 (by decide) rfl q1620 dX2_put_36 ?_
        refine lv_iload_n hx hb dX2_put_39 rfl (lv_at hl 1 rfl) ?_
        refine m_ld C0 hG 42 ⟨by decide, rfl, by decide⟩ dX2_put_40 hF (fun x_11 hF => ?_)
        refine lv_iconst (v := 1) hx hb dX2_put_41 (by decide) ?_
        refine lv_isub hx hb dX2_put_42 ?_
        obtain ⟨σ_12, r_13, e_14, hF⟩ := obi_of hF
        refine m_cSi (As := [.int a1, .int 0, .int (x_11 - 1)]) (rest := []) C0 hG (mtM_within l e_14) (lw_S q1751 q1752 q102 q1753) yd_X2_within ⟨by omega, by omega⟩ rfl rfl hl.1 (Nat.le_of_ble_eq_true rfl) dX2_put_43 (fun H locs hG => ?_)
        refine lv_if_ne (tgt := 52) hx hb dX2_put_46 (by decide) (fun c_15 => ?_) (fun c_15 => ?_)
        · have hF := ifn hF c_15
          refine lv_aload_n hx hb dX2_put_52 rfl (lv_at hl 0 rfl) ?_
          refine m_geta C0 hG 43 (by decide) rfl q1621 dX2_put_53 ?_
          refine lv_bipush (v := 60) hx hb dX2_put_56 (by decide) ?_
          refine lv_iload_n hx hb dX2_put_58 rfl (lv_at hl 1 rfl) ?_
          refine lv_imul hx hb dX2_put_59 ?_
          refine lv_iload_n hx hb dX2_put_60 rfl (lv_at hl 2 rfl) ?_
          refine lv_iadd hx hb dX2_put_61 ?_
          refine lv_aload_n hx hb dX2_put_62 rfl (lv_at hl 0 rfl) ?_
          refine m_geta C0 hG 41 (by decide) rfl q1619 dX2_put_63 ?_
          refine lv_iload_n hx hb dX2_put_66 rfl (lv_at hl 1 rfl) ?_
          refine m_ld C0 hG 41 ⟨by decide, rfl, by decide⟩ dX2_put_67 hF (fun x_16 hF => ?_)
          refine lv_lload_n hx hb dX2_put_68 rfl (lv_at hl 3 rfl) ?_
          obtain ⟨σ_17, r_18, e_19, hF⟩ := obi_of hF
          refine m_cSl (As := [.int x_16, .long a2]) (rest := [.int (((60 : Int32) * a0) + a1), .ref (L.2.1 43)]) C0 hG (mtM_kept l e_19) (lw_S q2117 q2118 q102 q2119) yd_X2_kept ⟨by omega, by omega⟩ rfl rfl hl.1 (Nat.le_of_ble_eq_true rfl) dX2_put_69 (fun H locs hG => ?_)
          refine m_stl C0 hG dX2_put_72 hF (fun σ_20 H locs hG hF => ?_)
          refine lv_iconst (v := 1) hx hb dX2_put_73 (by decide) ?_
          exact m_iret C0 hG dX2_put_74 hF
        · have hF := ifp hF c_15
          refine lv_bipush (v := (-13)) hx hb dX2_put_49 (by decide) ?_
          exact m_iret C0 hG dX2_put_51 hF
      · have hF := ifp hF c_10
        refine lv_bipush (v := (-12)) hx hb dX2_put_30 (by decide) ?_
        exact m_iret C0 hG dX2_put_32 hF
    · have hF := ifp hF c_6
      refine lv_bipush (v := (-11)) hx hb dX2_put_19 (by decide) ?_
      exact m_iret C0 hG dX2_put_21 hF
  · have hF := ifp hF c_4
    refine lv_iconst (v := (-1)) hx hb dX2_put_7 (by decide) ?_
    exact m_iret C0 hG dX2_put_8 hF
theorem mtM_put (l : Launch) {N : Nat} {L : mL} {σ σ' : mS} {r : Int32} {a0 : Int32} {a1 : Int32} {a2 : Int64} (hF : fM_put N σ a0 a1 a2 = some (σ', r)) : mMet l yX2_put cX2_put 5 (some .int) (2) (43) [.ref L.1, .int a0, .int a1, .long a2] L σ (some (.int r)) σ' := by
  refine m_head (by decide) rfl ?_
  intro p e s m below meth c A C0 hG
  have hl := lv_entry ([.ref L.1, .int a0, .int a1, .long a2]) (n := 5) (Nat.le_of_ble_eq_true rfl)
  rw [lg_entry_eq]
  generalize (lg_sl ([.ref L.1, .int a0, .int a1, .long a2]) ++ List.replicate (5 - (lg_sl ([.ref L.1, .int a0, .int a1, .long a2])).length) Slot.unset).toArray = ls at hl ⊢
  have hl : lv_has ls 5 [(0, .ref L.1), (1, .int a0), (2, .int a1), (3, .long a2)] := hl
  exact bM_put_e C0 ⟨Nat.le_refl _, Nat.le_refl _⟩ _ _ _ _ _ [] ls hG hl hF
def fM_element (N : Nat) (σ : mS) (a0 : Int32) (a1 : Int32) : Option (mS × Int64) :=
  obi (fM_isShelf N σ a0) fun σ_1 r_2 =>
  if r_2 = 0 then (
    some (σ_1, (-9223372036854775808)))
  else (
    obi (fM_isRow N σ_1 a0) fun σ_5 r_6 =>
    if r_6 = 0 then (
      some (σ_5, (-9223372036854775808)))
    else (
      chk a0 6 <| nmv (σ_5.2.1 42 a0.toNatClampNeg) fun x_9 =>
      obi (fM_within N σ_5 a1 0 (x_9 - 1)) fun σ_10 r_11 =>
      if r_11 = 0 then (
        some (σ_10, (-9223372036854775808)))
      else (
        nmv (((60 : Int32) * a0) + a1) fun x_14 =>
        chk x_14 360 <| nmv (σ_10.2.2 x_14.toNatClampNeg) fun x_15 =>
        some (σ_10, x_15))))
theorem bM_element_e {N : Nat} (C0 : mCx p s m args meth c cX2_element 3 (some .long) L A) (hRo : 2 ≤ R.frames ∧ 43 ≤ R.locals) {σ' : mS} {r : Int64} (σ : mS) (a0 : Int32) (a1 : Int32) (H : Heap) (locs : List Loc) (ls : Array Slot) (hG : mG A L s σ H locs) (hl : lv_has ls 3 [(0, .ref L.1), (1, .int a0), (2, .int a1)]) (hF : fM_element N σ a0 a1 = some (σ', r)) : W p l e R s m args below meth c H locs 0 0 (mZ below L A s args σ' (some (.long r))) (F0 m 0 ls []) := by
  have hx := C0.1
  have hb := C0.2.1
  unfold fM_element at hF
  refine lv_iload_n hx hb dX2_element_0 rfl (lv_at hl 1 rfl) ?_
  obtain ⟨σ_1, r_2, e_3, hF⟩ := obi_of hF
  refine m_cSi (As := [.int a0]) (rest := []) C0 hG (mtM_isShelf l e_3) (lw_S q1762 q1763 q102 q1764) yd_X2_isShelf ⟨by omega, by omega⟩ rfl rfl hl.1 (Nat.le_of_ble_eq_true rfl) dX2_element_1 (fun H locs hG => ?_)
  refine lv_if_eq (tgt := 45) hx hb dX2_element_4 (by decide) (fun c_4 => ?_) (fun c_4 => ?_)
  · have hF := ifp hF c_4
    refine lv_ldc2 (v := (-9223372036854775808)) hx hb C0.2.2.2.1 (C0.2.2.2.2.1 _ q2124) dX2_element_45 ?_
    exact m_lret C0 hG dX2_element_48 hF
  · have hF := ifn hF c_4
    refine lv_aload_n hx hb dX2_element_7 rfl (lv_at hl 0 rfl) ?_
    refine lv_iload_n hx hb dX2_element_8 rfl (lv_at hl 1 rfl) ?_
    obtain ⟨σ_5, r_6, e_7, hF⟩ := obi_of hF
    refine m_cVi (As := [.int a0]) (rest := []) C0 hG (mtM_isRow l e_7) (lw_V q2113 q2115 qs98 q102 q2116) yd_X2_isRow ⟨by omega, by omega⟩ rfl rfl hl.1 (Nat.le_of_ble_eq_true rfl) dX2_element_9 (fun H locs hG => ?_)
    refine lv_if_eq (tgt := 45) hx hb dX2_element_12 (by decide) (fun c_8 => ?_) (fun c_8 => ?_)
    · have hF := ifp hF c_8
      refine lv_ldc2 (v := (-9223372036854775808)) hx hb C0.2.2.2.1 (C0.2.2.2.2.1 _ q2124) dX2_element_45 ?_
      exact m_lret C0 hG dX2_element_48 hF
    · have hF := ifn hF c_8
      refine lv_iload_n hx hb dX2_element_15 rfl (lv_at hl 2 rfl) ?_
      refine lv_iconst (v := 0) hx hb dX2_element_16 (by decide) ?_
      refine lv_aload_n hx hb dX2_element_17 rfl (lv_at hl 0 rfl) ?_
      refine m_geta C0 hG 42 (by decide) rfl q1620 dX2_element_18 ?_
      refine lv_iload_n hx hb dX2_element_21 rfl (lv_at hl 1 rfl) ?_
      refine m_ld C0 hG 42 ⟨by decide, rfl, by decide⟩ dX2_element_22 hF (fun x_9 hF => ?_)
      refine lv_iconst (v := 1) hx hb dX2_element_23 (by decide) ?_
      refine lv_isub hx hb dX2_element_24 ?_
      obtain ⟨σ_10, r_11, e_12, hF⟩ := obi_of hF
      refine m_cSi (As := [.int a1, .int 0, .int (x_9 - 1)]) (rest := []) C0 hG (mtM_within l e_12) (lw_S q1751 q1752 q102 q1753) yd_X2_within ⟨by omega, by omega⟩ rfl rfl hl.1 (Nat.le_of_ble_eq_true rfl) dX2_element_25 (fun H locs hG => ?_)
      refine lv_if_eq (tgt := 45) hx hb dX2_element_28 (by decide) (fun c_13 => ?_) (fun c_13 => ?_)
      · have hF := ifp hF c_13
        refine lv_ldc2 (v := (-9223372036854775808)) hx hb C0.2.2.2.1 (C0.2.2.2.2.1 _ q2124) dX2_element_45 ?_
        exact m_lret C0 hG dX2_element_48 hF
      · have hF := ifn hF c_13
        refine lv_aload_n hx hb dX2_element_31 rfl (lv_at hl 0 rfl) ?_
        refine m_geta C0 hG 43 (by decide) rfl q1621 dX2_element_32 ?_
        refine lv_bipush (v := 60) hx hb dX2_element_35 (by decide) ?_
        refine lv_iload_n hx hb dX2_element_37 rfl (lv_at hl 1 rfl) ?_
        refine lv_imul hx hb dX2_element_38 ?_
        refine lv_iload_n hx hb dX2_element_39 rfl (lv_at hl 2 rfl) ?_
        refine lv_iadd hx hb dX2_element_40 ?_
        refine w_nm hF (fun x_14 hF => ?_)
        refine m_ldl C0 hG dX2_element_41 hF (fun x_15 hF => ?_)
        refine lv_goto (tgt := 48) hx hb dX2_element_42 (by decide) ?_
        exact m_lret C0 hG dX2_element_48 hF
theorem mtM_element (l : Launch) {N : Nat} {L : mL} {σ σ' : mS} {r : Int64} {a0 : Int32} {a1 : Int32} (hF : fM_element N σ a0 a1 = some (σ', r)) : mMet l yX2_element cX2_element 3 (some .long) (2) (43) [.ref L.1, .int a0, .int a1] L σ (some (.long r)) σ' := by
  refine m_head (by decide) rfl ?_
  intro p e s m below meth c A C0 hG
  have hl := lv_entry ([.ref L.1, .int a0, .int a1]) (n := 3) (Nat.le_of_ble_eq_true rfl)
  rw [lg_entry_eq]
  generalize (lg_sl ([.ref L.1, .int a0, .int a1]) ++ List.replicate (3 - (lg_sl ([.ref L.1, .int a0, .int a1])).length) Slot.unset).toArray = ls at hl ⊢
  have hl : lv_has ls 3 [(0, .ref L.1), (1, .int a0), (2, .int a1)] := hl
  exact bM_element_e C0 ⟨Nat.le_refl _, Nat.le_refl _⟩ _ _ _ _ [] ls hG hl hF
end MWALK13
