section MWALK1
variable {p : Program} {l : Launch} {e : Env} {R : Room} {s : State} {m : MethodId} {args : Array Value} {below : List Frame} {meth : Method} {c : Code} {A : Nat → Prop}
variable {L : mL}
def fM_get (N : Nat) (σ : mS) (a0 : Int32) (a1 : Int32) : Option (mS × Int32) :=
  if a1 = 0 then (
    chk a0 8 <| nmv (σ.2.1 1 a0.toNatClampNeg) fun x_2 =>
    some (σ, x_2))
  else (
  if a1 = 1 then (
    chk a0 8 <| nmv (σ.2.1 2 a0.toNatClampNeg) fun x_4 =>
    some (σ, x_4))
  else (
  if a1 = 2 then (
    chk a0 8 <| nmv (σ.2.1 3 a0.toNatClampNeg) fun x_6 =>
    some (σ, x_6))
  else (
  if a1 = 3 then (
    chk a0 8 <| nmv (σ.2.1 4 a0.toNatClampNeg) fun x_8 =>
    some (σ, x_8))
  else (
  if a1 = 4 then (
    chk a0 8 <| nmv (σ.2.1 5 a0.toNatClampNeg) fun x_10 =>
    some (σ, x_10))
  else (
  if a1 = 5 then (
    chk a0 8 <| nmv (σ.2.1 6 a0.toNatClampNeg) fun x_12 =>
    some (σ, x_12))
  else (
    nmv (a1 - 6) fun x_13 =>
    chk x_13 3 <| nmv (σ.2.1 7 x_13.toNatClampNeg) fun x_14 =>
    some (σ, x_14)))))))
theorem bM_get_e {N : Nat} (C0 : mCx p s m args meth c cX2_get 3 (some .int) L A) (hRo : 0 ≤ R.frames ∧ 0 ≤ R.locals) {σ' : mS} {r : Int32} (σ : mS) (a0 : Int32) (a1 : Int32) (H : Heap) (locs : List Loc) (ls : Array Slot) (hG : mG A L s σ H locs) (hl : lv_has ls 3 [(0, .ref L.1), (1, .int a0), (2, .int a1)]) (hF : fM_get N σ a0 a1 = some (σ', r)) : W p l e R s m args below meth c H locs 0 0 (mZ below L A s args σ' (some (.int r))) (F0 m 0 ls []) := by
  have hx := C0.1
  have hb := C0.2.1
  unfold fM_get at hF
  refine lv_iload_n hx hb dX2_get_0 rfl (lv_at hl 2 rfl) ?_
  by_cases c_1 : a1 = 0
  · have hF := ifp hF c_1
    refine lv_tableIn (off := 39) (tgt := 40) hx hb dX2_get_1 (by rw [c_1]; decide) (by rw [c_1]; decide) (by rw [c_1]; rfl) (by decide) ?_
    refine lv_aload_n hx hb dX2_get_40 rfl (lv_at hl 0 rfl) ?_
    refine m_geta C0 hG 1 (by decide) rfl q1579 dX2_get_41 ?_
    refine lv_iload_n hx hb dX2_get_44 rfl (lv_at hl 1 rfl) ?_
    refine m_ld C0 hG 1 ⟨by decide, rfl, by decide⟩ dX2_get_45 hF (fun x_2 hF => ?_)
    exact m_iret C0 hG dX2_get_46 hF
  have hF := ifn hF c_1
  by_cases c_3 : a1 = 1
  · have hF := ifp hF c_3
    refine lv_tableIn (off := 46) (tgt := 47) hx hb dX2_get_1 (by rw [c_3]; decide) (by rw [c_3]; decide) (by rw [c_3]; rfl) (by decide) ?_
    refine lv_aload_n hx hb dX2_get_47 rfl (lv_at hl 0 rfl) ?_
    refine m_geta C0 hG 2 (by decide) rfl q1580 dX2_get_48 ?_
    refine lv_iload_n hx hb dX2_get_51 rfl (lv_at hl 1 rfl) ?_
    refine m_ld C0 hG 2 ⟨by decide, rfl, by decide⟩ dX2_get_52 hF (fun x_4 hF => ?_)
    exact m_iret C0 hG dX2_get_53 hF
  have hF := ifn hF c_3
  by_cases c_5 : a1 = 2
  · have hF := ifp hF c_5
    refine lv_tableIn (off := 53) (tgt := 54) hx hb dX2_get_1 (by rw [c_5]; decide) (by rw [c_5]; decide) (by rw [c_5]; rfl) (by decide) ?_
    refine lv_aload_n hx hb dX2_get_54 rfl (lv_at hl 0 rfl) ?_
    refine m_geta C0 hG 3 (by decide) rfl q1581 dX2_get_55 ?_
    refine lv_iload_n hx hb dX2_get_58 rfl (lv_at hl 1 rfl) ?_
    refine m_ld C0 hG 3 ⟨by decide, rfl, by decide⟩ dX2_get_59 hF (fun x_6 hF => ?_)
    exact m_iret C0 hG dX2_get_60 hF
  have hF := ifn hF c_5
  by_cases c_7 : a1 = 3
  · have hF := ifp hF c_7
    refine lv_tableIn (off := 60) (tgt := 61) hx hb dX2_get_1 (by rw [c_7]; decide) (by rw [c_7]; decide) (by rw [c_7]; rfl) (by decide) ?_
    refine lv_aload_n hx hb dX2_get_61 rfl (lv_at hl 0 rfl) ?_
    refine m_geta C0 hG 4 (by decide) rfl q1582 dX2_get_62 ?_
    refine lv_iload_n hx hb dX2_get_65 rfl (lv_at hl 1 rfl) ?_
    refine m_ld C0 hG 4 ⟨by decide, rfl, by decide⟩ dX2_get_66 hF (fun x_8 hF => ?_)
    exact m_iret C0 hG dX2_get_67 hF
  have hF := ifn hF c_7
  by_cases c_9 : a1 = 4
  · have hF := ifp hF c_9
    refine lv_tableIn (off := 67) (tgt := 68) hx hb dX2_get_1 (by rw [c_9]; decide) (by rw [c_9]; decide) (by rw [c_9]; rfl) (by decide) ?_
    refine lv_aload_n hx hb dX2_get_68 rfl (lv_at hl 0 rfl) ?_
    refine m_geta C0 hG 5 (by decide) rfl q1583 dX2_get_69 ?_
    refine lv_iload_n hx hb dX2_get_72 rfl (lv_at hl 1 rfl) ?_
    refine m_ld C0 hG 5 ⟨by decide, rfl, by decide⟩ dX2_get_73 hF (fun x_10 hF => ?_)
    exact m_iret C0 hG dX2_get_74 hF
  have hF := ifn hF c_9
  by_cases c_11 : a1 = 5
  · have hF := ifp hF c_11
    refine lv_tableIn (off := 74) (tgt := 75) hx hb dX2_get_1 (by rw [c_11]; decide) (by rw [c_11]; decide) (by rw [c_11]; rfl) (by decide) ?_
    refine lv_aload_n hx hb dX2_get_75 rfl (lv_at hl 0 rfl) ?_
    refine m_geta C0 hG 6 (by decide) rfl q1584 dX2_get_76 ?_
    refine lv_iload_n hx hb dX2_get_79 rfl (lv_at hl 1 rfl) ?_
    refine m_ld C0 hG 6 ⟨by decide, rfl, by decide⟩ dX2_get_80 hF (fun x_12 hF => ?_)
    exact m_iret C0 hG dX2_get_81 hF
  have hF := ifn hF c_11
  refine lv_tableOut (tgt := 82) hx hb dX2_get_1 (sw_out (fun q_ => by
      have zc_1 := lv_neT c_1 (show ((0 : Int32)).toInt = 0 from by decide)
      have zc_3 := lv_neT c_3 (show ((1 : Int32)).toInt = 1 from by decide)
      have zc_5 := lv_neT c_5 (show ((2 : Int32)).toInt = 2 from by decide)
      have zc_7 := lv_neT c_7 (show ((3 : Int32)).toInt = 3 from by decide)
      have zc_9 := lv_neT c_9 (show ((4 : Int32)).toInt = 4 from by decide)
      have zc_11 := lv_neT c_11 (show ((5 : Int32)).toInt = 5 from by decide)
      omega)) (by decide) ?_
  refine lv_aload_n hx hb dX2_get_82 rfl (lv_at hl 0 rfl) ?_
  refine m_geta C0 hG 7 (by decide) rfl q1585 dX2_get_83 ?_
  refine lv_iload_n hx hb dX2_get_86 rfl (lv_at hl 2 rfl) ?_
  refine lv_bipush (v := 6) hx hb dX2_get_87 (by decide) ?_
  refine lv_isub hx hb dX2_get_89 ?_
  refine w_nm hF (fun x_13 hF => ?_)
  refine m_ld C0 hG 7 ⟨by decide, rfl, by decide⟩ dX2_get_90 hF (fun x_14 hF => ?_)
  exact m_iret C0 hG dX2_get_91 hF
theorem mtM_get (l : Launch) {N : Nat} {L : mL} {σ σ' : mS} {r : Int32} {a0 : Int32} {a1 : Int32} (hF : fM_get N σ a0 a1 = some (σ', r)) : mMet l yX2_get cX2_get 3 (some .int) (0) (0) [.ref L.1, .int a0, .int a1] L σ (some (.int r)) σ' := by
  refine m_head (by decide) rfl ?_
  intro p e s m below meth c A C0 hG
  have hl := lv_entry ([.ref L.1, .int a0, .int a1]) (n := 3) (Nat.le_of_ble_eq_true rfl)
  rw [lg_entry_eq]
  generalize (lg_sl ([.ref L.1, .int a0, .int a1]) ++ List.replicate (3 - (lg_sl ([.ref L.1, .int a0, .int a1])).length) Slot.unset).toArray = ls at hl ⊢
  have hl : lv_has ls 3 [(0, .ref L.1), (1, .int a0), (2, .int a1)] := hl
  exact bM_get_e C0 ⟨Nat.le_refl _, Nat.le_refl _⟩ _ _ _ _ [] ls hG hl hF
def fM_becomes (N : Nat) (σ : mS) (a0 : Int32) (a1 : Int32) (a2 : Int32) : Option (mS × Unit) :=
  if a1 = 0 then (
    chk a0 8 <| nmv (mSj σ 1 a0.toNatClampNeg a2) fun σ_2 =>
    some (σ_2, ()))
  else (
  if a1 = 1 then (
    chk a0 8 <| nmv (mSj σ 2 a0.toNatClampNeg a2) fun σ_4 =>
    some (σ_4, ()))
  else (
  if a1 = 2 then (
    chk a0 8 <| nmv (mSj σ 3 a0.toNatClampNeg a2) fun σ_6 =>
    some (σ_6, ()))
  else (
  if a1 = 3 then (
    chk a0 8 <| nmv (mSj σ 4 a0.toNatClampNeg a2) fun σ_8 =>
    some (σ_8, ()))
  else (
  if a1 = 4 then (
    chk a0 8 <| nmv (mSj σ 5 a0.toNatClampNeg a2) fun σ_10 =>
    some (σ_10, ()))
  else (
  if a1 = 5 then (
    chk a0 8 <| nmv (mSj σ 6 a0.toNatClampNeg a2) fun σ_12 =>
    some (σ_12, ()))
  else (
    chk (a1 - 6) 3 <| nmv (mSj σ 7 (a1 - 6).toNatClampNeg a2) fun σ_13 =>
    some (σ_13, ())))))))
theorem bM_becomes_e {N : Nat} (C0 : mCx p s m args meth c cX2_becomes 4 none L A) (hRo : 0 ≤ R.frames ∧ 0 ≤ R.locals) {σ' : mS} {r : Unit} (σ : mS) (a0 : Int32) (a1 : Int32) (a2 : Int32) (H : Heap) (locs : List Loc) (ls : Array Slot) (hG : mG A L s σ H locs) (hl : lv_has ls 4 [(0, .ref L.1), (1, .int a0), (2, .int a1), (3, .int a2)]) (hF : fM_becomes N σ a0 a1 a2 = some (σ', r)) : W p l e R s m args below meth c H locs 0 0 (mZ below L A s args σ' none) (F0 m 0 ls []) := by
  have hx := C0.1
  have hb := C0.2.1
  unfold fM_becomes at hF
  refine lv_iload_n hx hb dX2_becomes_0 rfl (lv_at hl 2 rfl) ?_
  by_cases c_1 : a1 = 0
  · have hF := ifp hF c_1
    refine lv_tableIn (off := 39) (tgt := 40) hx hb dX2_becomes_1 (by rw [c_1]; decide) (by rw [c_1]; decide) (by rw [c_1]; rfl) (by decide) ?_
    refine lv_aload_n hx hb dX2_becomes_40 rfl (lv_at hl 0 rfl) ?_
    refine m_geta C0 hG 1 (by decide) rfl q1579 dX2_becomes_41 ?_
    refine lv_iload_n hx hb dX2_becomes_44 rfl (lv_at hl 1 rfl) ?_
    refine lv_iload_n hx hb dX2_becomes_45 rfl (lv_at hl 3 rfl) ?_
    refine m_st C0 hG 1 ⟨by decide, rfl, by decide⟩ dX2_becomes_46 hF (fun σ_2 H locs hG hF => ?_)
    exact m_vret C0 hG dX2_becomes_47 hF
  have hF := ifn hF c_1
  by_cases c_3 : a1 = 1
  · have hF := ifp hF c_3
    refine lv_tableIn (off := 47) (tgt := 48) hx hb dX2_becomes_1 (by rw [c_3]; decide) (by rw [c_3]; decide) (by rw [c_3]; rfl) (by decide) ?_
    refine lv_aload_n hx hb dX2_becomes_48 rfl (lv_at hl 0 rfl) ?_
    refine m_geta C0 hG 2 (by decide) rfl q1580 dX2_becomes_49 ?_
    refine lv_iload_n hx hb dX2_becomes_52 rfl (lv_at hl 1 rfl) ?_
    refine lv_iload_n hx hb dX2_becomes_53 rfl (lv_at hl 3 rfl) ?_
    refine m_st C0 hG 2 ⟨by decide, rfl, by decide⟩ dX2_becomes_54 hF (fun σ_4 H locs hG hF => ?_)
    exact m_vret C0 hG dX2_becomes_55 hF
  have hF := ifn hF c_3
  by_cases c_5 : a1 = 2
  · have hF := ifp hF c_5
    refine lv_tableIn (off := 55) (tgt := 56) hx hb dX2_becomes_1 (by rw [c_5]; decide) (by rw [c_5]; decide) (by rw [c_5]; rfl) (by decide) ?_
    refine lv_aload_n hx hb dX2_becomes_56 rfl (lv_at hl 0 rfl) ?_
    refine m_geta C0 hG 3 (by decide) rfl q1581 dX2_becomes_57 ?_
    refine lv_iload_n hx hb dX2_becomes_60 rfl (lv_at hl 1 rfl) ?_
    refine lv_iload_n hx hb dX2_becomes_61 rfl (lv_at hl 3 rfl) ?_
    refine m_st C0 hG 3 ⟨by decide, rfl, by decide⟩ dX2_becomes_62 hF (fun σ_6 H locs hG hF => ?_)
    exact m_vret C0 hG dX2_becomes_63 hF
  have hF := ifn hF c_5
  by_cases c_7 : a1 = 3
  · have hF := ifp hF c_7
    refine lv_tableIn (off := 63) (tgt := 64) hx hb dX2_becomes_1 (by rw [c_7]; decide) (by rw [c_7]; decide) (by rw [c_7]; rfl) (by decide) ?_
    refine lv_aload_n hx hb dX2_becomes_64 rfl (lv_at hl 0 rfl) ?_
    refine m_geta C0 hG 4 (by decide) rfl q1582 dX2_becomes_65 ?_
    refine lv_iload_n hx hb dX2_becomes_68 rfl (lv_at hl 1 rfl) ?_
    refine lv_iload_n hx hb dX2_becomes_69 rfl (lv_at hl 3 rfl) ?_
    refine m_st C0 hG 4 ⟨by decide, rfl, by decide⟩ dX2_becomes_70 hF (fun σ_8 H locs hG hF => ?_)
    exact m_vret C0 hG dX2_becomes_71 hF
  have hF := ifn hF c_7
  by_cases c_9 : a1 = 4
  · have hF := ifp hF c_9
    refine lv_tableIn (off := 71) (tgt := 72) hx hb dX2_becomes_1 (by rw [c_9]; decide) (by rw [c_9]; decide) (by rw [c_9]; rfl) (by decide) ?_
    refine lv_aload_n hx hb dX2_becomes_72 rfl (lv_at hl 0 rfl) ?_
    refine m_geta C0 hG 5 (by decide) rfl q1583 dX2_becomes_73 ?_
    refine lv_iload_n hx hb dX2_becomes_76 rfl (lv_at hl 1 rfl) ?_
    refine lv_iload_n hx hb dX2_becomes_77 rfl (lv_at hl 3 rfl) ?_
    refine m_st C0 hG 5 ⟨by decide, rfl, by decide⟩ dX2_becomes_78 hF (fun σ_10 H locs hG hF => ?_)
    exact m_vret C0 hG dX2_becomes_79 hF
  have hF := ifn hF c_9
  by_cases c_11 : a1 = 5
  · have hF := ifp hF c_11
    refine lv_tableIn (off := 79) (tgt := 80) hx hb dX2_becomes_1 (by rw [c_11]; decide) (by rw [c_11]; decide) (by rw [c_11]; rfl) (by decide) ?_
    refine lv_aload_n hx hb dX2_becomes_80 rfl (lv_at hl 0 rfl) ?_
    refine m_geta C0 hG 6 (by decide) rfl q1584 dX2_becomes_81 ?_
    refine lv_iload_n hx hb dX2_becomes_84 rfl (lv_at hl 1 rfl) ?_
    refine lv_iload_n hx hb dX2_becomes_85 rfl (lv_at hl 3 rfl) ?_
    refine m_st C0 hG 6 ⟨by decide, rfl, by decide⟩ dX2_becomes_86 hF (fun σ_12 H locs hG hF => ?_)
    exact m_vret C0 hG dX2_becomes_87 hF
  have hF := ifn hF c_11
  refine lv_tableOut (tgt := 88) hx hb dX2_becomes_1 (sw_out (fun q_ => by
      have zc_1 := lv_neT c_1 (show ((0 : Int32)).toInt = 0 from by decide)
      have zc_3 := lv_neT c_3 (show ((1 : Int32)).toInt = 1 from by decide)
      have zc_5 := lv_neT c_5 (show ((2 : Int32)).toInt = 2 from by decide)
      have zc_7 := lv_neT c_7 (show ((3 : Int32)).toInt = 3 from by decide)
      have zc_9 := lv_neT c_9 (show ((4 : Int32)).toInt = 4 from by decide)
      have zc_11 := lv_neT c_11 (show ((5 : Int32)).toInt = 5 from by decide)
      omega)) (by decide) ?_
  refine lv_aload_n hx hb dX2_becomes_88 rfl (lv_at hl 0 rfl) ?_
  refine m_geta C0 hG 7 (by decide) rfl q1585 dX2_becomes_89 ?_
  refine lv_iload_n hx hb dX2_becomes_92 rfl (lv_at hl 2 rfl) ?_
  refine lv_bipush (v := 6) hx hb dX2_becomes_93 (by decide) ?_
  refine lv_isub hx hb dX2_becomes_95 ?_
  refine lv_iload_n hx hb dX2_becomes_96 rfl (lv_at hl 3 rfl) ?_
  refine m_st C0 hG 7 ⟨by decide, rfl, by decide⟩ dX2_becomes_97 hF (fun σ_13 H locs hG hF => ?_)
  exact m_vret C0 hG dX2_becomes_98 hF
theorem mtM_becomes (l : Launch) {N : Nat} {L : mL} {σ σ' : mS} {r : Unit} {a0 : Int32} {a1 : Int32} {a2 : Int32} (hF : fM_becomes N σ a0 a1 a2 = some (σ', r)) : mMet l yX2_becomes cX2_becomes 4 none (0) (0) [.ref L.1, .int a0, .int a1, .int a2] L σ none σ' := by
  refine m_head (by decide) rfl ?_
  intro p e s m below meth c A C0 hG
  have hl := lv_entry ([.ref L.1, .int a0, .int a1, .int a2]) (n := 4) (Nat.le_of_ble_eq_true rfl)
  rw [lg_entry_eq]
  generalize (lg_sl ([.ref L.1, .int a0, .int a1, .int a2]) ++ List.replicate (4 - (lg_sl ([.ref L.1, .int a0, .int a1, .int a2])).length) Slot.unset).toArray = ls at hl ⊢
  have hl : lv_has ls 4 [(0, .ref L.1), (1, .int a0), (2, .int a1), (3, .int a2)] := hl
  exact bM_becomes_e C0 ⟨Nat.le_refl _, Nat.le_refl _⟩ _ _ _ _ _ [] ls hG hl hF
def fM_mend_b96 (N : Nat) (σ : mS) (x1 : Int32) (x2 : Int32) (x3 : Int32) (x4 : Int32) : Option (mS × Int32) :=
  nmv (σ.1 35) fun x_18 =>
  chk ((4 : Int32) * x_18) 160 <| nmv (mSj σ 36 ((4 : Int32) * x_18).toNatClampNeg x1) fun σ_19 =>
  nmv (σ_19.1 35) fun x_20 =>
  chk (((4 : Int32) * x_20) + 1) 160 <| nmv (mSj σ_19 36 (((4 : Int32) * x_20) + 1).toNatClampNeg x2) fun σ_21 =>
  nmv (σ_21.1 35) fun x_22 =>
  chk (((4 : Int32) * x_22) + 2) 160 <| nmv (mSj σ_21 36 (((4 : Int32) * x_22) + 2).toNatClampNeg x4) fun σ_23 =>
  nmv (σ_23.1 35) fun x_24 =>
  chk (((4 : Int32) * x_24) + 3) 160 <| nmv (mSj σ_23 36 (((4 : Int32) * x_24) + 3).toNatClampNeg x3) fun σ_25 =>
  nmv (σ_25.1 35) fun x_26 =>
  nmv (mSi σ_25 35 (x_26 + 1)) fun σ_27 =>
  nmv (σ_27.1 35) fun x_28 =>
  nmv (mSi σ_27 34 x_28) fun σ_29 =>
  some (σ_29, x4)
def fM_mend_b56 (N : Nat) : Nat → mS → Int32 → Int32 → Int32 → Int32 → Int32 → Option (mS × Int32)
  | 0, _, _, _, _, _, _ => none
  | n + 1, σ, x1, x2, x3, x4, x5 =>
    if 156 ≤ x5 then (
      nmv (σ.1 35) fun x_31 =>
      nmv (mSi σ 35 (x_31 - 1)) fun σ_32 =>
      fM_mend_b96 N σ_32 x1 x2 x3 x4)
    else (
      nmv (x5 + 4) fun x_33 =>
      chk x_33 160 <| nmv (σ.2.1 36 x_33.toNatClampNeg) fun x_34 =>
      chk x5 160 <| nmv (mSj σ 36 x5.toNatClampNeg x_34) fun σ_35 =>
      nmv (x5 + 1) fun x_36 =>
      (fM_mend_b56 N n) σ_35 x1 x2 x3 x4 x_36)
def fM_mend (N : Nat) (σ : mS) (a0 : Int32) (a1 : Int32) (a2 : Int32) : Option (mS × Int32) :=
  obi (fM_isOf N σ a0 a1) fun σ_1 r_2 =>
  if r_2 = 0 then (
    some (σ_1, (-2000000000)))
  else (
    obi (fM_isFit N σ_1 a1 a2) fun σ_5 r_6 =>
    if r_6 = 0 then (
      some (σ_5, (-2000000000)))
    else (
      obi (fM_get N σ_5 a0 a1) fun σ_9 r_10 =>
      if r_10 = a2 then (
        some (σ_9, r_10))
      else (
        obi (fM_becomes N σ_9 a0 a1 a2) fun σ_13 r_14 =>
        nmv (σ_13.1 35) fun x_16 =>
        if x_16 = 40 then (
          fM_mend_b56 N N σ_13 a0 a1 a2 r_10 0)
        else (
          fM_mend_b96 N σ_13 a0 a1 a2 r_10))))
theorem bM_mend_96 {N : Nat} (C0 : mCx p s m args meth c cX2_mend 6 (some .int) L A) (hRo : 3 ≤ R.frames ∧ 65 ≤ R.locals) {σ' : mS} {r : Int32} (σ : mS) (x1 : Int32) (x2 : Int32) (x3 : Int32) (x4 : Int32) (H : Heap) (locs : List Loc) (ls : Array Slot) (hG : mG A L s σ H locs) (hl : lv_has ls 6 [(0, .ref L.1), (1, .int x1), (2, .int x2), (3, .int x3), (4, .int x4)]) (hF : fM_mend_b96 N σ x1 x2 x3 x4 = some (σ', r)) : W p l e R s m args below meth c H locs 0 0 (mZ below L A s args σ' (some (.int r))) (F0 m 96 ls []) := by
  have hx := C0.1
  have hb := C0.2.1
  unfold fM_mend_b96 at hF
  refine lv_aload_n hx hb dX2_mend_96 rfl (lv_at hl 0 rfl) ?_
  refine m_geta C0 hG 36 (by decide) rfl q1614 dX2_mend_97 ?_
  refine lv_iconst (v := 4) hx hb dX2_mend_100 (by decide) ?_
  refine lv_aload_n hx hb dX2_mend_101 rfl (lv_at hl 0 rfl) ?_
  refine m_geti C0 hG 35 (by decide) rfl q1613 dX2_mend_102 hF (fun x_18 hF => ?_)
  refine lv_imul hx hb dX2_mend_105 ?_
  refine lv_iload_n hx hb dX2_mend_106 rfl (lv_at hl 1 rfl) ?_
  refine m_st C0 hG 36 ⟨by decide, rfl, by decide⟩ dX2_mend_107 hF (fun σ_19 H locs hG hF => ?_)
  refine lv_aload_n hx hb dX2_mend_108 rfl (lv_at hl 0 rfl) ?_
  refine m_geta C0 hG 36 (by decide) rfl q1614 dX2_mend_109 ?_
  refine lv_iconst (v := 4) hx hb dX2_mend_112 (by decide) ?_
  refine lv_aload_n hx hb dX2_mend_113 rfl (lv_at hl 0 rfl) ?_
  refine m_geti C0 hG 35 (by decide) rfl q1613 dX2_mend_114 hF (fun x_20 hF => ?_)
  refine lv_imul hx hb dX2_mend_117 ?_
  refine lv_iconst (v := 1) hx hb dX2_mend_118 (by decide) ?_
  refine lv_iadd hx hb dX2_mend_119 ?_
  refine lv_iload_n hx hb dX2_mend_120 rfl (lv_at hl 2 rfl) ?_
  refine m_st C0 hG 36 ⟨by decide, rfl, by decide⟩ dX2_mend_121 hF (fun σ_21 H locs hG hF => ?_)
  refine lv_aload_n hx hb dX2_mend_122 rfl (lv_at hl 0 rfl) ?_
  refine m_geta C0 hG 36 (by decide) rfl q1614 dX2_mend_123 ?_
  refine lv_iconst (v := 4) hx hb dX2_mend_126 (by decide) ?_
  refine lv_aload_n hx hb dX2_mend_127 rfl (lv_at hl 0 rfl) ?_
  refine m_geti C0 hG 35 (by decide) rfl q1613 dX2_mend_128 hF (fun x_22 hF => ?_)
  refine lv_imul hx hb dX2_mend_131 ?_
  refine lv_iconst (v := 2) hx hb dX2_mend_132 (by decide) ?_
  refine lv_iadd hx hb dX2_mend_133 ?_
  refine lv_iload hx hb dX2_mend_134 (lv_at hl 4 rfl) ?_
  refine m_st C0 hG 36 ⟨by decide, rfl, by decide⟩ dX2_mend_136 hF (fun σ_23 H locs hG hF => ?_)
  refine lv_aload_n hx hb dX2_mend_137 rfl (lv_at hl 0 rfl) ?_
  refine m_geta C0 hG 36 (by decide) rfl q1614 dX2_mend_138 ?_
  refine lv_iconst (v := 4) hx hb dX2_mend_141 (by decide) ?_
  refine lv_aload_n hx hb dX2_mend_142 rfl (lv_at hl 0 rfl) ?_
  refine m_geti C0 hG 35 (by decide) rfl q1613 dX2_mend_143 hF (fun x_24 hF => ?_)
  refine lv_imul hx hb dX2_mend_146 ?_
  refine lv_iconst (v := 3) hx hb dX2_mend_147 (by decide) ?_
  refine lv_iadd hx hb dX2_mend_148 ?_
  refine lv_iload_n hx hb dX2_mend_149 rfl (lv_at hl 3 rfl) ?_
  refine m_st C0 hG 36 ⟨by decide, rfl, by decide⟩ dX2_mend_150 hF (fun σ_25 H locs hG hF => ?_)
  refine lv_aload_n hx hb dX2_mend_151 rfl (lv_at hl 0 rfl) ?_
  refine lv_dup hx hb dX2_mend_152 rfl ?_
  refine m_geti C0 hG 35 (by decide) rfl q1613 dX2_mend_153 hF (fun x_26 hF => ?_)
  refine lv_iconst (v := 1) hx hb dX2_mend_156 (by decide) ?_
  refine lv_iadd hx hb dX2_mend_157 ?_
  refine m_puti C0 hG 35 (by decide) rfl q1613 dX2_mend_158 (Or.inl ⟨by decide, by decide⟩) hF (fun σ_27 H locs hG hF => ?_)
  refine lv_aload_n hx hb dX2_mend_161 rfl (lv_at hl 0 rfl) ?_
  refine lv_aload_n hx hb dX2_mend_162 rfl (lv_at hl 0 rfl) ?_
  refine m_geti C0 hG 35 (by decide) rfl q1613 dX2_mend_163 hF (fun x_28 hF => ?_)
  refine m_puti C0 hG 34 (by decide) rfl q1612 dX2_mend_166 (Or.inl ⟨by decide, by decide⟩) hF (fun σ_29 H locs hG hF => ?_)
  refine lv_iload hx hb dX2_mend_169 (lv_at hl 4 rfl) ?_
  exact m_iret C0 hG dX2_mend_171 hF
theorem bM_mend_56 {N : Nat} (C0 : mCx p s m args meth c cX2_mend 6 (some .int) L A) (hRo : 3 ≤ R.frames ∧ 65 ≤ R.locals) {σ' : mS} {r : Int32} : ∀ (n : Nat) (σ : mS) (x1 : Int32) (x2 : Int32) (x3 : Int32) (x4 : Int32) (x5 : Int32) (H : Heap) (locs : List Loc) (ls : Array Slot), mG A L s σ H locs → lv_has ls 6 [(0, .ref L.1), (1, .int x1), (2, .int x2), (3, .int x3), (4, .int x4), (5, .int x5)] → fM_mend_b56 N n σ x1 x2 x3 x4 x5 = some (σ', r) → W p l e R s m args below meth c H locs 0 0 (mZ below L A s args σ' (some (.int r))) (F0 m 56 ls []) := by
  have hx := C0.1
  have hb := C0.2.1
  intro n
  induction n with
  | zero => intro σ x1 x2 x3 x4 x5 H locs ls hG hl hF; cases hF
  | succ n ih =>
    intro σ x1 x2 x3 x4 x5 H locs ls hG hl hF
    unfold fM_mend_b56 at hF
    refine lv_iload hx hb dX2_mend_56 (lv_at hl 5 rfl) ?_
    refine lv_sipush (v := 156) hx hb dX2_mend_58 (by decide) ?_
    refine lv_icmp_ge (tgt := 86) hx hb dX2_mend_61 (by decide) (fun c_30 => ?_) (fun c_30 => ?_)
    · have hF := ifp hF c_30
      refine lv_aload_n hx hb dX2_mend_86 rfl (lv_at hl 0 rfl) ?_
      refine lv_dup hx hb dX2_mend_87 rfl ?_
      refine m_geti C0 hG 35 (by decide) rfl q1613 dX2_mend_88 hF (fun x_31 hF => ?_)
      refine lv_iconst (v := 1) hx hb dX2_mend_91 (by decide) ?_
      refine lv_isub hx hb dX2_mend_92 ?_
      refine m_puti C0 hG 35 (by decide) rfl q1613 dX2_mend_93 (Or.inl ⟨by decide, by decide⟩) hF (fun σ_32 H locs hG hF => ?_)
      exact bM_mend_96 C0 hRo _ _ _ _ _ H locs ls hG (lv_sub hl [0, 1, 2, 3, 4] rfl) hF
    · have hF := ifn hF c_30
      refine lv_aload_n hx hb dX2_mend_64 rfl (lv_at hl 0 rfl) ?_
      refine m_geta C0 hG 36 (by decide) rfl q1614 dX2_mend_65 ?_
      refine lv_iload hx hb dX2_mend_68 (lv_at hl 5 rfl) ?_
      refine lv_aload_n hx hb dX2_mend_70 rfl (lv_at hl 0 rfl) ?_
      refine m_geta C0 hG 36 (by decide) rfl q1614 dX2_mend_71 ?_
      refine lv_iload hx hb dX2_mend_74 (lv_at hl 5 rfl) ?_
      refine lv_iconst (v := 4) hx hb dX2_mend_76 (by decide) ?_
      refine lv_iadd hx hb dX2_mend_77 ?_
      refine w_nm hF (fun x_33 hF => ?_)
      refine m_ld C0 hG 36 ⟨by decide, rfl, by decide⟩ dX2_mend_78 hF (fun x_34 hF => ?_)
      refine m_st C0 hG 36 ⟨by decide, rfl, by decide⟩ dX2_mend_79 hF (fun σ_35 H locs hG hF => ?_)
      refine w_iinc hx hb dX2_mend_80 hl 5 rfl (v := 1) (by decide) (by decide) hF (fun x_36 ls hl hF => ?_)
      have hl : lv_has ls 6 [(5, .int x_36), (0, .ref L.1), (1, .int x1), (2, .int x2), (3, .int x3), (4, .int x4)] := hl
      refine lv_goto (tgt := 56) hx hb dX2_mend_83 (by decide) ?_
      exact ih _ _ _ _ _ _ H locs ls hG (lv_sub hl [1, 2, 3, 4, 5, 0] rfl) hF
theorem bM_mend_e {N : Nat} (C0 : mCx p s m args meth c cX2_mend 6 (some .int) L A) (hRo : 3 ≤ R.frames ∧ 65 ≤ R.locals) {σ' : mS} {r : Int32} (σ : mS) (a0 : Int32) (a1 : Int32) (a2 : Int32) (H : Heap) (locs : List Loc) (ls : Array Slot) (hG : mG A L s σ H locs) (hl : lv_has ls 6 [(0, .ref L.1), (1, .int a0), (2, .int a1), (3, .int a2)]) (hF : fM_mend N σ a0 a1 a2 = some (σ', r)) : W p l e R s m args below meth c H locs 0 0 (mZ below L A s args σ' (some (.int r))) (F0 m 0 ls []) := by
  have hx := C0.1
  have hb := C0.2.1
  unfold fM_mend at hF
  refine lv_aload_n hx hb dX2_mend_0 rfl (lv_at hl 0 rfl) ?_
  refine lv_iload_n hx hb dX2_mend_1 rfl (lv_at hl 1 rfl) ?_
  refine lv_iload_n hx hb dX2_mend_2 rfl (lv_at hl 2 rfl) ?_
  obtain ⟨σ_1, r_2, e_3, hF⟩ := obi_of hF
  refine m_cVi (As := [.int a0, .int a1]) (rest := []) C0 hG (mtM_isOf l e_3) (lw_V q1770 q1772 qs53 q102 q1773) yd_X2_isOf ⟨by omega, by omega⟩ rfl rfl hl.1 (Nat.le_of_ble_eq_true rfl) dX2_mend_3 (fun H locs hG => ?_)
  refine lv_if_eq (tgt := 17) hx hb dX2_mend_6 (by decide) (fun c_4 => ?_) (fun c_4 => ?_)
  · have hF := ifp hF c_4
    refine lv_ldc (v := (-2000000000)) hx hb C0.2.2.2.1 (C0.2.2.2.2.1 _ q1781) dX2_mend_17 ?_
    exact m_iret C0 hG dX2_mend_19 hF
  · have hF := ifn hF c_4
    refine lv_iload_n hx hb dX2_mend_9 rfl (lv_at hl 2 rfl) ?_
    refine lv_iload_n hx hb dX2_mend_10 rfl (lv_at hl 3 rfl) ?_
    obtain ⟨σ_5, r_6, e_7, hF⟩ := obi_of hF
    refine m_cSi (As := [.int a1, .int a2]) (rest := []) C0 hG (mtM_isFit l e_7) (lw_S q1778 q1779 q102 q1780) yd_X2_isFit ⟨by omega, by omega⟩ rfl rfl hl.1 (Nat.le_of_ble_eq_true rfl) dX2_mend_11 (fun H locs hG => ?_)
    refine lv_if_ne (tgt := 20) hx hb dX2_mend_14 (by decide) (fun c_8 => ?_) (fun c_8 => ?_)
    · have hF := ifn hF c_8
      refine lv_aload_n hx hb dX2_mend_20 rfl (lv_at hl 0 rfl) ?_
      refine lv_iload_n hx hb dX2_mend_21 rfl (lv_at hl 1 rfl) ?_
      refine lv_iload_n hx hb dX2_mend_22 rfl (lv_at hl 2 rfl) ?_
      obtain ⟨σ_9, r_10, e_11, hF⟩ := obi_of hF
      refine m_cVi (As := [.int a0, .int a1]) (rest := []) C0 hG (mtM_get l e_11) (lw_V q1782 q1784 qs55 q102 q1785) yd_X2_get ⟨by omega, by omega⟩ rfl rfl hl.1 (Nat.le_of_ble_eq_true rfl) dX2_mend_23 (fun H locs hG => ?_)
      refine lv_istore (lv' := [(4, .int r_10), (0, .ref L.1), (1, .int a0), (2, .int a1), (3, .int a2)]) hx hb dX2_mend_26 hl (by decide) rfl (fun ls hl => ?_)
      refine lv_iload hx hb dX2_mend_28 (lv_at hl 0 rfl) ?_
      refine lv_iload_n hx hb dX2_mend_30 rfl (lv_at hl 4 rfl) ?_
      refine lv_icmp_ne (tgt := 37) hx hb dX2_mend_31 (by decide) (fun c_12 => ?_) (fun c_12 => ?_)
      · have hF := ifn hF c_12
        refine lv_aload_n hx hb dX2_mend_37 rfl (lv_at hl 1 rfl) ?_
        refine lv_iload_n hx hb dX2_mend_38 rfl (lv_at hl 2 rfl) ?_
        refine lv_iload_n hx hb dX2_mend_39 rfl (lv_at hl 3 rfl) ?_
        refine lv_iload_n hx hb dX2_mend_40 rfl (lv_at hl 4 rfl) ?_
        obtain ⟨σ_13, r_14, e_15, hF⟩ := obi_of hF
        refine m_cVv (As := [.int a0, .int a1, .int a2]) (rest := []) C0 hG (mtM_becomes l e_15) (lw_V q1786 q1788 qs56 q102 q1789) yd_X2_becomes ⟨by omega, by omega⟩ rfl rfl hl.1 (Nat.le_of_ble_eq_true rfl) dX2_mend_41 (fun H locs hG => ?_)
        refine lv_aload_n hx hb dX2_mend_44 rfl (lv_at hl 1 rfl) ?_
        refine m_geti C0 hG 35 (by decide) rfl q1613 dX2_mend_45 hF (fun x_16 hF => ?_)
        refine lv_bipush (v := 40) hx hb dX2_mend_48 (by decide) ?_
        refine lv_icmp_ne (tgt := 96) hx hb dX2_mend_50 (by decide) (fun c_17 => ?_) (fun c_17 => ?_)
        · have hF := ifn hF c_17
          exact bM_mend_96 C0 hRo _ _ _ _ _ H locs ls hG (lv_sub hl [1, 2, 3, 4, 0] rfl) hF
        · have hF := ifp hF c_17
          refine lv_iconst (v := 0) hx hb dX2_mend_53 (by decide) ?_
          refine lv_istore (lv' := [(5, .int 0), (4, .int r_10), (0, .ref L.1), (1, .int a0), (2, .int a1), (3, .int a2)]) hx hb dX2_mend_54 hl (by decide) rfl (fun ls hl => ?_)
          exact bM_mend_56 C0 hRo N _ _ _ _ _ _ H locs ls hG (lv_sub hl [2, 3, 4, 5, 1, 0] rfl) hF
      · have hF := ifp hF c_12
        refine lv_iload hx hb dX2_mend_34 (lv_at hl 0 rfl) ?_
        exact m_iret C0 hG dX2_mend_36 hF
    · have hF := ifp hF c_8
      refine lv_ldc (v := (-2000000000)) hx hb C0.2.2.2.1 (C0.2.2.2.2.1 _ q1781) dX2_mend_17 ?_
      exact m_iret C0 hG dX2_mend_19 hF
theorem mtM_mend (l : Launch) {N : Nat} {L : mL} {σ σ' : mS} {r : Int32} {a0 : Int32} {a1 : Int32} {a2 : Int32} (hF : fM_mend N σ a0 a1 a2 = some (σ', r)) : mMet l yX2_mend cX2_mend 6 (some .int) (3) (65) [.ref L.1, .int a0, .int a1, .int a2] L σ (some (.int r)) σ' := by
  refine m_head (by decide) rfl ?_
  intro p e s m below meth c A C0 hG
  have hl := lv_entry ([.ref L.1, .int a0, .int a1, .int a2]) (n := 6) (Nat.le_of_ble_eq_true rfl)
  rw [lg_entry_eq]
  generalize (lg_sl ([.ref L.1, .int a0, .int a1, .int a2]) ++ List.replicate (6 - (lg_sl ([.ref L.1, .int a0, .int a1, .int a2])).length) Slot.unset).toArray = ls at hl ⊢
  have hl : lv_has ls 6 [(0, .ref L.1), (1, .int a0), (2, .int a1), (3, .int a2)] := hl
  exact bM_mend_e C0 ⟨Nat.le_refl _, Nat.le_refl _⟩ _ _ _ _ _ [] ls hG hl hF
def fM_of (N : Nat) (σ : mS) (a0 : Int32) (a1 : Int32) : Option (mS × Int32) :=
  obi (fM_within N σ a1 9 10) fun σ_1 r_2 =>
  if r_2 = 0 then (
    obi (fM_isOf N σ_1 a0 a1) fun σ_5 r_6 =>
    if r_6 = 0 then (
      some (σ_5, (-2000000000)))
    else (
      obi (fM_get N σ_5 a0 a1) fun σ_9 r_10 =>
      some (σ_9, r_10)))
  else (
    obi (fM_isOne N σ_1 a0) fun σ_12 r_13 =>
    if r_13 = 0 then (
      some (σ_12, (-2000000000)))
    else (
      if a1 = 9 then (
        chk a0 8 <| nmv (σ_12.2.1 8 a0.toNatClampNeg) fun x_18 =>
        some (σ_12, x_18))
      else (
        chk a0 8 <| nmv (σ_12.2.1 9 a0.toNatClampNeg) fun x_17 =>
        some (σ_12, x_17))))
theorem bM_of_e {N : Nat} (C0 : mCx p s m args meth c cX2_of 3 (some .int) L A) (hRo : 3 ≤ R.frames ∧ 65 ≤ R.locals) {σ' : mS} {r : Int32} (σ : mS) (a0 : Int32) (a1 : Int32) (H : Heap) (locs : List Loc) (ls : Array Slot) (hG : mG A L s σ H locs) (hl : lv_has ls 3 [(0, .ref L.1), (1, .int a0), (2, .int a1)]) (hF : fM_of N σ a0 a1 = some (σ', r)) : W p l e R s m args below meth c H locs 0 0 (mZ below L A s args σ' (some (.int r))) (F0 m 0 ls []) := by
  have hx := C0.1
  have hb := C0.2.1
  unfold fM_of at hF
  refine lv_iload_n hx hb dX2_of_0 rfl (lv_at hl 2 rfl) ?_
  refine lv_bipush (v := 9) hx hb dX2_of_1 (by decide) ?_
  refine lv_bipush (v := 10) hx hb dX2_of_3 (by decide) ?_
  obtain ⟨σ_1, r_2, e_3, hF⟩ := obi_of hF
  refine m_cSi (As := [.int a1, .int 9, .int 10]) (rest := []) C0 hG (mtM_within l e_3) (lw_S q1751 q1752 q102 q1753) yd_X2_within ⟨by omega, by omega⟩ rfl rfl hl.1 (Nat.le_of_ble_eq_true rfl) dX2_of_5 (fun H locs hG => ?_)
  refine lv_if_eq (tgt := 46) hx hb dX2_of_8 (by decide) (fun c_4 => ?_) (fun c_4 => ?_)
  · have hF := ifp hF c_4
    refine lv_aload_n hx hb dX2_of_46 rfl (lv_at hl 0 rfl) ?_
    refine lv_iload_n hx hb dX2_of_47 rfl (lv_at hl 1 rfl) ?_
    refine lv_iload_n hx hb dX2_of_48 rfl (lv_at hl 2 rfl) ?_
    obtain ⟨σ_5, r_6, e_7, hF⟩ := obi_of hF
    refine m_cVi (As := [.int a0, .int a1]) (rest := []) C0 hG (mtM_isOf l e_7) (lw_V q1770 q1772 qs53 q102 q1773) yd_X2_isOf ⟨by omega, by omega⟩ rfl rfl hl.1 (Nat.le_of_ble_eq_true rfl) dX2_of_49 (fun H locs hG => ?_)
    refine lv_if_eq (tgt := 64) hx hb dX2_of_52 (by decide) (fun c_8 => ?_) (fun c_8 => ?_)
    · have hF := ifp hF c_8
      refine lv_ldc (v := (-2000000000)) hx hb C0.2.2.2.1 (C0.2.2.2.2.1 _ q1781) dX2_of_64 ?_
      exact m_iret C0 hG dX2_of_66 hF
    · have hF := ifn hF c_8
      refine lv_aload_n hx hb dX2_of_55 rfl (lv_at hl 0 rfl) ?_
      refine lv_iload_n hx hb dX2_of_56 rfl (lv_at hl 1 rfl) ?_
      refine lv_iload_n hx hb dX2_of_57 rfl (lv_at hl 2 rfl) ?_
      obtain ⟨σ_9, r_10, e_11, hF⟩ := obi_of hF
      refine m_cVi (As := [.int a0, .int a1]) (rest := []) C0 hG (mtM_get l e_11) (lw_V q1782 q1784 qs55 q102 q1785) yd_X2_get ⟨by omega, by omega⟩ rfl rfl hl.1 (Nat.le_of_ble_eq_true rfl) dX2_of_58 (fun H locs hG => ?_)
      refine lv_goto (tgt := 66) hx hb dX2_of_61 (by decide) ?_
      exact m_iret C0 hG dX2_of_66 hF
  · have hF := ifn hF c_4
    refine lv_aload_n hx hb dX2_of_11 rfl (lv_at hl 0 rfl) ?_
    refine lv_iload_n hx hb dX2_of_12 rfl (lv_at hl 1 rfl) ?_
    obtain ⟨σ_12, r_13, e_14, hF⟩ := obi_of hF
    refine m_cVi (As := [.int a0]) (rest := []) C0 hG (mtM_isOne l e_14) (lw_V q1774 q1776 qs54 q102 q1777) yd_X2_isOne ⟨by omega, by omega⟩ rfl rfl hl.1 (Nat.le_of_ble_eq_true rfl) dX2_of_13 (fun H locs hG => ?_)
    refine lv_if_eq (tgt := 43) hx hb dX2_of_16 (by decide) (fun c_15 => ?_) (fun c_15 => ?_)
    · have hF := ifp hF c_15
      refine lv_ldc (v := (-2000000000)) hx hb C0.2.2.2.1 (C0.2.2.2.2.1 _ q1781) dX2_of_43 ?_
      exact m_iret C0 hG dX2_of_45 hF
    · have hF := ifn hF c_15
      refine lv_iload_n hx hb dX2_of_19 rfl (lv_at hl 2 rfl) ?_
      refine lv_bipush (v := 9) hx hb dX2_of_20 (by decide) ?_
      refine lv_icmp_ne (tgt := 34) hx hb dX2_of_22 (by decide) (fun c_16 => ?_) (fun c_16 => ?_)
      · have hF := ifn hF c_16
        refine lv_aload_n hx hb dX2_of_34 rfl (lv_at hl 0 rfl) ?_
        refine m_geta C0 hG 9 (by decide) rfl q1587 dX2_of_35 ?_
        refine lv_iload_n hx hb dX2_of_38 rfl (lv_at hl 1 rfl) ?_
        refine m_ld C0 hG 9 ⟨by decide, rfl, by decide⟩ dX2_of_39 hF (fun x_17 hF => ?_)
        refine lv_goto (tgt := 45) hx hb dX2_of_40 (by decide) ?_
        exact m_iret C0 hG dX2_of_45 hF
      · have hF := ifp hF c_16
        refine lv_aload_n hx hb dX2_of_25 rfl (lv_at hl 0 rfl) ?_
        refine m_geta C0 hG 8 (by decide) rfl q1586 dX2_of_26 ?_
        refine lv_iload_n hx hb dX2_of_29 rfl (lv_at hl 1 rfl) ?_
        refine m_ld C0 hG 8 ⟨by decide, rfl, by decide⟩ dX2_of_30 hF (fun x_18 hF => ?_)
        refine lv_goto (tgt := 45) hx hb dX2_of_31 (by decide) ?_
        exact m_iret C0 hG dX2_of_45 hF
theorem mtM_of (l : Launch) {N : Nat} {L : mL} {σ σ' : mS} {r : Int32} {a0 : Int32} {a1 : Int32} (hF : fM_of N σ a0 a1 = some (σ', r)) : mMet l yX2_of cX2_of 3 (some .int) (3) (65) [.ref L.1, .int a0, .int a1] L σ (some (.int r)) σ' := by
  refine m_head (by decide) rfl ?_
  intro p e s m below meth c A C0 hG
  have hl := lv_entry ([.ref L.1, .int a0, .int a1]) (n := 3) (Nat.le_of_ble_eq_true rfl)
  rw [lg_entry_eq]
  generalize (lg_sl ([.ref L.1, .int a0, .int a1]) ++ List.replicate (3 - (lg_sl ([.ref L.1, .int a0, .int a1])).length) Slot.unset).toArray = ls at hl ⊢
  have hl : lv_has ls 3 [(0, .ref L.1), (1, .int a0), (2, .int a1)] := hl
  exact bM_of_e C0 ⟨Nat.le_refl _, Nat.le_refl _⟩ _ _ _ _ [] ls hG hl hF
def fM_undo (N : Nat) (σ : mS) : Option (mS × Int32) :=
  nmv (σ.1 35) fun x_1 =>
  if x_1 = 0 then (
    some (σ, (-5)))
  else (
    nmv (σ.1 35) fun x_3 =>
    nmv (mSi σ 35 (x_3 - 1)) fun σ_4 =>
    nmv (σ_4.1 35) fun x_5 =>
    nmv ((4 : Int32) * x_5) fun x_6 =>
    chk x_6 160 <| nmv (σ_4.2.1 36 x_6.toNatClampNeg) fun x_7 =>
    nmv (σ_4.1 35) fun x_8 =>
    nmv (((4 : Int32) * x_8) + 1) fun x_9 =>
    chk x_9 160 <| nmv (σ_4.2.1 36 x_9.toNatClampNeg) fun x_10 =>
    nmv (σ_4.1 35) fun x_11 =>
    nmv (((4 : Int32) * x_11) + 2) fun x_12 =>
    chk x_12 160 <| nmv (σ_4.2.1 36 x_12.toNatClampNeg) fun x_13 =>
    obi (fM_becomes N σ_4 x_7 x_10 x_13) fun σ_14 r_15 =>
    nmv (σ_14.1 35) fun x_17 =>
    some (σ_14, x_17))
theorem bM_undo_e {N : Nat} (C0 : mCx p s m args meth c cX2_undo 1 (some .int) L A) (hRo : 1 ≤ R.frames ∧ 23 ≤ R.locals) {σ' : mS} {r : Int32} (σ : mS) (H : Heap) (locs : List Loc) (ls : Array Slot) (hG : mG A L s σ H locs) (hl : lv_has ls 1 [(0, .ref L.1)]) (hF : fM_undo N σ = some (σ', r)) : W p l e R s m args below meth c H locs 0 0 (mZ below L A s args σ' (some (.int r))) (F0 m 0 ls []) := by
  have hx := C0.1
  have hb := C0.2.1
  unfold fM_undo at hF
  refine lv_aload_n hx hb dX2_undo_0 rfl (lv_at hl 0 rfl) ?_
  refine m_geti C0 hG 35 (by decide) rfl q1613 dX2_undo_1 hF (fun x_1 hF => ?_)
  refine lv_if_ne (tgt := 10) hx hb dX2_undo_4 (by decide) (fun c_2 => ?_) (fun c_2 => ?_)
  · have hF := ifn hF c_2
    refine lv_aload_n hx hb dX2_undo_10 rfl (lv_at hl 0 rfl) ?_
    refine lv_dup hx hb dX2_undo_11 rfl ?_
    refine m_geti C0 hG 35 (by decide) rfl q1613 dX2_undo_12 hF (fun x_3 hF => ?_)
    refine lv_iconst (v := 1) hx hb dX2_undo_15 (by decide) ?_
    refine lv_isub hx hb dX2_undo_16 ?_
    refine m_puti C0 hG 35 (by decide) rfl q1613 dX2_undo_17 (Or.inl ⟨by decide, by decide⟩) hF (fun σ_4 H locs hG hF => ?_)
    refine lv_aload_n hx hb dX2_undo_20 rfl (lv_at hl 0 rfl) ?_
    refine lv_aload_n hx hb dX2_undo_21 rfl (lv_at hl 0 rfl) ?_
    refine m_geta C0 hG 36 (by decide) rfl q1614 dX2_undo_22 ?_
    refine lv_iconst (v := 4) hx hb dX2_undo_25 (by decide) ?_
    refine lv_aload_n hx hb dX2_undo_26 rfl (lv_at hl 0 rfl) ?_
    refine m_geti C0 hG 35 (by decide) rfl q1613 dX2_undo_27 hF (fun x_5 hF => ?_)
    refine lv_imul hx hb dX2_undo_30 ?_
    refine w_nm hF (fun x_6 hF => ?_)
    refine m_ld C0 hG 36 ⟨by decide, rfl, by decide⟩ dX2_undo_31 hF (fun x_7 hF => ?_)
    refine lv_aload_n hx hb dX2_undo_32 rfl (lv_at hl 0 rfl) ?_
    refine m_geta C0 hG 36 (by decide) rfl q1614 dX2_undo_33 ?_
    refine lv_iconst (v := 4) hx hb dX2_undo_36 (by decide) ?_
    refine lv_aload_n hx hb dX2_undo_37 rfl (lv_at hl 0 rfl) ?_
    refine m_geti C0 hG 35 (by decide) rfl q1613 dX2_undo_38 hF (fun x_8 hF => ?_)
    refine lv_imul hx hb dX2_undo_41 ?_
    refine lv_iconst (v := 1) hx hb dX2_undo_42 (by decide) ?_
    refine lv_iadd hx hb dX2_undo_43 ?_
    refine w_nm hF (fun x_9 hF => ?_)
    refine m_ld C0 hG 36 ⟨by decide, rfl, by decide⟩ dX2_undo_44 hF (fun x_10 hF => ?_)
    refine lv_aload_n hx hb dX2_undo_45 rfl (lv_at hl 0 rfl) ?_
    refine m_geta C0 hG 36 (by decide) rfl q1614 dX2_undo_46 ?_
    refine lv_iconst (v := 4) hx hb dX2_undo_49 (by decide) ?_
    refine lv_aload_n hx hb dX2_undo_50 rfl (lv_at hl 0 rfl) ?_
    refine m_geti C0 hG 35 (by decide) rfl q1613 dX2_undo_51 hF (fun x_11 hF => ?_)
    refine lv_imul hx hb dX2_undo_54 ?_
    refine lv_iconst (v := 2) hx hb dX2_undo_55 (by decide) ?_
    refine lv_iadd hx hb dX2_undo_56 ?_
    refine w_nm hF (fun x_12 hF => ?_)
    refine m_ld C0 hG 36 ⟨by decide, rfl, by decide⟩ dX2_undo_57 hF (fun x_13 hF => ?_)
    obtain ⟨σ_14, r_15, e_16, hF⟩ := obi_of hF
    refine m_cVv (As := [.int x_7, .int x_10, .int x_13]) (rest := []) C0 hG (mtM_becomes l e_16) (lw_V q1786 q1788 qs56 q102 q1789) yd_X2_becomes ⟨by omega, by omega⟩ rfl rfl hl.1 (Nat.le_of_ble_eq_true rfl) dX2_undo_58 (fun H locs hG => ?_)
    refine lv_aload_n hx hb dX2_undo_61 rfl (lv_at hl 0 rfl) ?_
    refine m_geti C0 hG 35 (by decide) rfl q1613 dX2_undo_62 hF (fun x_17 hF => ?_)
    exact m_iret C0 hG dX2_undo_65 hF
  · have hF := ifp hF c_2
    refine lv_bipush (v := (-5)) hx hb dX2_undo_7 (by decide) ?_
    exact m_iret C0 hG dX2_undo_9 hF
theorem mtM_undo (l : Launch) {N : Nat} {L : mL} {σ σ' : mS} {r : Int32} (hF : fM_undo N σ = some (σ', r)) : mMet l yX2_undo cX2_undo 1 (some .int) (1) (23) [.ref L.1] L σ (some (.int r)) σ' := by
  refine m_head (by decide) rfl ?_
  intro p e s m below meth c A C0 hG
  have hl := lv_entry ([.ref L.1]) (n := 1) (Nat.le_of_ble_eq_true rfl)
  rw [lg_entry_eq]
  generalize (lg_sl ([.ref L.1]) ++ List.replicate (1 - (lg_sl ([.ref L.1])).length) Slot.unset).toArray = ls at hl ⊢
  have hl : lv_has ls 1 [(0, .ref L.1)] := hl
  exact bM_undo_e C0 ⟨Nat.le_refl _, Nat.le_refl _⟩ _ _ [] ls hG hl hF
def fM_redo (N : Nat) (σ : mS) : Option (mS × Int32) :=
  nmv (σ.1 35) fun x_1 =>
  nmv (σ.1 34) fun x_2 =>
  if x_1 = x_2 then (
    some (σ, (-5)))
  else (
    nmv (σ.1 35) fun x_4 =>
    nmv ((4 : Int32) * x_4) fun x_5 =>
    chk x_5 160 <| nmv (σ.2.1 36 x_5.toNatClampNeg) fun x_6 =>
    nmv (σ.1 35) fun x_7 =>
    nmv (((4 : Int32) * x_7) + 1) fun x_8 =>
    chk x_8 160 <| nmv (σ.2.1 36 x_8.toNatClampNeg) fun x_9 =>
    nmv (σ.1 35) fun x_10 =>
    nmv (((4 : Int32) * x_10) + 3) fun x_11 =>
    chk x_11 160 <| nmv (σ.2.1 36 x_11.toNatClampNeg) fun x_12 =>
    obi (fM_becomes N σ x_6 x_9 x_12) fun σ_13 r_14 =>
    nmv (σ_13.1 35) fun x_16 =>
    nmv (mSi σ_13 35 (x_16 + 1)) fun σ_17 =>
    nmv (σ_17.1 34) fun x_18 =>
    nmv (σ_17.1 35) fun x_19 =>
    some (σ_17, x_18 - x_19))
theorem bM_redo_e {N : Nat} (C0 : mCx p s m args meth c cX2_redo 1 (some .int) L A) (hRo : 1 ≤ R.frames ∧ 23 ≤ R.locals) {σ' : mS} {r : Int32} (σ : mS) (H : Heap) (locs : List Loc) (ls : Array Slot) (hG : mG A L s σ H locs) (hl : lv_has ls 1 [(0, .ref L.1)]) (hF : fM_redo N σ = some (σ', r)) : W p l e R s m args below meth c H locs 0 0 (mZ below L A s args σ' (some (.int r))) (F0 m 0 ls []) := by
  have hx := C0.1
  have hb := C0.2.1
  unfold fM_redo at hF
  refine lv_aload_n hx hb dX2_redo_0 rfl (lv_at hl 0 rfl) ?_
  refine m_geti C0 hG 35 (by decide) rfl q1613 dX2_redo_1 hF (fun x_1 hF => ?_)
  refine lv_aload_n hx hb dX2_redo_4 rfl (lv_at hl 0 rfl) ?_
  refine m_geti C0 hG 34 (by decide) rfl q1612 dX2_redo_5 hF (fun x_2 hF => ?_)
  refine lv_icmp_ne (tgt := 14) hx hb dX2_redo_8 (by decide) (fun c_3 => ?_) (fun c_3 => ?_)
  · have hF := ifn hF c_3
    refine lv_aload_n hx hb dX2_redo_14 rfl (lv_at hl 0 rfl) ?_
    refine lv_aload_n hx hb dX2_redo_15 rfl (lv_at hl 0 rfl) ?_
    refine m_geta C0 hG 36 (by decide) rfl q1614 dX2_redo_16 ?_
    refine lv_iconst (v := 4) hx hb dX2_redo_19 (by decide) ?_
    refine lv_aload_n hx hb dX2_redo_20 rfl (lv_at hl 0 rfl) ?_
    refine m_geti C0 hG 35 (by decide) rfl q1613 dX2_redo_21 hF (fun x_4 hF => ?_)
    refine lv_imul hx hb dX2_redo_24 ?_
    refine w_nm hF (fun x_5 hF => ?_)
    refine m_ld C0 hG 36 ⟨by decide, rfl, by decide⟩ dX2_redo_25 hF (fun x_6 hF => ?_)
    refine lv_aload_n hx hb dX2_redo_26 rfl (lv_at hl 0 rfl) ?_
    refine m_geta C0 hG 36 (by decide) rfl q1614 dX2_redo_27 ?_
    refine lv_iconst (v := 4) hx hb dX2_redo_30 (by decide) ?_
    refine lv_aload_n hx hb dX2_redo_31 rfl (lv_at hl 0 rfl) ?_
    refine m_geti C0 hG 35 (by decide) rfl q1613 dX2_redo_32 hF (fun x_7 hF => ?_)
    refine lv_imul hx hb dX2_redo_35 ?_
    refine lv_iconst (v := 1) hx hb dX2_redo_36 (by decide) ?_
    refine lv_iadd hx hb dX2_redo_37 ?_
    refine w_nm hF (fun x_8 hF => ?_)
    refine m_ld C0 hG 36 ⟨by decide, rfl, by decide⟩ dX2_redo_38 hF (fun x_9 hF => ?_)
    refine lv_aload_n hx hb dX2_redo_39 rfl (lv_at hl 0 rfl) ?_
    refine m_geta C0 hG 36 (by decide) rfl q1614 dX2_redo_40 ?_
    refine lv_iconst (v := 4) hx hb dX2_redo_43 (by decide) ?_
    refine lv_aload_n hx hb dX2_redo_44 rfl (lv_at hl 0 rfl) ?_
    refine m_geti C0 hG 35 (by decide) rfl q1613 dX2_redo_45 hF (fun x_10 hF => ?_)
    refine lv_imul hx hb dX2_redo_48 ?_
    refine lv_iconst (v := 3) hx hb dX2_redo_49 (by decide) ?_
    refine lv_iadd hx hb dX2_redo_50 ?_
    refine w_nm hF (fun x_11 hF => ?_)
    refine m_ld C0 hG 36 ⟨by decide, rfl, by decide⟩ dX2_redo_51 hF (fun x_12 hF => ?_)
    obtain ⟨σ_13, r_14, e_15, hF⟩ := obi_of hF
    refine m_cVv (As := [.int x_6, .int x_9, .int x_12]) (rest := []) C0 hG (mtM_becomes l e_15) (lw_V q1786 q1788 qs56 q102 q1789) yd_X2_becomes ⟨by omega, by omega⟩ rfl rfl hl.1 (Nat.le_of_ble_eq_true rfl) dX2_redo_52 (fun H locs hG => ?_)
    refine lv_aload_n hx hb dX2_redo_55 rfl (lv_at hl 0 rfl) ?_
    refine lv_dup hx hb dX2_redo_56 rfl ?_
    refine m_geti C0 hG 35 (by decide) rfl q1613 dX2_redo_57 hF (fun x_16 hF => ?_)
    refine lv_iconst (v := 1) hx hb dX2_redo_60 (by decide) ?_
    refine lv_iadd hx hb dX2_redo_61 ?_
    refine m_puti C0 hG 35 (by decide) rfl q1613 dX2_redo_62 (Or.inl ⟨by decide, by decide⟩) hF (fun σ_17 H locs hG hF => ?_)
    refine lv_aload_n hx hb dX2_redo_65 rfl (lv_at hl 0 rfl) ?_
    refine m_geti C0 hG 34 (by decide) rfl q1612 dX2_redo_66 hF (fun x_18 hF => ?_)
    refine lv_aload_n hx hb dX2_redo_69 rfl (lv_at hl 0 rfl) ?_
    refine m_geti C0 hG 35 (by decide) rfl q1613 dX2_redo_70 hF (fun x_19 hF => ?_)
    refine lv_isub hx hb dX2_redo_73 ?_
    exact m_iret C0 hG dX2_redo_74 hF
  · have hF := ifp hF c_3
    refine lv_bipush (v := (-5)) hx hb dX2_redo_11 (by decide) ?_
    exact m_iret C0 hG dX2_redo_13 hF
theorem mtM_redo (l : Launch) {N : Nat} {L : mL} {σ σ' : mS} {r : Int32} (hF : fM_redo N σ = some (σ', r)) : mMet l yX2_redo cX2_redo 1 (some .int) (1) (23) [.ref L.1] L σ (some (.int r)) σ' := by
  refine m_head (by decide) rfl ?_
  intro p e s m below meth c A C0 hG
  have hl := lv_entry ([.ref L.1]) (n := 1) (Nat.le_of_ble_eq_true rfl)
  rw [lg_entry_eq]
  generalize (lg_sl ([.ref L.1]) ++ List.replicate (1 - (lg_sl ([.ref L.1])).length) Slot.unset).toArray = ls at hl ⊢
  have hl : lv_has ls 1 [(0, .ref L.1)] := hl
  exact bM_redo_e C0 ⟨Nat.le_refl _, Nat.le_refl _⟩ _ _ [] ls hG hl hF
def fM_feed (N : Nat) (σ : mS) (a0 : Int32) : Option (mS × Int32) :=
  obi (fM_within N σ a0 0 255) fun σ_1 r_2 =>
  if r_2 = 0 then (
    some (σ_1, (-1)))
  else (
    nmv (σ_1.1 10) fun x_5 =>
    if x_5 = 120 then (
      some (σ_1, (-3)))
    else (
      nmv (σ_1.1 10) fun x_7 =>
      nmv (mSi σ_1 10 (x_7 + 1)) fun σ_8 =>
      chk x_7 120 <| nmv (mSj σ_8 11 x_7.toNatClampNeg a0) fun σ_9 =>
      nmv (σ_9.1 10) fun x_10 =>
      some (σ_9, x_10)))
theorem bM_feed_e {N : Nat} (C0 : mCx p s m args meth c cX2_feed 2 (some .int) L A) (hRo : 1 ≤ R.frames ∧ 22 ≤ R.locals) {σ' : mS} {r : Int32} (σ : mS) (a0 : Int32) (H : Heap) (locs : List Loc) (ls : Array Slot) (hG : mG A L s σ H locs) (hl : lv_has ls 2 [(0, .ref L.1), (1, .int a0)]) (hF : fM_feed N σ a0 = some (σ', r)) : W p l e R s m args below meth c H locs 0 0 (mZ below L A s args σ' (some (.int r))) (F0 m 0 ls []) := by
  have hx := C0.1
  have hb := C0.2.1
  unfold fM_feed at hF
  refine lv_iload_n hx hb dX2_feed_0 rfl (lv_at hl 1 rfl) ?_
  refine lv_iconst (v := 0) hx hb dX2_feed_1 (by decide) ?_
  refine lv_sipush (v := 255) hx hb dX2_feed_2 (by decide) ?_
  obtain ⟨σ_1, r_2, e_3, hF⟩ := obi_of hF
  refine m_cSi (As := [.int a0, .int 0, .int 255]) (rest := []) C0 hG (mtM_within l e_3) (lw_S q1751 q1752 q102 q1753) yd_X2_within ⟨by omega, by omega⟩ rfl rfl hl.1 (Nat.le_of_ble_eq_true rfl) dX2_feed_5 (fun H locs hG => ?_)
  refine lv_if_ne (tgt := 13) hx hb dX2_feed_8 (by decide) (fun c_4 => ?_) (fun c_4 => ?_)
  · have hF := ifn hF c_4
    refine lv_aload_n hx hb dX2_feed_13 rfl (lv_at hl 0 rfl) ?_
    refine m_geti C0 hG 10 (by decide) rfl q1588 dX2_feed_14 hF (fun x_5 hF => ?_)
    refine lv_bipush (v := 120) hx hb dX2_feed_17 (by decide) ?_
    refine lv_icmp_ne (tgt := 25) hx hb dX2_feed_19 (by decide) (fun c_6 => ?_) (fun c_6 => ?_)
    · have hF := ifn hF c_6
      refine lv_aload_n hx hb dX2_feed_25 rfl (lv_at hl 0 rfl) ?_
      refine m_geta C0 hG 11 (by decide) rfl q1589 dX2_feed_26 ?_
      refine lv_aload_n hx hb dX2_feed_29 rfl (lv_at hl 0 rfl) ?_
      refine lv_dup hx hb dX2_feed_30 rfl ?_
      refine m_geti C0 hG 10 (by decide) rfl q1588 dX2_feed_31 hF (fun x_7 hF => ?_)
      refine lv_dup_x1 hx hb dX2_feed_34 rfl rfl ?_
      refine lv_iconst (v := 1) hx hb dX2_feed_35 (by decide) ?_
      refine lv_iadd hx hb dX2_feed_36 ?_
      refine m_puti C0 hG 10 (by decide) rfl q1588 dX2_feed_37 (Or.inl ⟨by decide, by decide⟩) hF (fun σ_8 H locs hG hF => ?_)
      refine lv_iload_n hx hb dX2_feed_40 rfl (lv_at hl 1 rfl) ?_
      refine m_st C0 hG 11 ⟨by decide, rfl, by decide⟩ dX2_feed_41 hF (fun σ_9 H locs hG hF => ?_)
      refine lv_aload_n hx hb dX2_feed_42 rfl (lv_at hl 0 rfl) ?_
      refine m_geti C0 hG 10 (by decide) rfl q1588 dX2_feed_43 hF (fun x_10 hF => ?_)
      exact m_iret C0 hG dX2_feed_46 hF
    · have hF := ifp hF c_6
      refine lv_bipush (v := (-3)) hx hb dX2_feed_22 (by decide) ?_
      exact m_iret C0 hG dX2_feed_24 hF
  · have hF := ifp hF c_4
    refine lv_iconst (v := (-1)) hx hb dX2_feed_11 (by decide) ?_
    exact m_iret C0 hG dX2_feed_12 hF
theorem mtM_feed (l : Launch) {N : Nat} {L : mL} {σ σ' : mS} {r : Int32} {a0 : Int32} (hF : fM_feed N σ a0 = some (σ', r)) : mMet l yX2_feed cX2_feed 2 (some .int) (1) (22) [.ref L.1, .int a0] L σ (some (.int r)) σ' := by
  refine m_head (by decide) rfl ?_
  intro p e s m below meth c A C0 hG
  have hl := lv_entry ([.ref L.1, .int a0]) (n := 2) (Nat.le_of_ble_eq_true rfl)
  rw [lg_entry_eq]
  generalize (lg_sl ([.ref L.1, .int a0]) ++ List.replicate (2 - (lg_sl ([.ref L.1, .int a0])).length) Slot.unset).toArray = ls at hl ⊢
  have hl : lv_has ls 2 [(0, .ref L.1), (1, .int a0)] := hl
  exact bM_feed_e C0 ⟨Nat.le_refl _, Nat.le_refl _⟩ _ _ _ [] ls hG hl hF
def fM_sign (N : Nat) (σ : mS) : Option (mS × Int32) :=
  nmv (σ.1 18) fun x_1 =>
  nmv (σ.1 10) fun x_2 =>
  if x_2 ≤ x_1 then (
    some (σ, (-1)))
  else (
    nmv (σ.1 18) fun x_4 =>
    chk x_4 120 <| nmv (σ.2.1 11 x_4.toNatClampNeg) fun x_5 =>
    some (σ, x_5))
theorem bM_sign_e {N : Nat} (C0 : mCx p s m args meth c cX2_sign 1 (some .int) L A) (hRo : 0 ≤ R.frames ∧ 0 ≤ R.locals) {σ' : mS} {r : Int32} (σ : mS) (H : Heap) (locs : List Loc) (ls : Array Slot) (hG : mG A L s σ H locs) (hl : lv_has ls 1 [(0, .ref L.1)]) (hF : fM_sign N σ = some (σ', r)) : W p l e R s m args below meth c H locs 0 0 (mZ below L A s args σ' (some (.int r))) (F0 m 0 ls []) := by
  have hx := C0.1
  have hb := C0.2.1
  unfold fM_sign at hF
  refine lv_aload_n hx hb dX2_sign_0 rfl (lv_at hl 0 rfl) ?_
  refine m_geti C0 hG 18 (by decide) rfl q1596 dX2_sign_1 hF (fun x_1 hF => ?_)
  refine lv_aload_n hx hb dX2_sign_4 rfl (lv_at hl 0 rfl) ?_
  refine m_geti C0 hG 10 (by decide) rfl q1588 dX2_sign_5 hF (fun x_2 hF => ?_)
  refine lv_icmp_ge (tgt := 23) hx hb dX2_sign_8 (by decide) (fun c_3 => ?_) (fun c_3 => ?_)
  · have hF := ifp hF c_3
    refine lv_iconst (v := (-1)) hx hb dX2_sign_23 (by decide) ?_
    exact m_iret C0 hG dX2_sign_24 hF
  · have hF := ifn hF c_3
    refine lv_aload_n hx hb dX2_sign_11 rfl (lv_at hl 0 rfl) ?_
    refine m_geta C0 hG 11 (by decide) rfl q1589 dX2_sign_12 ?_
    refine lv_aload_n hx hb dX2_sign_15 rfl (lv_at hl 0 rfl) ?_
    refine m_geti C0 hG 18 (by decide) rfl q1596 dX2_sign_16 hF (fun x_4 hF => ?_)
    refine m_ld C0 hG 11 ⟨by decide, rfl, by decide⟩ dX2_sign_19 hF (fun x_5 hF => ?_)
    refine lv_goto (tgt := 24) hx hb dX2_sign_20 (by decide) ?_
    exact m_iret C0 hG dX2_sign_24 hF
theorem mtM_sign (l : Launch) {N : Nat} {L : mL} {σ σ' : mS} {r : Int32} (hF : fM_sign N σ = some (σ', r)) : mMet l yX2_sign cX2_sign 1 (some .int) (0) (0) [.ref L.1] L σ (some (.int r)) σ' := by
  refine m_head (by decide) rfl ?_
  intro p e s m below meth c A C0 hG
  have hl := lv_entry ([.ref L.1]) (n := 1) (Nat.le_of_ble_eq_true rfl)
  rw [lg_entry_eq]
  generalize (lg_sl ([.ref L.1]) ++ List.replicate (1 - (lg_sl ([.ref L.1])).length) Slot.unset).toArray = ls at hl ⊢
  have hl : lv_has ls 1 [(0, .ref L.1)] := hl
  exact bM_sign_e C0 ⟨Nat.le_refl _, Nat.le_refl _⟩ _ _ [] ls hG hl hF
def fM_is (N : Nat) (σ : mS) (a0 : Int32) : Option (mS × Int32) :=
  obi (fM_sign N σ) fun σ_1 r_2 =>
  if r_2 = a0 then (
    nmv (σ_1.1 18) fun x_5 =>
    nmv (mSi σ_1 18 (x_5 + 1)) fun σ_6 =>
    chb 1 (some (σ_6, 1)))
  else (
    chb 0 (some (σ_1, 0)))
theorem bM_is_e {N : Nat} (C0 : mCx p s m args meth c cX2_is 2 (some .boolean) L A) (hRo : 1 ≤ R.frames ∧ 20 ≤ R.locals) {σ' : mS} {r : Int32} (σ : mS) (a0 : Int32) (H : Heap) (locs : List Loc) (ls : Array Slot) (hG : mG A L s σ H locs) (hl : lv_has ls 2 [(0, .ref L.1), (1, .int a0)]) (hF : fM_is N σ a0 = some (σ', r)) : W p l e R s m args below meth c H locs 0 0 (mZ below L A s args σ' (some (.int r))) (F0 m 0 ls []) := by
  have hx := C0.1
  have hb := C0.2.1
  unfold fM_is at hF
  refine lv_aload_n hx hb dX2_is_0 rfl (lv_at hl 0 rfl) ?_
  obtain ⟨σ_1, r_2, e_3, hF⟩ := obi_of hF
  refine m_cVi (As := []) (rest := []) C0 hG (mtM_sign l e_3) (lw_V q1842 q1844 qs65 q102 q1845) yd_X2_sign ⟨by omega, by omega⟩ rfl rfl hl.1 (Nat.le_of_ble_eq_true rfl) dX2_is_1 (fun H locs hG => ?_)
  refine lv_iload_n hx hb dX2_is_4 rfl (lv_at hl 1 rfl) ?_
  refine lv_icmp_eq (tgt := 10) hx hb dX2_is_5 (by decide) (fun c_4 => ?_) (fun c_4 => ?_)
  · have hF := ifp hF c_4
    refine lv_aload_n hx hb dX2_is_10 rfl (lv_at hl 0 rfl) ?_
    refine lv_dup hx hb dX2_is_11 rfl ?_
    refine m_geti C0 hG 18 (by decide) rfl q1596 dX2_is_12 hF (fun x_5 hF => ?_)
    refine lv_iconst (v := 1) hx hb dX2_is_15 (by decide) ?_
    refine lv_iadd hx hb dX2_is_16 ?_
    refine m_puti C0 hG 18 (by decide) rfl q1596 dX2_is_17 (Or.inl ⟨by decide, by decide⟩) hF (fun σ_6 H locs hG hF => ?_)
    refine lv_iconst (v := 1) hx hb dX2_is_20 (by decide) ?_
    exact m_zret C0 hG dX2_is_21 hF
  · have hF := ifn hF c_4
    refine lv_iconst (v := 0) hx hb dX2_is_8 (by decide) ?_
    exact m_zret C0 hG dX2_is_9 hF
theorem mtM_is (l : Launch) {N : Nat} {L : mL} {σ σ' : mS} {r : Int32} {a0 : Int32} (hF : fM_is N σ a0 = some (σ', r)) : mMet l yX2_is cX2_is 2 (some .boolean) (1) (20) [.ref L.1, .int a0] L σ (some (.int r)) σ' := by
  refine m_head (by decide) rfl ?_
  intro p e s m below meth c A C0 hG
  have hl := lv_entry ([.ref L.1, .int a0]) (n := 2) (Nat.le_of_ble_eq_true rfl)
  rw [lg_entry_eq]
  generalize (lg_sl ([.ref L.1, .int a0]) ++ List.replicate (2 - (lg_sl ([.ref L.1, .int a0])).length) Slot.unset).toArray = ls at hl ⊢
  have hl : lv_has ls 2 [(0, .ref L.1), (1, .int a0)] := hl
  exact bM_is_e C0 ⟨Nat.le_refl _, Nat.le_refl _⟩ _ _ _ [] ls hG hl hF
def fM_codes (N : Nat) (σ : mS) (a0 : Int32) : Option (mS × Int32) :=
  nmv (σ.1 20) fun x_1 =>
  nmv (mSi σ 20 (x_1 + 1)) fun σ_2 =>
  chk x_1 200 <| nmv (mSj σ_2 25 x_1.toNatClampNeg a0) fun σ_3 =>
  chb 1 (some (σ_3, 1))
theorem bM_codes_e {N : Nat} (C0 : mCx p s m args meth c cX2_codes 2 (some .boolean) L A) (hRo : 0 ≤ R.frames ∧ 0 ≤ R.locals) {σ' : mS} {r : Int32} (σ : mS) (a0 : Int32) (H : Heap) (locs : List Loc) (ls : Array Slot) (hG : mG A L s σ H locs) (hl : lv_has ls 2 [(0, .ref L.1), (1, .int a0)]) (hF : fM_codes N σ a0 = some (σ', r)) : W p l e R s m args below meth c H locs 0 0 (mZ below L A s args σ' (some (.int r))) (F0 m 0 ls []) := by
  have hx := C0.1
  have hb := C0.2.1
  unfold fM_codes at hF
  refine lv_aload_n hx hb dX2_codes_0 rfl (lv_at hl 0 rfl) ?_
  refine m_geta C0 hG 25 (by decide) rfl q1603 dX2_codes_1 ?_
  refine lv_aload_n hx hb dX2_codes_4 rfl (lv_at hl 0 rfl) ?_
  refine lv_dup hx hb dX2_codes_5 rfl ?_
  refine m_geti C0 hG 20 (by decide) rfl q1598 dX2_codes_6 hF (fun x_1 hF => ?_)
  refine lv_dup_x1 hx hb dX2_codes_9 rfl rfl ?_
  refine lv_iconst (v := 1) hx hb dX2_codes_10 (by decide) ?_
  refine lv_iadd hx hb dX2_codes_11 ?_
  refine m_puti C0 hG 20 (by decide) rfl q1598 dX2_codes_12 (Or.inl ⟨by decide, by decide⟩) hF (fun σ_2 H locs hG hF => ?_)
  refine lv_iload_n hx hb dX2_codes_15 rfl (lv_at hl 1 rfl) ?_
  refine m_st C0 hG 25 ⟨by decide, rfl, by decide⟩ dX2_codes_16 hF (fun σ_3 H locs hG hF => ?_)
  refine lv_iconst (v := 1) hx hb dX2_codes_17 (by decide) ?_
  exact m_zret C0 hG dX2_codes_18 hF
theorem mtM_codes (l : Launch) {N : Nat} {L : mL} {σ σ' : mS} {r : Int32} {a0 : Int32} (hF : fM_codes N σ a0 = some (σ', r)) : mMet l yX2_codes cX2_codes 2 (some .boolean) (0) (0) [.ref L.1, .int a0] L σ (some (.int r)) σ' := by
  refine m_head (by decide) rfl ?_
  intro p e s m below meth c A C0 hG
  have hl := lv_entry ([.ref L.1, .int a0]) (n := 2) (Nat.le_of_ble_eq_true rfl)
  rw [lg_entry_eq]
  generalize (lg_sl ([.ref L.1, .int a0]) ++ List.replicate (2 - (lg_sl ([.ref L.1, .int a0])).length) Slot.unset).toArray = ls at hl ⊢
  have hl : lv_has ls 2 [(0, .ref L.1), (1, .int a0)] := hl
  exact bM_codes_e C0 ⟨Nat.le_refl _, Nat.le_refl _⟩ _ _ _ [] ls hG hl hF
def fM_isDigit (N : Nat) (σ : mS) : Option (mS × Int32) :=
  obi (fM_sign N σ) fun σ_1 r_2 =>
  if r_2 < 48 then (
    chb 0 (some (σ_1, 0)))
  else (
    obi (fM_sign N σ_1) fun σ_5 r_6 =>
    if 57 < r_6 then (
      chb 0 (some (σ_5, 0)))
    else (
      chb 1 (some (σ_5, 1))))
theorem bM_isDigit_e {N : Nat} (C0 : mCx p s m args meth c cX2_isDigit 1 (some .boolean) L A) (hRo : 1 ≤ R.frames ∧ 20 ≤ R.locals) {σ' : mS} {r : Int32} (σ : mS) (H : Heap) (locs : List Loc) (ls : Array Slot) (hG : mG A L s σ H locs) (hl : lv_has ls 1 [(0, .ref L.1)]) (hF : fM_isDigit N σ = some (σ', r)) : W p l e R s m args below meth c H locs 0 0 (mZ below L A s args σ' (some (.int r))) (F0 m 0 ls []) := by
  have hx := C0.1
  have hb := C0.2.1
  unfold fM_isDigit at hF
  refine lv_aload_n hx hb dX2_isDigit_0 rfl (lv_at hl 0 rfl) ?_
  obtain ⟨σ_1, r_2, e_3, hF⟩ := obi_of hF
  refine m_cVi (As := []) (rest := []) C0 hG (mtM_sign l e_3) (lw_V q1842 q1844 qs65 q102 q1845) yd_X2_sign ⟨by omega, by omega⟩ rfl rfl hl.1 (Nat.le_of_ble_eq_true rfl) dX2_isDigit_1 (fun H locs hG => ?_)
  refine lv_bipush (v := 48) hx hb dX2_isDigit_4 (by decide) ?_
  refine lv_icmp_lt (tgt := 22) hx hb dX2_isDigit_6 (by decide) (fun c_4 => ?_) (fun c_4 => ?_)
  · have hF := ifp hF c_4
    refine lv_iconst (v := 0) hx hb dX2_isDigit_22 (by decide) ?_
    exact m_zret C0 hG dX2_isDigit_23 hF
  · have hF := ifn hF c_4
    refine lv_aload_n hx hb dX2_isDigit_9 rfl (lv_at hl 0 rfl) ?_
    obtain ⟨σ_5, r_6, e_7, hF⟩ := obi_of hF
    refine m_cVi (As := []) (rest := []) C0 hG (mtM_sign l e_7) (lw_V q1842 q1844 qs65 q102 q1845) yd_X2_sign ⟨by omega, by omega⟩ rfl rfl hl.1 (Nat.le_of_ble_eq_true rfl) dX2_isDigit_10 (fun H locs hG => ?_)
    refine lv_bipush (v := 57) hx hb dX2_isDigit_13 (by decide) ?_
    refine lv_icmp_gt (tgt := 22) hx hb dX2_isDigit_15 (by decide) (fun c_8 => ?_) (fun c_8 => ?_)
    · have hF := ifp hF c_8
      refine lv_iconst (v := 0) hx hb dX2_isDigit_22 (by decide) ?_
      exact m_zret C0 hG dX2_isDigit_23 hF
    · have hF := ifn hF c_8
      refine lv_iconst (v := 1) hx hb dX2_isDigit_18 (by decide) ?_
      refine lv_goto (tgt := 23) hx hb dX2_isDigit_19 (by decide) ?_
      exact m_zret C0 hG dX2_isDigit_23 hF
theorem mtM_isDigit (l : Launch) {N : Nat} {L : mL} {σ σ' : mS} {r : Int32} (hF : fM_isDigit N σ = some (σ', r)) : mMet l yX2_isDigit cX2_isDigit 1 (some .boolean) (1) (20) [.ref L.1] L σ (some (.int r)) σ' := by
  refine m_head (by decide) rfl ?_
  intro p e s m below meth c A C0 hG
  have hl := lv_entry ([.ref L.1]) (n := 1) (Nat.le_of_ble_eq_true rfl)
  rw [lg_entry_eq]
  generalize (lg_sl ([.ref L.1]) ++ List.replicate (1 - (lg_sl ([.ref L.1])).length) Slot.unset).toArray = ls at hl ⊢
  have hl : lv_has ls 1 [(0, .ref L.1)] := hl
  exact bM_isDigit_e C0 ⟨Nat.le_refl _, Nat.le_refl _⟩ _ _ [] ls hG hl hF
end MWALK1
