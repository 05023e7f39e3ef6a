section XWALK7
variable {p : Program} {l : Launch} {e : Env} {R : Room} {s : State} {m : MethodId} {args : Array Value} {below : List Frame} {meth : Method} {c : Code} {A : Nat → Prop}
variable {L : xL} {g : xg}
def fX_routine (N : Nat) (σ : xS) (a0 : Int32) (a1 : Int32) : Option (xS × Int32) :=
  obi (fX_isShelf N σ a0) fun σ_1 r_2 =>
  if r_2 = 0 then (
    some (σ_1, (-1)))
  else (
    obi (fX_in N σ_1 a1 0 3) fun σ_5 r_6 =>
    if r_6 = 0 then (
      some (σ_5, (-1)))
    else (
      obi (fX_layRoutine N σ_5 a0) fun σ_9 r_10 =>
      if 0 ≤ r_10 then (
        if a1 = 0 then (
          nmv (xI σ_9 15) fun x_25 =>
          some (σ_9, x_25))
        else (
          if a1 = 1 then (
            obi (fX_marks N σ_9) fun σ_22 r_23 =>
            some (σ_22, r_23))
          else (
            if a1 = 2 then (
              obi (fX_firstSeen N σ_9) fun σ_19 r_20 =>
              some (σ_19, r_20))
            else (
              obi (fX_worstTwo N σ_9) fun σ_16 r_17 =>
              some (σ_16, r_17)))))
      else (
        some (σ_9, r_10))))
theorem bX_routine_e {N : Nat} (C0 : xCx p l s m args meth c RX0 cX0_routine 4 (some .int) L A) (hRo : 215 ≤ R.frames ∧ 12024 ≤ R.locals ∧ 8 ≤ R.cells ∧ 1200 ≤ R.slots) {σ' : xS} {r : Int32} (σ : xS) (a0 : Int32) (a1 : Int32) (H : Heap) (locs : List Loc) (ls : Array Slot) (cells slots : Nat) (hcs : cells + 8 ≤ 8 ∧ slots + 1200 ≤ 1200) (hG : xG A L g s σ H locs) (hl : lv_has ls 4 [(0, .ref L.1), (1, .int a0), (2, .int a1)]) (hF : fX_routine N σ a0 a1 = some (σ', r)) : W p l e R s m args below meth c H locs cells slots (xZ below L g A s args σ' (some (.int r)) 8 1200) (F0 m 0 ls []) := by
  have hx := C0.1
  have hb := C0.2.1
  have hst := C0.2.2.2.2.2.2.2.2.2.2
  unfold fX_routine at hF
  refine lv_iload_n hx hb dX0_routine_0 rfl (lv_at hl 1 rfl) ?_
  obtain ⟨σ_1, r_2, e_3, hF⟩ := obi_of hF
  refine x_cSi0 (As := [.int a0]) (rest := []) C0 hG (mtX_isShelf l hst e_3) (lw_S q489 q490 q100 q491) yd_X0_isShelf ⟨by omega, by omega⟩ ⟨by omega, by omega⟩ rfl rfl hl.1 (Nat.le_of_ble_eq_true rfl) dX0_routine_1 (fun H locs hG => ?_)
  refine lv_if_eq (tgt := 16) hx hb dX0_routine_4 (by decide) (fun c_4 => ?_) (fun c_4 => ?_)
  · have hF := ifp hF c_4
    refine lv_iconst (v := (-1)) hx hb dX0_routine_16 (by decide) ?_
    exact x_iret C0 hG ⟨by omega, by omega⟩ dX0_routine_17 hF
  · have hF := ifn hF c_4
    refine lv_iload_n hx hb dX0_routine_7 rfl (lv_at hl 2 rfl) ?_
    refine lv_iconst (v := 0) hx hb dX0_routine_8 (by decide) ?_
    refine lv_iconst (v := 3) hx hb dX0_routine_9 (by decide) ?_
    obtain ⟨σ_5, r_6, e_7, hF⟩ := obi_of hF
    refine x_cSi0 (As := [.int a1, .int 0, .int 3]) (rest := []) C0 hG (mtX_in l hst e_7) (lw_S q316 q317 q100 q318) yd_X0_in ⟨by omega, by omega⟩ ⟨by omega, by omega⟩ rfl rfl hl.1 (Nat.le_of_ble_eq_true rfl) dX0_routine_10 (fun H locs hG => ?_)
    refine lv_if_ne (tgt := 18) hx hb dX0_routine_13 (by decide) (fun c_8 => ?_) (fun c_8 => ?_)
    · have hF := ifn hF c_8
      refine lv_aload_n hx hb dX0_routine_18 rfl (lv_at hl 0 rfl) ?_
      refine lv_iload_n hx hb dX0_routine_19 rfl (lv_at hl 1 rfl) ?_
      obtain ⟨σ_9, r_10, e_11, hF⟩ := obi_of hF
      refine x_cWi (As := [.int a0]) (rest := []) C0 hG (mtX_layRoutine l hst e_11) (lw_VW q862 q864 qs22 q100 q865) yd_X0_layRoutine (x_rc0 C0 hG) ⟨by omega, by omega⟩ ⟨by omega, by omega⟩ rfl rfl hl.1 (Nat.le_of_ble_eq_true rfl) dX0_routine_20 (fun H locs hG => ?_)
      refine lv_istore_n (lv' := [(3, .int r_10), (0, .ref L.1), (1, .int a0), (2, .int a1)]) hx hb dX0_routine_23 rfl hl (by decide) rfl (fun ls hl => ?_)
      refine lv_iload_n hx hb dX0_routine_24 rfl (lv_at hl 0 rfl) ?_
      refine lv_if_ge (tgt := 30) hx hb dX0_routine_25 (by decide) (fun c_12 => ?_) (fun c_12 => ?_)
      · have hF := ifp hF c_12
        refine lv_iload_n hx hb dX0_routine_30 rfl (lv_at hl 3 rfl) ?_
        refine lv_if_ne (tgt := 41) hx hb dX0_routine_31 (by decide) (fun c_13 => ?_) (fun c_13 => ?_)
        · have hF := ifn hF c_13
          refine lv_iload_n hx hb dX0_routine_41 rfl (lv_at hl 3 rfl) ?_
          refine lv_iconst (v := 1) hx hb dX0_routine_42 (by decide) ?_
          refine lv_icmp_ne (tgt := 53) hx hb dX0_routine_43 (by decide) (fun c_14 => ?_) (fun c_14 => ?_)
          · have hF := ifn hF c_14
            refine lv_iload_n hx hb dX0_routine_53 rfl (lv_at hl 3 rfl) ?_
            refine lv_iconst (v := 2) hx hb dX0_routine_54 (by decide) ?_
            refine lv_icmp_ne (tgt := 65) hx hb dX0_routine_55 (by decide) (fun c_15 => ?_) (fun c_15 => ?_)
            · have hF := ifn hF c_15
              refine lv_aload_n hx hb dX0_routine_65 rfl (lv_at hl 1 rfl) ?_
              obtain ⟨σ_16, r_17, e_18, hF⟩ := obi_of hF
              refine x_cVi0 (As := []) (rest := []) C0 hG (mtX_worstTwo l hst e_18) (lw_V q902 q904 qs31 q100 q905) yd_X0_worstTwo (x_rc0 C0 hG) ⟨by omega, by omega⟩ ⟨by omega, by omega⟩ rfl rfl hl.1 (Nat.le_of_ble_eq_true rfl) dX0_routine_66 (fun H locs hG => ?_)
              exact x_iret C0 hG ⟨by omega, by omega⟩ dX0_routine_69 hF
            · have hF := ifp hF c_15
              refine lv_aload_n hx hb dX0_routine_58 rfl (lv_at hl 1 rfl) ?_
              obtain ⟨σ_19, r_20, e_21, hF⟩ := obi_of hF
              refine x_cVi0 (As := []) (rest := []) C0 hG (mtX_firstSeen l hst e_21) (lw_V q894 q896 qs29 q100 q897) yd_X0_firstSeen (x_rc0 C0 hG) ⟨by omega, by omega⟩ ⟨by omega, by omega⟩ rfl rfl hl.1 (Nat.le_of_ble_eq_true rfl) dX0_routine_59 (fun H locs hG => ?_)
              refine lv_goto (tgt := 69) hx hb dX0_routine_62 (by decide) ?_
              exact x_iret C0 hG ⟨by omega, by omega⟩ dX0_routine_69 hF
          · have hF := ifp hF c_14
            refine lv_aload_n hx hb dX0_routine_46 rfl (lv_at hl 1 rfl) ?_
            obtain ⟨σ_22, r_23, e_24, hF⟩ := obi_of hF
            refine x_cVi0 (As := []) (rest := []) C0 hG (mtX_marks l hst e_24) (lw_V q870 q872 qs23 q100 q873) yd_X0_marks (x_rc0 C0 hG) ⟨by omega, by omega⟩ ⟨by omega, by omega⟩ rfl rfl hl.1 (Nat.le_of_ble_eq_true rfl) dX0_routine_47 (fun H locs hG => ?_)
            refine lv_goto (tgt := 69) hx hb dX0_routine_50 (by decide) ?_
            exact x_iret C0 hG ⟨by omega, by omega⟩ dX0_routine_69 hF
        · have hF := ifp hF c_13
          refine lv_aload_n hx hb dX0_routine_34 rfl (lv_at hl 1 rfl) ?_
          refine x_geti C0 hG 15 (by decide) rfl q191 dX0_routine_35 hF (fun x_25 hF => ?_)
          refine lv_goto (tgt := 69) hx hb dX0_routine_38 (by decide) ?_
          exact x_iret C0 hG ⟨by omega, by omega⟩ dX0_routine_69 hF
      · have hF := ifn hF c_12
        refine lv_iload_n hx hb dX0_routine_28 rfl (lv_at hl 0 rfl) ?_
        exact x_iret C0 hG ⟨by omega, by omega⟩ dX0_routine_29 hF
    · have hF := ifp hF c_8
      refine lv_iconst (v := (-1)) hx hb dX0_routine_16 (by decide) ?_
      exact x_iret C0 hG ⟨by omega, by omega⟩ dX0_routine_17 hF
theorem mtX_routine (l : Launch) (hst : l.stackTraces = false) {N : Nat} {L : xL} {g : xg} {σ σ' : xS} {r : Int32} {a0 : Int32} {a1 : Int32} (hF : fX_routine N σ a0 a1 = some (σ', r)) : xMet l yX0_routine cX0_routine 4 (some .int) (215) (12024) 8 1200 [.ref L.1, .int a0, .int a1] L g σ (some (.int r)) σ' := by
  refine x_head hst (by decide) rfl ?_
  intro p e s m below meth c A C0 hG
  have hl := lv_entry ([.ref L.1, .int a0, .int a1]) (n := 4) (Nat.le_of_ble_eq_true rfl)
  rw [lg_entry_eq]
  generalize (lg_sl ([.ref L.1, .int a0, .int a1]) ++ List.replicate (4 - (lg_sl ([.ref L.1, .int a0, .int a1])).length) Slot.unset).toArray = ls at hl ⊢
  have hl : lv_has ls 4 [(0, .ref L.1), (1, .int a0), (2, .int a1)] := hl
  exact bX_routine_e C0 ⟨Nat.le_refl _, Nat.le_refl _, Nat.le_refl _, Nat.le_refl _⟩ _ _ _ _ [] ls 0 0 ⟨Nat.le_of_ble_eq_true rfl, Nat.le_of_ble_eq_true rfl⟩ hG hl hF
def fX_off (N : Nat) (σ : xS) (a0 : Int32) (a1 : Int32) (a2 : Int32) : Option (xS × Int32) :=
  obi (fX_isShelf N σ a0) fun σ_1 r_2 =>
  if r_2 = 0 then (
    some (σ_1, (-2000000000)))
  else (
    obi (fX_in N σ_1 a1 0 60) fun σ_5 r_6 =>
    if r_6 = 0 then (
      some (σ_5, (-2000000000)))
    else (
      obi (fX_isOne N σ_5 a2) fun σ_9 r_10 =>
      if r_10 = 0 then (
        some (σ_9, (-2000000000)))
      else (
        obi (fX_layRoutine N σ_9 a0) fun σ_13 r_14 =>
        if 0 ≤ r_14 then (
          obi (fX_goCounts N σ_13 a1) fun σ_17 r_18 =>
          obi (fX_offOf N σ_17 a2) fun σ_20 r_21 =>
          some (σ_20, r_21))
        else (
          some (σ_13, (-2000000000))))))
theorem bX_off_e {N : Nat} (C0 : xCx p l s m args meth c RX0 cX0_off 4 (some .int) L A) (hRo : 41 ≤ R.frames ∧ 12024 ≤ R.locals ∧ 8 ≤ R.cells ∧ 1200 ≤ R.slots) {σ' : xS} {r : Int32} (σ : xS) (a0 : Int32) (a1 : Int32) (a2 : Int32) (H : Heap) (locs : List Loc) (ls : Array Slot) (cells slots : Nat) (hcs : cells + 8 ≤ 8 ∧ slots + 1200 ≤ 1200) (hG : xG A L g s σ H locs) (hl : lv_has ls 4 [(0, .ref L.1), (1, .int a0), (2, .int a1), (3, .int a2)]) (hF : fX_off N σ a0 a1 a2 = some (σ', r)) : W p l e R s m args below meth c H locs cells slots (xZ below L g A s args σ' (some (.int r)) 8 1200) (F0 m 0 ls []) := by
  have hx := C0.1
  have hb := C0.2.1
  have hst := C0.2.2.2.2.2.2.2.2.2.2
  unfold fX_off at hF
  refine lv_iload_n hx hb dX0_off_0 rfl (lv_at hl 1 rfl) ?_
  obtain ⟨σ_1, r_2, e_3, hF⟩ := obi_of hF
  refine x_cSi0 (As := [.int a0]) (rest := []) C0 hG (mtX_isShelf l hst e_3) (lw_S q489 q490 q100 q491) yd_X0_isShelf ⟨by omega, by omega⟩ ⟨by omega, by omega⟩ rfl rfl hl.1 (Nat.le_of_ble_eq_true rfl) dX0_off_1 (fun H locs hG => ?_)
  refine lv_if_eq (tgt := 33) hx hb dX0_off_4 (by decide) (fun c_4 => ?_) (fun c_4 => ?_)
  · have hF := ifp hF c_4
    refine lv_ldc (v := (-2000000000)) hx hb C0.2.2.2.1 (C0.2.2.2.2.1 _ q554) dX0_off_33 ?_
    exact x_iret C0 hG ⟨by omega, by omega⟩ dX0_off_35 hF
  · have hF := ifn hF c_4
    refine lv_iload_n hx hb dX0_off_7 rfl (lv_at hl 2 rfl) ?_
    refine lv_iconst (v := 0) hx hb dX0_off_8 (by decide) ?_
    refine lv_bipush (v := 60) hx hb dX0_off_9 (by decide) ?_
    obtain ⟨σ_5, r_6, e_7, hF⟩ := obi_of hF
    refine x_cSi0 (As := [.int a1, .int 0, .int 60]) (rest := []) C0 hG (mtX_in l hst e_7) (lw_S q316 q317 q100 q318) yd_X0_in ⟨by omega, by omega⟩ ⟨by omega, by omega⟩ rfl rfl hl.1 (Nat.le_of_ble_eq_true rfl) dX0_off_11 (fun H locs hG => ?_)
    refine lv_if_eq (tgt := 33) hx hb dX0_off_14 (by decide) (fun c_8 => ?_) (fun c_8 => ?_)
    · have hF := ifp hF c_8
      refine lv_ldc (v := (-2000000000)) hx hb C0.2.2.2.1 (C0.2.2.2.2.1 _ q554) dX0_off_33 ?_
      exact x_iret C0 hG ⟨by omega, by omega⟩ dX0_off_35 hF
    · have hF := ifn hF c_8
      refine lv_aload_n hx hb dX0_off_17 rfl (lv_at hl 0 rfl) ?_
      refine lv_iload_n hx hb dX0_off_18 rfl (lv_at hl 3 rfl) ?_
      obtain ⟨σ_9, r_10, e_11, hF⟩ := obi_of hF
      refine x_cVi0 (As := [.int a2]) (rest := []) C0 hG (mtX_isOne l hst e_11) (lw_V q517 q519 qs5 q100 q520) yd_X0_isOne (x_rc0 C0 hG) ⟨by omega, by omega⟩ ⟨by omega, by omega⟩ rfl rfl hl.1 (Nat.le_of_ble_eq_true rfl) dX0_off_19 (fun H locs hG => ?_)
      refine lv_if_eq (tgt := 33) hx hb dX0_off_22 (by decide) (fun c_12 => ?_) (fun c_12 => ?_)
      · have hF := ifp hF c_12
        refine lv_ldc (v := (-2000000000)) hx hb C0.2.2.2.1 (C0.2.2.2.2.1 _ q554) dX0_off_33 ?_
        exact x_iret C0 hG ⟨by omega, by omega⟩ dX0_off_35 hF
      · have hF := ifn hF c_12
        refine lv_aload_n hx hb dX0_off_25 rfl (lv_at hl 0 rfl) ?_
        refine lv_iload_n hx hb dX0_off_26 rfl (lv_at hl 1 rfl) ?_
        obtain ⟨σ_13, r_14, e_15, hF⟩ := obi_of hF
        refine x_cWi (As := [.int a0]) (rest := []) C0 hG (mtX_layRoutine l hst e_15) (lw_VW q862 q864 qs22 q100 q865) yd_X0_layRoutine (x_rc0 C0 hG) ⟨by omega, by omega⟩ ⟨by omega, by omega⟩ rfl rfl hl.1 (Nat.le_of_ble_eq_true rfl) dX0_off_27 (fun H locs hG => ?_)
        refine lv_if_ge (tgt := 36) hx hb dX0_off_30 (by decide) (fun c_16 => ?_) (fun c_16 => ?_)
        · have hF := ifp hF c_16
          refine lv_aload_n hx hb dX0_off_36 rfl (lv_at hl 0 rfl) ?_
          refine lv_iload_n hx hb dX0_off_37 rfl (lv_at hl 2 rfl) ?_
          obtain ⟨σ_17, r_18, e_19, hF⟩ := obi_of hF
          refine x_cVv0 (As := [.int a1]) (rest := []) C0 hG (mtX_goCounts l hst e_19) (lw_V q910 q912 qs32 q100 q913) yd_X0_goCounts (x_rc0 C0 hG) ⟨by omega, by omega⟩ ⟨by omega, by omega⟩ rfl rfl hl.1 (Nat.le_of_ble_eq_true rfl) dX0_off_38 (fun H locs hG => ?_)
          refine lv_aload_n hx hb dX0_off_41 rfl (lv_at hl 0 rfl) ?_
          refine lv_iload_n hx hb dX0_off_42 rfl (lv_at hl 3 rfl) ?_
          obtain ⟨σ_20, r_21, e_22, hF⟩ := obi_of hF
          refine x_cVi0 (As := [.int a2]) (rest := []) C0 hG (mtX_offOf l hst e_22) (lw_V q890 q892 qs28 q100 q893) yd_X0_offOf (x_rc0 C0 hG) ⟨by omega, by omega⟩ ⟨by omega, by omega⟩ rfl rfl hl.1 (Nat.le_of_ble_eq_true rfl) dX0_off_43 (fun H locs hG => ?_)
          exact x_iret C0 hG ⟨by omega, by omega⟩ dX0_off_46 hF
        · have hF := ifn hF c_16
          refine lv_ldc (v := (-2000000000)) hx hb C0.2.2.2.1 (C0.2.2.2.2.1 _ q554) dX0_off_33 ?_
          exact x_iret C0 hG ⟨by omega, by omega⟩ dX0_off_35 hF
theorem mtX_off (l : Launch) (hst : l.stackTraces = false) {N : Nat} {L : xL} {g : xg} {σ σ' : xS} {r : Int32} {a0 : Int32} {a1 : Int32} {a2 : Int32} (hF : fX_off N σ a0 a1 a2 = some (σ', r)) : xMet l yX0_off cX0_off 4 (some .int) (41) (12024) 8 1200 [.ref L.1, .int a0, .int a1, .int a2] L g σ (some (.int r)) σ' := by
  refine x_head hst (by decide) rfl ?_
  intro p e s m below meth c A C0 hG
  have hl := lv_entry ([.ref L.1, .int a0, .int a1, .int a2]) (n := 4) (Nat.le_of_ble_eq_true rfl)
  rw [lg_entry_eq]
  generalize (lg_sl ([.ref L.1, .int a0, .int a1, .int a2]) ++ List.replicate (4 - (lg_sl ([.ref L.1, .int a0, .int a1, .int a2])).length) Slot.unset).toArray = ls at hl ⊢
  have hl : lv_has ls 4 [(0, .ref L.1), (1, .int a0), (2, .int a1), (3, .int a2)] := hl
  exact bX_off_e C0 ⟨Nat.le_refl _, Nat.le_refl _, Nat.le_refl _, Nat.le_refl _⟩ _ _ _ _ _ [] ls 0 0 ⟨Nat.le_of_ble_eq_true rfl, Nat.le_of_ble_eq_true rfl⟩ hG hl hF
def fX_apart (N : Nat) (σ : xS) (a0 : Int32) (a1 : Int32) (a2 : Int32) : Option (xS × Int32) :=
  obi (fX_isShelf N σ a0) fun σ_1 r_2 =>
  if r_2 = 0 then (
    some (σ_1, (-1)))
  else (
    obi (fX_in N σ_1 a1 0 60) fun σ_5 r_6 =>
    if r_6 = 0 then (
      some (σ_5, (-1)))
    else (
      obi (fX_in N σ_5 a2 0 1) fun σ_9 r_10 =>
      if r_10 = 0 then (
        some (σ_9, (-1)))
      else (
        obi (fX_layRoutine N σ_9 a0) fun σ_13 r_14 =>
        if 0 ≤ r_14 then (
          obi (fX_goCounts N σ_13 a1) fun σ_17 r_18 =>
          if a2 = 0 then (
            obi (fX_apartNow N σ_17) fun σ_24 r_25 =>
            some (σ_24, r_25))
          else (
            obi (fX_firstApart N σ_17) fun σ_21 r_22 =>
            some (σ_21, r_22)))
        else (
          some (σ_13, r_14)))))
theorem bX_apart_e {N : Nat} (C0 : xCx p l s m args meth c RX0 cX0_apart 5 (some .int) L A) (hRo : 41 ≤ R.frames ∧ 12024 ≤ R.locals ∧ 8 ≤ R.cells ∧ 1200 ≤ R.slots) {σ' : xS} {r : Int32} (σ : xS) (a0 : Int32) (a1 : Int32) (a2 : Int32) (H : Heap) (locs : List Loc) (ls : Array Slot) (cells slots : Nat) (hcs : cells + 8 ≤ 8 ∧ slots + 1200 ≤ 1200) (hG : xG A L g s σ H locs) (hl : lv_has ls 5 [(0, .ref L.1), (1, .int a0), (2, .int a1), (3, .int a2)]) (hF : fX_apart N σ a0 a1 a2 = some (σ', r)) : W p l e R s m args below meth c H locs cells slots (xZ below L g A s args σ' (some (.int r)) 8 1200) (F0 m 0 ls []) := by
  have hx := C0.1
  have hb := C0.2.1
  have hst := C0.2.2.2.2.2.2.2.2.2.2
  unfold fX_apart at hF
  refine lv_iload_n hx hb dX0_apart_0 rfl (lv_at hl 1 rfl) ?_
  obtain ⟨σ_1, r_2, e_3, hF⟩ := obi_of hF
  refine x_cSi0 (As := [.int a0]) (rest := []) C0 hG (mtX_isShelf l hst e_3) (lw_S q489 q490 q100 q491) yd_X0_isShelf ⟨by omega, by omega⟩ ⟨by omega, by omega⟩ rfl rfl hl.1 (Nat.le_of_ble_eq_true rfl) dX0_apart_1 (fun H locs hG => ?_)
  refine lv_if_eq (tgt := 26) hx hb dX0_apart_4 (by decide) (fun c_4 => ?_) (fun c_4 => ?_)
  · have hF := ifp hF c_4
    refine lv_iconst (v := (-1)) hx hb dX0_apart_26 (by decide) ?_
    exact x_iret C0 hG ⟨by omega, by omega⟩ dX0_apart_27 hF
  · have hF := ifn hF c_4
    refine lv_iload_n hx hb dX0_apart_7 rfl (lv_at hl 2 rfl) ?_
    refine lv_iconst (v := 0) hx hb dX0_apart_8 (by decide) ?_
    refine lv_bipush (v := 60) hx hb dX0_apart_9 (by decide) ?_
    obtain ⟨σ_5, r_6, e_7, hF⟩ := obi_of hF
    refine x_cSi0 (As := [.int a1, .int 0, .int 60]) (rest := []) C0 hG (mtX_in l hst e_7) (lw_S q316 q317 q100 q318) yd_X0_in ⟨by omega, by omega⟩ ⟨by omega, by omega⟩ rfl rfl hl.1 (Nat.le_of_ble_eq_true rfl) dX0_apart_11 (fun H locs hG => ?_)
    refine lv_if_eq (tgt := 26) hx hb dX0_apart_14 (by decide) (fun c_8 => ?_) (fun c_8 => ?_)
    · have hF := ifp hF c_8
      refine lv_iconst (v := (-1)) hx hb dX0_apart_26 (by decide) ?_
      exact x_iret C0 hG ⟨by omega, by omega⟩ dX0_apart_27 hF
    · have hF := ifn hF c_8
      refine lv_iload_n hx hb dX0_apart_17 rfl (lv_at hl 3 rfl) ?_
      refine lv_iconst (v := 0) hx hb dX0_apart_18 (by decide) ?_
      refine lv_iconst (v := 1) hx hb dX0_apart_19 (by decide) ?_
      obtain ⟨σ_9, r_10, e_11, hF⟩ := obi_of hF
      refine x_cSi0 (As := [.int a2, .int 0, .int 1]) (rest := []) C0 hG (mtX_in l hst e_11) (lw_S q316 q317 q100 q318) yd_X0_in ⟨by omega, by omega⟩ ⟨by omega, by omega⟩ rfl rfl hl.1 (Nat.le_of_ble_eq_true rfl) dX0_apart_20 (fun H locs hG => ?_)
      refine lv_if_ne (tgt := 28) hx hb dX0_apart_23 (by decide) (fun c_12 => ?_) (fun c_12 => ?_)
      · have hF := ifn hF c_12
        refine lv_aload_n hx hb dX0_apart_28 rfl (lv_at hl 0 rfl) ?_
        refine lv_iload_n hx hb dX0_apart_29 rfl (lv_at hl 1 rfl) ?_
        obtain ⟨σ_13, r_14, e_15, hF⟩ := obi_of hF
        refine x_cWi (As := [.int a0]) (rest := []) C0 hG (mtX_layRoutine l hst e_15) (lw_VW q862 q864 qs22 q100 q865) yd_X0_layRoutine (x_rc0 C0 hG) ⟨by omega, by omega⟩ ⟨by omega, by omega⟩ rfl rfl hl.1 (Nat.le_of_ble_eq_true rfl) dX0_apart_30 (fun H locs hG => ?_)
        refine lv_istore (lv' := [(4, .int r_14), (0, .ref L.1), (1, .int a0), (2, .int a1), (3, .int a2)]) hx hb dX0_apart_33 hl (by decide) rfl (fun ls hl => ?_)
        refine lv_iload hx hb dX0_apart_35 (lv_at hl 0 rfl) ?_
        refine lv_if_ge (tgt := 43) hx hb dX0_apart_37 (by decide) (fun c_16 => ?_) (fun c_16 => ?_)
        · have hF := ifp hF c_16
          refine lv_aload_n hx hb dX0_apart_43 rfl (lv_at hl 1 rfl) ?_
          refine lv_iload_n hx hb dX0_apart_44 rfl (lv_at hl 3 rfl) ?_
          obtain ⟨σ_17, r_18, e_19, hF⟩ := obi_of hF
          refine x_cVv0 (As := [.int a1]) (rest := []) C0 hG (mtX_goCounts l hst e_19) (lw_V q910 q912 qs32 q100 q913) yd_X0_goCounts (x_rc0 C0 hG) ⟨by omega, by omega⟩ ⟨by omega, by omega⟩ rfl rfl hl.1 (Nat.le_of_ble_eq_true rfl) dX0_apart_45 (fun H locs hG => ?_)
          refine lv_iload_n hx hb dX0_apart_48 rfl (lv_at hl 4 rfl) ?_
          refine lv_if_ne (tgt := 59) hx hb dX0_apart_49 (by decide) (fun c_20 => ?_) (fun c_20 => ?_)
          · have hF := ifn hF c_20
            refine lv_aload_n hx hb dX0_apart_59 rfl (lv_at hl 1 rfl) ?_
            obtain ⟨σ_21, r_22, e_23, hF⟩ := obi_of hF
            refine x_cVi0 (As := []) (rest := []) C0 hG (mtX_firstApart l hst e_23) (lw_V q918 q920 qs33 q100 q921) yd_X0_firstApart (x_rc0 C0 hG) ⟨by omega, by omega⟩ ⟨by omega, by omega⟩ rfl rfl hl.1 (Nat.le_of_ble_eq_true rfl) dX0_apart_60 (fun H locs hG => ?_)
            exact x_iret C0 hG ⟨by omega, by omega⟩ dX0_apart_63 hF
          · have hF := ifp hF c_20
            refine lv_aload_n hx hb dX0_apart_52 rfl (lv_at hl 1 rfl) ?_
            obtain ⟨σ_24, r_25, e_26, hF⟩ := obi_of hF
            refine x_cVi0 (As := []) (rest := []) C0 hG (mtX_apartNow l hst e_26) (lw_V q898 q900 qs30 q100 q901) yd_X0_apartNow (x_rc0 C0 hG) ⟨by omega, by omega⟩ ⟨by omega, by omega⟩ rfl rfl hl.1 (Nat.le_of_ble_eq_true rfl) dX0_apart_53 (fun H locs hG => ?_)
            refine lv_goto (tgt := 63) hx hb dX0_apart_56 (by decide) ?_
            exact x_iret C0 hG ⟨by omega, by omega⟩ dX0_apart_63 hF
        · have hF := ifn hF c_16
          refine lv_iload hx hb dX0_apart_40 (lv_at hl 0 rfl) ?_
          exact x_iret C0 hG ⟨by omega, by omega⟩ dX0_apart_42 hF
      · have hF := ifp hF c_12
        refine lv_iconst (v := (-1)) hx hb dX0_apart_26 (by decide) ?_
        exact x_iret C0 hG ⟨by omega, by omega⟩ dX0_apart_27 hF
theorem mtX_apart (l : Launch) (hst : l.stackTraces = false) {N : Nat} {L : xL} {g : xg} {σ σ' : xS} {r : Int32} {a0 : Int32} {a1 : Int32} {a2 : Int32} (hF : fX_apart N σ a0 a1 a2 = some (σ', r)) : xMet l yX0_apart cX0_apart 5 (some .int) (41) (12024) 8 1200 [.ref L.1, .int a0, .int a1, .int a2] L g σ (some (.int r)) σ' := by
  refine x_head hst (by decide) rfl ?_
  intro p e s m below meth c A C0 hG
  have hl := lv_entry ([.ref L.1, .int a0, .int a1, .int a2]) (n := 5) (Nat.le_of_ble_eq_true rfl)
  rw [lg_entry_eq]
  generalize (lg_sl ([.ref L.1, .int a0, .int a1, .int a2]) ++ List.replicate (5 - (lg_sl ([.ref L.1, .int a0, .int a1, .int a2])).length) Slot.unset).toArray = ls at hl ⊢
  have hl : lv_has ls 5 [(0, .ref L.1), (1, .int a0), (2, .int a1), (3, .int a2)] := hl
  exact bX_apart_e C0 ⟨Nat.le_refl _, Nat.le_refl _, Nat.le_refl _, Nat.le_refl _⟩ _ _ _ _ _ [] ls 0 0 ⟨Nat.le_of_ble_eq_true rfl, Nat.le_of_ble_eq_true rfl⟩ hG hl hF
def fX_gone (N : Nat) (σ : xS) (a0 : Int32) (a1 : Int32) : Option (xS × Int32) :=
  obi (fX_isShelf N σ a0) fun σ_1 r_2 =>
  if r_2 = 0 then (
    some (σ_1, (-1)))
  else (
    nmv (xI σ_1 1) fun x_5 =>
    obi (fX_in N σ_1 a1 (-1) (x_5 - 1)) fun σ_6 r_7 =>
    if r_7 = 0 then (
      some (σ_6, (-1)))
    else (
      obi (fX_layRoutine N σ_6 a0) fun σ_10 r_11 =>
      if 0 ≤ r_11 then (
        if 0 ≤ a1 then (
          chk a1 8 <| chl a1.toNatClampNeg (xn σ_10) <| nmv a1.toNatClampNeg fun u_15 =>
          chl u_15 (xn σ_10) <| nmv (xE σ_10 u_15 3) fun x_16 =>
          obi (fX_goneAt N σ_10 x_16) fun σ_17 r_18 =>
          some (σ_17, r_18))
        else (
          obi (fX_allGone N σ_10) fun σ_20 r_21 =>
          some (σ_20, r_21)))
      else (
        some (σ_10, r_11))))
theorem bX_gone_e {N : Nat} (C0 : xCx p l s m args meth c RX0 cX0_gone 4 (some .int) L A) (hRo : 41 ≤ R.frames ∧ 12024 ≤ R.locals ∧ 8 ≤ R.cells ∧ 1200 ≤ R.slots) {σ' : xS} {r : Int32} (σ : xS) (a0 : Int32) (a1 : Int32) (H : Heap) (locs : List Loc) (ls : Array Slot) (cells slots : Nat) (hcs : cells + 8 ≤ 8 ∧ slots + 1200 ≤ 1200) (hG : xG A L g s σ H locs) (hl : lv_has ls 4 [(0, .ref L.1), (1, .int a0), (2, .int a1)]) (hF : fX_gone N σ a0 a1 = some (σ', r)) : W p l e R s m args below meth c H locs cells slots (xZ below L g A s args σ' (some (.int r)) 8 1200) (F0 m 0 ls []) := by
  have hx := C0.1
  have hb := C0.2.1
  have hst := C0.2.2.2.2.2.2.2.2.2.2
  unfold fX_gone at hF
  refine lv_iload_n hx hb dX0_gone_0 rfl (lv_at hl 1 rfl) ?_
  obtain ⟨σ_1, r_2, e_3, hF⟩ := obi_of hF
  refine x_cSi0 (As := [.int a0]) (rest := []) C0 hG (mtX_isShelf l hst e_3) (lw_S q489 q490 q100 q491) yd_X0_isShelf ⟨by omega, by omega⟩ ⟨by omega, by omega⟩ rfl rfl hl.1 (Nat.le_of_ble_eq_true rfl) dX0_gone_1 (fun H locs hG => ?_)
  refine lv_if_eq (tgt := 21) hx hb dX0_gone_4 (by decide) (fun c_4 => ?_) (fun c_4 => ?_)
  · have hF := ifp hF c_4
    refine lv_iconst (v := (-1)) hx hb dX0_gone_21 (by decide) ?_
    exact x_iret C0 hG ⟨by omega, by omega⟩ dX0_gone_22 hF
  · have hF := ifn hF c_4
    refine lv_iload_n hx hb dX0_gone_7 rfl (lv_at hl 2 rfl) ?_
    refine lv_iconst (v := (-1)) hx hb dX0_gone_8 (by decide) ?_
    refine lv_aload_n hx hb dX0_gone_9 rfl (lv_at hl 0 rfl) ?_
    refine x_geti C0 hG 1 (by decide) rfl q175 dX0_gone_10 hF (fun x_5 hF => ?_)
    refine lv_iconst (v := 1) hx hb dX0_gone_13 (by decide) ?_
    refine lv_isub hx hb dX0_gone_14 ?_
    obtain ⟨σ_6, r_7, e_8, hF⟩ := obi_of hF
    refine x_cSi0 (As := [.int a1, .int (-1), .int (x_5 - 1)]) (rest := []) C0 hG (mtX_in l hst e_8) (lw_S q316 q317 q100 q318) yd_X0_in ⟨by omega, by omega⟩ ⟨by omega, by omega⟩ rfl rfl hl.1 (Nat.le_of_ble_eq_true rfl) dX0_gone_15 (fun H locs hG => ?_)
    refine lv_if_ne (tgt := 23) hx hb dX0_gone_18 (by decide) (fun c_9 => ?_) (fun c_9 => ?_)
    · have hF := ifn hF c_9
      refine lv_aload_n hx hb dX0_gone_23 rfl (lv_at hl 0 rfl) ?_
      refine lv_iload_n hx hb dX0_gone_24 rfl (lv_at hl 1 rfl) ?_
      obtain ⟨σ_10, r_11, e_12, hF⟩ := obi_of hF
      refine x_cWi (As := [.int a0]) (rest := []) C0 hG (mtX_layRoutine l hst e_12) (lw_VW q862 q864 qs22 q100 q865) yd_X0_layRoutine (x_rc0 C0 hG) ⟨by omega, by omega⟩ ⟨by omega, by omega⟩ rfl rfl hl.1 (Nat.le_of_ble_eq_true rfl) dX0_gone_25 (fun H locs hG => ?_)
      refine lv_istore_n (lv' := [(3, .int r_11), (0, .ref L.1), (1, .int a0), (2, .int a1)]) hx hb dX0_gone_28 rfl hl (by decide) rfl (fun ls hl => ?_)
      refine lv_iload_n hx hb dX0_gone_29 rfl (lv_at hl 0 rfl) ?_
      refine lv_if_ge (tgt := 35) hx hb dX0_gone_30 (by decide) (fun c_13 => ?_) (fun c_13 => ?_)
      · have hF := ifp hF c_13
        refine lv_iload_n hx hb dX0_gone_35 rfl (lv_at hl 3 rfl) ?_
        refine lv_if_ge (tgt := 46) hx hb dX0_gone_36 (by decide) (fun c_14 => ?_) (fun c_14 => ?_)
        · have hF := ifp hF c_14
          refine lv_aload_n hx hb dX0_gone_46 rfl (lv_at hl 1 rfl) ?_
          refine lv_aload_n hx hb dX0_gone_47 rfl (lv_at hl 1 rfl) ?_
          refine x_geta C0 hG 0 (by decide) rfl (by decide) q174 dX0_gone_48 ?_
          refine lv_iload_n hx hb dX0_gone_51 rfl (lv_at hl 3 rfl) ?_
          refine x_swld C0 hG dX0_gone_52 hF (fun u_15 hF => ?_)
          refine x_swg C0 hG 3 (by decide) q335 dX0_gone_53 hF (fun x_16 hF => ?_)
          obtain ⟨σ_17, r_18, e_19, hF⟩ := obi_of hF
          refine x_cVi0 (As := [.int x_16]) (rest := []) C0 hG (mtX_goneAt l hst e_19) (lw_V q930 q932 qs35 q100 q933) yd_X0_goneAt (x_rc0 C0 hG) ⟨by omega, by omega⟩ ⟨by omega, by omega⟩ rfl rfl hl.1 (Nat.le_of_ble_eq_true rfl) dX0_gone_56 (fun H locs hG => ?_)
          exact x_iret C0 hG ⟨by omega, by omega⟩ dX0_gone_59 hF
        · have hF := ifn hF c_14
          refine lv_aload_n hx hb dX0_gone_39 rfl (lv_at hl 1 rfl) ?_
          obtain ⟨σ_20, r_21, e_22, hF⟩ := obi_of hF
          refine x_cVi0 (As := []) (rest := []) C0 hG (mtX_allGone l hst e_22) (lw_V q926 q928 qs34 q100 q929) yd_X0_allGone (x_rc0 C0 hG) ⟨by omega, by omega⟩ ⟨by omega, by omega⟩ rfl rfl hl.1 (Nat.le_of_ble_eq_true rfl) dX0_gone_40 (fun H locs hG => ?_)
          refine lv_goto (tgt := 59) hx hb dX0_gone_43 (by decide) ?_
          exact x_iret C0 hG ⟨by omega, by omega⟩ dX0_gone_59 hF
      · have hF := ifn hF c_13
        refine lv_iload_n hx hb dX0_gone_33 rfl (lv_at hl 0 rfl) ?_
        exact x_iret C0 hG ⟨by omega, by omega⟩ dX0_gone_34 hF
    · have hF := ifp hF c_9
      refine lv_iconst (v := (-1)) hx hb dX0_gone_21 (by decide) ?_
      exact x_iret C0 hG ⟨by omega, by omega⟩ dX0_gone_22 hF
theorem mtX_gone (l : Launch) (hst : l.stackTraces = false) {N : Nat} {L : xL} {g : xg} {σ σ' : xS} {r : Int32} {a0 : Int32} {a1 : Int32} (hF : fX_gone N σ a0 a1 = some (σ', r)) : xMet l yX0_gone cX0_gone 4 (some .int) (41) (12024) 8 1200 [.ref L.1, .int a0, .int a1] L g σ (some (.int r)) σ' := by
  refine x_head hst (by decide) rfl ?_
  intro p e s m below meth c A C0 hG
  have hl := lv_entry ([.ref L.1, .int a0, .int a1]) (n := 4) (Nat.le_of_ble_eq_true rfl)
  rw [lg_entry_eq]
  generalize (lg_sl ([.ref L.1, .int a0, .int a1]) ++ List.replicate (4 - (lg_sl ([.ref L.1, .int a0, .int a1])).length) Slot.unset).toArray = ls at hl ⊢
  have hl : lv_has ls 4 [(0, .ref L.1), (1, .int a0), (2, .int a1)] := hl
  exact bX_gone_e C0 ⟨Nat.le_refl _, Nat.le_refl _, Nat.le_refl _, Nat.le_refl _⟩ _ _ _ _ [] ls 0 0 ⟨Nat.le_of_ble_eq_true rfl, Nat.le_of_ble_eq_true rfl⟩ hG hl hF
def fX_least (N : Nat) (σ : xS) (a0 : Int32) (a1 : Int32) : Option (xS × Int32) :=
  obi (fX_isShelf N σ a0) fun σ_1 r_2 =>
  if r_2 = 0 then (
    some (σ_1, (-1)))
  else (
    obi (fX_isOne N σ_1 a1) fun σ_5 r_6 =>
    if r_6 = 0 then (
      some (σ_5, (-1)))
    else (
      obi (fX_layRoutine N σ_5 a0) fun σ_9 r_10 =>
      if 0 ≤ r_10 then (
        obi (fX_goneAt N σ_9 0) fun σ_13 r_14 =>
        nmv (xI σ_13 19) fun x_16 =>
        nmv (if 1 < x_16 then x_16 else 1) fun x_17 =>
        some (σ_13, x_17))
      else (
        some (σ_9, r_10))))
theorem bX_least_e {N : Nat} (C0 : xCx p l s m args meth c RX0 cX0_least 4 (some .int) L A) (hRo : 41 ≤ R.frames ∧ 12024 ≤ R.locals ∧ 8 ≤ R.cells ∧ 1200 ≤ R.slots) {σ' : xS} {r : Int32} (σ : xS) (a0 : Int32) (a1 : Int32) (H : Heap) (locs : List Loc) (ls : Array Slot) (cells slots : Nat) (hcs : cells + 8 ≤ 8 ∧ slots + 1200 ≤ 1200) (hG : xG A L g s σ H locs) (hl : lv_has ls 4 [(0, .ref L.1), (1, .int a0), (2, .int a1)]) (hF : fX_least N σ a0 a1 = some (σ', r)) : W p l e R s m args below meth c H locs cells slots (xZ below L g A s args σ' (some (.int r)) 8 1200) (F0 m 0 ls []) := by
  have hx := C0.1
  have hb := C0.2.1
  have hst := C0.2.2.2.2.2.2.2.2.2.2
  unfold fX_least at hF
  refine lv_iload_n hx hb dX0_least_0 rfl (lv_at hl 1 rfl) ?_
  obtain ⟨σ_1, r_2, e_3, hF⟩ := obi_of hF
  refine x_cSi0 (As := [.int a0]) (rest := []) C0 hG (mtX_isShelf l hst e_3) (lw_S q489 q490 q100 q491) yd_X0_isShelf ⟨by omega, by omega⟩ ⟨by omega, by omega⟩ rfl rfl hl.1 (Nat.le_of_ble_eq_true rfl) dX0_least_1 (fun H locs hG => ?_)
  refine lv_if_eq (tgt := 15) hx hb dX0_least_4 (by decide) (fun c_4 => ?_) (fun c_4 => ?_)
  · have hF := ifp hF c_4
    refine lv_iconst (v := (-1)) hx hb dX0_least_15 (by decide) ?_
    exact x_iret C0 hG ⟨by omega, by omega⟩ dX0_least_16 hF
  · have hF := ifn hF c_4
    refine lv_aload_n hx hb dX0_least_7 rfl (lv_at hl 0 rfl) ?_
    refine lv_iload_n hx hb dX0_least_8 rfl (lv_at hl 2 rfl) ?_
    obtain ⟨σ_5, r_6, e_7, hF⟩ := obi_of hF
    refine x_cVi0 (As := [.int a1]) (rest := []) C0 hG (mtX_isOne l hst e_7) (lw_V q517 q519 qs5 q100 q520) yd_X0_isOne (x_rc0 C0 hG) ⟨by omega, by omega⟩ ⟨by omega, by omega⟩ rfl rfl hl.1 (Nat.le_of_ble_eq_true rfl) dX0_least_9 (fun H locs hG => ?_)
    refine lv_if_ne (tgt := 17) hx hb dX0_least_12 (by decide) (fun c_8 => ?_) (fun c_8 => ?_)
    · have hF := ifn hF c_8
      refine lv_aload_n hx hb dX0_least_17 rfl (lv_at hl 0 rfl) ?_
      refine lv_iload_n hx hb dX0_least_18 rfl (lv_at hl 1 rfl) ?_
      obtain ⟨σ_9, r_10, e_11, hF⟩ := obi_of hF
      refine x_cWi (As := [.int a0]) (rest := []) C0 hG (mtX_layRoutine l hst e_11) (lw_VW q862 q864 qs22 q100 q865) yd_X0_layRoutine (x_rc0 C0 hG) ⟨by omega, by omega⟩ ⟨by omega, by omega⟩ rfl rfl hl.1 (Nat.le_of_ble_eq_true rfl) dX0_least_19 (fun H locs hG => ?_)
      refine lv_istore_n (lv' := [(3, .int r_10), (0, .ref L.1), (1, .int a0), (2, .int a1)]) hx hb dX0_least_22 rfl hl (by decide) rfl (fun ls hl => ?_)
      refine lv_iload_n hx hb dX0_least_23 rfl (lv_at hl 0 rfl) ?_
      refine lv_if_ge (tgt := 29) hx hb dX0_least_24 (by decide) (fun c_12 => ?_) (fun c_12 => ?_)
      · have hF := ifp hF c_12
        refine lv_aload_n hx hb dX0_least_29 rfl (lv_at hl 1 rfl) ?_
        refine lv_iconst (v := 0) hx hb dX0_least_30 (by decide) ?_
        obtain ⟨σ_13, r_14, e_15, hF⟩ := obi_of hF
        refine x_cVi0 (As := [.int 0]) (rest := []) C0 hG (mtX_goneAt l hst e_15) (lw_V q930 q932 qs35 q100 q933) yd_X0_goneAt (x_rc0 C0 hG) ⟨by omega, by omega⟩ ⟨by omega, by omega⟩ rfl rfl hl.1 (Nat.le_of_ble_eq_true rfl) dX0_least_31 (fun H locs hG => ?_)
        refine lv_pop hx hb dX0_least_34 rfl ?_
        refine lv_iconst (v := 1) hx hb dX0_least_35 (by decide) ?_
        refine lv_aload_n hx hb dX0_least_36 rfl (lv_at hl 1 rfl) ?_
        refine x_geti C0 hG 19 (by decide) rfl q195 dX0_least_37 hF (fun x_16 hF => ?_)
        refine x_max C0 hl.1 q857 q676 q116 q677 ⟨by omega, by omega⟩ ⟨by omega, by omega⟩ (Nat.le_of_ble_eq_true rfl) dX0_least_40 hF (fun x_17 hF => ?_)
        exact x_iret C0 hG ⟨by omega, by omega⟩ dX0_least_43 hF
      · have hF := ifn hF c_12
        refine lv_iload_n hx hb dX0_least_27 rfl (lv_at hl 0 rfl) ?_
        exact x_iret C0 hG ⟨by omega, by omega⟩ dX0_least_28 hF
    · have hF := ifp hF c_8
      refine lv_iconst (v := (-1)) hx hb dX0_least_15 (by decide) ?_
      exact x_iret C0 hG ⟨by omega, by omega⟩ dX0_least_16 hF
theorem mtX_least (l : Launch) (hst : l.stackTraces = false) {N : Nat} {L : xL} {g : xg} {σ σ' : xS} {r : Int32} {a0 : Int32} {a1 : Int32} (hF : fX_least N σ a0 a1 = some (σ', r)) : xMet l yX0_least cX0_least 4 (some .int) (41) (12024) 8 1200 [.ref L.1, .int a0, .int a1] L g σ (some (.int r)) σ' := by
  refine x_head hst (by decide) rfl ?_
  intro p e s m below meth c A C0 hG
  have hl := lv_entry ([.ref L.1, .int a0, .int a1]) (n := 4) (Nat.le_of_ble_eq_true rfl)
  rw [lg_entry_eq]
  generalize (lg_sl ([.ref L.1, .int a0, .int a1]) ++ List.replicate (4 - (lg_sl ([.ref L.1, .int a0, .int a1])).length) Slot.unset).toArray = ls at hl ⊢
  have hl : lv_has ls 4 [(0, .ref L.1), (1, .int a0), (2, .int a1)] := hl
  exact bX_least_e C0 ⟨Nat.le_refl _, Nat.le_refl _, Nat.le_refl _, Nat.le_refl _⟩ _ _ _ _ [] ls 0 0 ⟨Nat.le_of_ble_eq_true rfl, Nat.le_of_ble_eq_true rfl⟩ hG hl hF
def fX_gasps (N : Nat) (σ : xS) (a0 : Int32) (a1 : Int32) : Option (xS × Int32) :=
  obi (fX_isShelf N σ a0) fun σ_1 r_2 =>
  if r_2 = 0 then (
    some (σ_1, (-1)))
  else (
    if (-1) ≤ a1 then (
      obi (fX_layRoutine N σ_1 a0) fun σ_6 r_7 =>
      if 0 ≤ r_7 then (
        obi (fX_fewest N σ_6 0 a1) fun σ_10 r_11 =>
        some (σ_10, r_11))
      else (
        some (σ_6, r_7)))
    else (
      some (σ_1, (-1))))
theorem bX_gasps_e {N : Nat} (C0 : xCx p l s m args meth c RX0 cX0_gasps 4 (some .int) L A) (hRo : 67 ≤ R.frames ∧ 12024 ≤ R.locals ∧ 8 ≤ R.cells ∧ 1200 ≤ R.slots) {σ' : xS} {r : Int32} (σ : xS) (a0 : Int32) (a1 : Int32) (H : Heap) (locs : List Loc) (ls : Array Slot) (cells slots : Nat) (hcs : cells + 8 ≤ 8 ∧ slots + 1200 ≤ 1200) (hG : xG A L g s σ H locs) (hl : lv_has ls 4 [(0, .ref L.1), (1, .int a0), (2, .int a1)]) (hF : fX_gasps N σ a0 a1 = some (σ', r)) : W p l e R s m args below meth c H locs cells slots (xZ below L g A s args σ' (some (.int r)) 8 1200) (F0 m 0 ls []) := by
  have hx := C0.1
  have hb := C0.2.1
  have hst := C0.2.2.2.2.2.2.2.2.2.2
  unfold fX_gasps at hF
  refine lv_iload_n hx hb dX0_gasps_0 rfl (lv_at hl 1 rfl) ?_
  obtain ⟨σ_1, r_2, e_3, hF⟩ := obi_of hF
  refine x_cSi0 (As := [.int a0]) (rest := []) C0 hG (mtX_isShelf l hst e_3) (lw_S q489 q490 q100 q491) yd_X0_isShelf ⟨by omega, by omega⟩ ⟨by omega, by omega⟩ rfl rfl hl.1 (Nat.le_of_ble_eq_true rfl) dX0_gasps_1 (fun H locs hG => ?_)
  refine lv_if_eq (tgt := 12) hx hb dX0_gasps_4 (by decide) (fun c_4 => ?_) (fun c_4 => ?_)
  · have hF := ifp hF c_4
    refine lv_iconst (v := (-1)) hx hb dX0_gasps_12 (by decide) ?_
    exact x_iret C0 hG ⟨by omega, by omega⟩ dX0_gasps_13 hF
  · have hF := ifn hF c_4
    refine lv_iload_n hx hb dX0_gasps_7 rfl (lv_at hl 2 rfl) ?_
    refine lv_iconst (v := (-1)) hx hb dX0_gasps_8 (by decide) ?_
    refine lv_icmp_ge (tgt := 14) hx hb dX0_gasps_9 (by decide) (fun c_5 => ?_) (fun c_5 => ?_)
    · have hF := ifp hF c_5
      refine lv_aload_n hx hb dX0_gasps_14 rfl (lv_at hl 0 rfl) ?_
      refine lv_iload_n hx hb dX0_gasps_15 rfl (lv_at hl 1 rfl) ?_
      obtain ⟨σ_6, r_7, e_8, hF⟩ := obi_of hF
      refine x_cWi (As := [.int a0]) (rest := []) C0 hG (mtX_layRoutine l hst e_8) (lw_VW q862 q864 qs22 q100 q865) yd_X0_layRoutine (x_rc0 C0 hG) ⟨by omega, by omega⟩ ⟨by omega, by omega⟩ rfl rfl hl.1 (Nat.le_of_ble_eq_true rfl) dX0_gasps_16 (fun H locs hG => ?_)
      refine lv_istore_n (lv' := [(3, .int r_7), (0, .ref L.1), (1, .int a0), (2, .int a1)]) hx hb dX0_gasps_19 rfl hl (by decide) rfl (fun ls hl => ?_)
      refine lv_iload_n hx hb dX0_gasps_20 rfl (lv_at hl 0 rfl) ?_
      refine lv_if_ge (tgt := 28) hx hb dX0_gasps_21 (by decide) (fun c_9 => ?_) (fun c_9 => ?_)
      · have hF := ifp hF c_9
        refine lv_aload_n hx hb dX0_gasps_28 rfl (lv_at hl 1 rfl) ?_
        refine lv_iconst (v := 0) hx hb dX0_gasps_29 (by decide) ?_
        refine lv_iload_n hx hb dX0_gasps_30 rfl (lv_at hl 3 rfl) ?_
        obtain ⟨σ_10, r_11, e_12, hF⟩ := obi_of hF
        refine x_cVi0 (As := [.int 0, .int a1]) (rest := []) C0 hG (mtX_fewest l hst e_12) (lw_V q945 q947 qs36 q100 q948) yd_X0_fewest (x_rc0 C0 hG) ⟨by omega, by omega⟩ ⟨by omega, by omega⟩ rfl rfl hl.1 (Nat.le_of_ble_eq_true rfl) dX0_gasps_31 (fun H locs hG => ?_)
        exact x_iret C0 hG ⟨by omega, by omega⟩ dX0_gasps_34 hF
      · have hF := ifn hF c_9
        refine lv_iload_n hx hb dX0_gasps_24 rfl (lv_at hl 0 rfl) ?_
        refine lv_goto (tgt := 34) hx hb dX0_gasps_25 (by decide) ?_
        exact x_iret C0 hG ⟨by omega, by omega⟩ dX0_gasps_34 hF
    · have hF := ifn hF c_5
      refine lv_iconst (v := (-1)) hx hb dX0_gasps_12 (by decide) ?_
      exact x_iret C0 hG ⟨by omega, by omega⟩ dX0_gasps_13 hF
theorem mtX_gasps (l : Launch) (hst : l.stackTraces = false) {N : Nat} {L : xL} {g : xg} {σ σ' : xS} {r : Int32} {a0 : Int32} {a1 : Int32} (hF : fX_gasps N σ a0 a1 = some (σ', r)) : xMet l yX0_gasps cX0_gasps 4 (some .int) (67) (12024) 8 1200 [.ref L.1, .int a0, .int a1] L g σ (some (.int r)) σ' := by
  refine x_head hst (by decide) rfl ?_
  intro p e s m below meth c A C0 hG
  have hl := lv_entry ([.ref L.1, .int a0, .int a1]) (n := 4) (Nat.le_of_ble_eq_true rfl)
  rw [lg_entry_eq]
  generalize (lg_sl ([.ref L.1, .int a0, .int a1]) ++ List.replicate (4 - (lg_sl ([.ref L.1, .int a0, .int a1])).length) Slot.unset).toArray = ls at hl ⊢
  have hl : lv_has ls 4 [(0, .ref L.1), (1, .int a0), (2, .int a1)] := hl
  exact bX_gasps_e C0 ⟨Nat.le_refl _, Nat.le_refl _, Nat.le_refl _, Nat.le_refl _⟩ _ _ _ _ [] ls 0 0 ⟨Nat.le_of_ble_eq_true rfl, Nat.le_of_ble_eq_true rfl⟩ hG hl hF
def fX_looks (N : Nat) (σ : xS) (a0 : Int32) (a1 : Int32) : Option (xS × Int32) :=
  obi (fX_isShelf N σ a0) fun σ_1 r_2 =>
  if r_2 = 0 then (
    some (σ_1, (-1)))
  else (
    if (-1) ≤ a1 then (
      obi (fX_layRoutine N σ_1 a0) fun σ_6 r_7 =>
      if 0 ≤ r_7 then (
        obi (fX_fewest N σ_6 1 a1) fun σ_10 r_11 =>
        some (σ_10, r_11))
      else (
        some (σ_6, r_7)))
    else (
      some (σ_1, (-1))))
theorem bX_looks_e {N : Nat} (C0 : xCx p l s m args meth c RX0 cX0_looks 4 (some .int) L A) (hRo : 67 ≤ R.frames ∧ 12024 ≤ R.locals ∧ 8 ≤ R.cells ∧ 1200 ≤ R.slots) {σ' : xS} {r : Int32} (σ : xS) (a0 : Int32) (a1 : Int32) (H : Heap) (locs : List Loc) (ls : Array Slot) (cells slots : Nat) (hcs : cells + 8 ≤ 8 ∧ slots + 1200 ≤ 1200) (hG : xG A L g s σ H locs) (hl : lv_has ls 4 [(0, .ref L.1), (1, .int a0), (2, .int a1)]) (hF : fX_looks N σ a0 a1 = some (σ', r)) : W p l e R s m args below meth c H locs cells slots (xZ below L g A s args σ' (some (.int r)) 8 1200) (F0 m 0 ls []) := by
  have hx := C0.1
  have hb := C0.2.1
  have hst := C0.2.2.2.2.2.2.2.2.2.2
  unfold fX_looks at hF
  refine lv_iload_n hx hb dX0_looks_0 rfl (lv_at hl 1 rfl) ?_
  obtain ⟨σ_1, r_2, e_3, hF⟩ := obi_of hF
  refine x_cSi0 (As := [.int a0]) (rest := []) C0 hG (mtX_isShelf l hst e_3) (lw_S q489 q490 q100 q491) yd_X0_isShelf ⟨by omega, by omega⟩ ⟨by omega, by omega⟩ rfl rfl hl.1 (Nat.le_of_ble_eq_true rfl) dX0_looks_1 (fun H locs hG => ?_)
  refine lv_if_eq (tgt := 12) hx hb dX0_looks_4 (by decide) (fun c_4 => ?_) (fun c_4 => ?_)
  · have hF := ifp hF c_4
    refine lv_iconst (v := (-1)) hx hb dX0_looks_12 (by decide) ?_
    exact x_iret C0 hG ⟨by omega, by omega⟩ dX0_looks_13 hF
  · have hF := ifn hF c_4
    refine lv_iload_n hx hb dX0_looks_7 rfl (lv_at hl 2 rfl) ?_
    refine lv_iconst (v := (-1)) hx hb dX0_looks_8 (by decide) ?_
    refine lv_icmp_ge (tgt := 14) hx hb dX0_looks_9 (by decide) (fun c_5 => ?_) (fun c_5 => ?_)
    · have hF := ifp hF c_5
      refine lv_aload_n hx hb dX0_looks_14 rfl (lv_at hl 0 rfl) ?_
      refine lv_iload_n hx hb dX0_looks_15 rfl (lv_at hl 1 rfl) ?_
      obtain ⟨σ_6, r_7, e_8, hF⟩ := obi_of hF
      refine x_cWi (As := [.int a0]) (rest := []) C0 hG (mtX_layRoutine l hst e_8) (lw_VW q862 q864 qs22 q100 q865) yd_X0_layRoutine (x_rc0 C0 hG) ⟨by omega, by omega⟩ ⟨by omega, by omega⟩ rfl rfl hl.1 (Nat.le_of_ble_eq_true rfl) dX0_looks_16 (fun H locs hG => ?_)
      refine lv_istore_n (lv' := [(3, .int r_7), (0, .ref L.1), (1, .int a0), (2, .int a1)]) hx hb dX0_looks_19 rfl hl (by decide) rfl (fun ls hl => ?_)
      refine lv_iload_n hx hb dX0_looks_20 rfl (lv_at hl 0 rfl) ?_
      refine lv_if_ge (tgt := 28) hx hb dX0_looks_21 (by decide) (fun c_9 => ?_) (fun c_9 => ?_)
      · have hF := ifp hF c_9
        refine lv_aload_n hx hb dX0_looks_28 rfl (lv_at hl 1 rfl) ?_
        refine lv_iconst (v := 1) hx hb dX0_looks_29 (by decide) ?_
        refine lv_iload_n hx hb dX0_looks_30 rfl (lv_at hl 3 rfl) ?_
        obtain ⟨σ_10, r_11, e_12, hF⟩ := obi_of hF
        refine x_cVi0 (As := [.int 1, .int a1]) (rest := []) C0 hG (mtX_fewest l hst e_12) (lw_V q945 q947 qs36 q100 q948) yd_X0_fewest (x_rc0 C0 hG) ⟨by omega, by omega⟩ ⟨by omega, by omega⟩ rfl rfl hl.1 (Nat.le_of_ble_eq_true rfl) dX0_looks_31 (fun H locs hG => ?_)
        exact x_iret C0 hG ⟨by omega, by omega⟩ dX0_looks_34 hF
      · have hF := ifn hF c_9
        refine lv_iload_n hx hb dX0_looks_24 rfl (lv_at hl 0 rfl) ?_
        refine lv_goto (tgt := 34) hx hb dX0_looks_25 (by decide) ?_
        exact x_iret C0 hG ⟨by omega, by omega⟩ dX0_looks_34 hF
    · have hF := ifn hF c_5
      refine lv_iconst (v := (-1)) hx hb dX0_looks_12 (by decide) ?_
      exact x_iret C0 hG ⟨by omega, by omega⟩ dX0_looks_13 hF
theorem mtX_looks (l : Launch) (hst : l.stackTraces = false) {N : Nat} {L : xL} {g : xg} {σ σ' : xS} {r : Int32} {a0 : Int32} {a1 : Int32} (hF : fX_looks N σ a0 a1 = some (σ', r)) : xMet l yX0_looks cX0_looks 4 (some .int) (67) (12024) 8 1200 [.ref L.1, .int a0, .int a1] L g σ (some (.int r)) σ' := by
  refine x_head hst (by decide) rfl ?_
  intro p e s m below meth c A C0 hG
  have hl := lv_entry ([.ref L.1, .int a0, .int a1]) (n := 4) (Nat.le_of_ble_eq_true rfl)
  rw [lg_entry_eq]
  generalize (lg_sl ([.ref L.1, .int a0, .int a1]) ++ List.replicate (4 - (lg_sl ([.ref L.1, .int a0, .int a1])).length) Slot.unset).toArray = ls at hl ⊢
  have hl : lv_has ls 4 [(0, .ref L.1), (1, .int a0), (2, .int a1)] := hl
  exact bX_looks_e C0 ⟨Nat.le_refl _, Nat.le_refl _, Nat.le_refl _, Nat.le_refl _⟩ _ _ _ _ [] ls 0 0 ⟨Nat.le_of_ble_eq_true rfl, Nat.le_of_ble_eq_true rfl⟩ hG hl hF
def fX_whose_b91 (N : Nat) (k47 : xS → Int32 → Int32 → Int32 → Int32 → Int32 → Option (xS × Int32)) (σ : xS) (x2 : Int32) (x4 : Int32) (x5 : Int32) (x6 : Int32) (x7 : Int32) : Option (xS × Int32) :=
  nmv (x7 + 1) fun x_24 =>
  k47 σ x2 x4 x5 x6 x_24
def fX_whose_b83 (N : Nat) (k47 : xS → Int32 → Int32 → Int32 → Int32 → Int32 → Option (xS × Int32)) (σ : xS) (x2 : Int32) (x4 : Int32) (x7 : Int32) (x8 : Int32) : Option (xS × Int32) :=
  fX_whose_b91 N k47 σ x2 x4 x7 x8 x7
def fX_whose_b47 (N : Nat) : Nat → xS → Int32 → Int32 → Int32 → Int32 → Int32 → Option (xS × Int32)
  | 0, _, _, _, _, _, _ => none
  | n + 1, σ, x2, x4, x5, x6, x7 =>
    nmv (xI σ 1) fun x_14 =>
    if x_14 ≤ x7 then (
      nmv (xSi σ 2 x4) fun σ_16 =>
      if x2 = 0 then (
        some (σ_16, x5))
      else (
        some (σ_16, x6)))
    else (
      nmv (xSi σ 2 x7) fun σ_18 =>
      obi (fX_marks N σ_18) fun σ_19 r_20 =>
      if x5 < 0 then (
        fX_whose_b83 N (fX_whose_b47 N n) σ_19 x2 x4 x7 r_20)
      else (
        if r_20 < x6 then (
          fX_whose_b83 N (fX_whose_b47 N n) σ_19 x2 x4 x7 r_20)
        else (
          fX_whose_b91 N (fX_whose_b47 N n) σ_19 x2 x4 x5 x6 x7)))
def fX_whose (N : Nat) (σ : xS) (a0 : Int32) (a1 : Int32) : Option (xS × Int32) :=
  obi (fX_isShelf N σ a0) fun σ_1 r_2 =>
  if r_2 = 0 then (
    some (σ_1, (-1)))
  else (
    obi (fX_in N σ_1 a1 0 1) fun σ_5 r_6 =>
    if r_6 = 0 then (
      some (σ_5, (-1)))
    else (
      obi (fX_layRoutine N σ_5 a0) fun σ_9 r_10 =>
      if 0 ≤ r_10 then (
        nmv (xI σ_9 2) fun x_13 =>
        fX_whose_b47 N N σ_9 a1 x_13 (-2) (-2) 0)
      else (
        some (σ_9, r_10))))
theorem bX_whose_91 {N : Nat} (C0 : xCx p l s m args meth c RX0 cX0_whose 9 (some .int) L A) (hRo : 214 ≤ R.frames ∧ 12024 ≤ R.locals ∧ 8 ≤ R.cells ∧ 1200 ≤ R.slots) {σ' : xS} {r : Int32} {k47 : xS → Int32 → Int32 → Int32 → Int32 → Int32 → Option (xS × Int32)} (hk47 : ∀ (σ : xS) (x2 : Int32) (x4 : Int32) (x5 : Int32) (x6 : Int32) (x7 : Int32) (H : Heap) (locs : List Loc) (ls : Array Slot) (cells slots : Nat), cells + 0 ≤ 8 ∧ slots + 0 ≤ 1200 →  xG A L g s σ H locs → lv_has ls 9 [(0, .ref L.1), (2, .int x2), (4, .int x4), (5, .int x5), (6, .int x6), (7, .int x7)] → k47 σ x2 x4 x5 x6 x7 = some (σ', r) → W p l e R s m args below meth c H locs cells slots (xZ below L g A s args σ' (some (.int r)) 8 1200) (F0 m 47 ls [])) (σ : xS) (x2 : Int32) (x4 : Int32) (x5 : Int32) (x6 : Int32) (x7 : Int32) (H : Heap) (locs : List Loc) (ls : Array Slot) (cells slots : Nat) (hcs : cells + 0 ≤ 8 ∧ slots + 0 ≤ 1200) (hG : xG A L g s σ H locs) (hl : lv_has ls 9 [(0, .ref L.1), (2, .int x2), (4, .int x4), (5, .int x5), (6, .int x6), (7, .int x7)]) (hF : fX_whose_b91 N k47 σ x2 x4 x5 x6 x7 = some (σ', r)) : W p l e R s m args below meth c H locs cells slots (xZ below L g A s args σ' (some (.int r)) 8 1200) (F0 m 91 ls []) := by
  have hx := C0.1
  have hb := C0.2.1
  have hst := C0.2.2.2.2.2.2.2.2.2.2
  unfold fX_whose_b91 at hF
  refine w_iinc hx hb dX0_whose_91 hl 5 rfl (v := 1) (by decide) (by decide) hF (fun x_24 ls hl hF => ?_)
  have hl : lv_has ls 9 [(7, .int x_24), (0, .ref L.1), (2, .int x2), (4, .int x4), (5, .int x5), (6, .int x6)] := hl
  refine lv_goto (tgt := 47) hx hb dX0_whose_94 (by decide) ?_
  exact hk47 _ _ _ _ _ _ H locs ls _ _ ⟨by omega, by omega⟩ hG (lv_sub hl [1, 2, 3, 4, 5, 0] rfl) hF
theorem bX_whose_83 {N : Nat} (C0 : xCx p l s m args meth c RX0 cX0_whose 9 (some .int) L A) (hRo : 214 ≤ R.frames ∧ 12024 ≤ R.locals ∧ 8 ≤ R.cells ∧ 1200 ≤ R.slots) {σ' : xS} {r : Int32} {k47 : xS → Int32 → Int32 → Int32 → Int32 → Int32 → Option (xS × Int32)} (hk47 : ∀ (σ : xS) (x2 : Int32) (x4 : Int32) (x5 : Int32) (x6 : Int32) (x7 : Int32) (H : Heap) (locs : List Loc) (ls : Array Slot) (cells slots : Nat), cells + 0 ≤ 8 ∧ slots + 0 ≤ 1200 →  xG A L g s σ H locs → lv_has ls 9 [(0, .ref L.1), (2, .int x2), (4, .int x4), (5, .int x5), (6, .int x6), (7, .int x7)] → k47 σ x2 x4 x5 x6 x7 = some (σ', r) → W p l e R s m args below meth c H locs cells slots (xZ below L g A s args σ' (some (.int r)) 8 1200) (F0 m 47 ls [])) (σ : xS) (x2 : Int32) (x4 : Int32) (x7 : Int32) (x8 : Int32) (H : Heap) (locs : List Loc) (ls : Array Slot) (cells slots : Nat) (hcs : cells + 0 ≤ 8 ∧ slots + 0 ≤ 1200) (hG : xG A L g s σ H locs) (hl : lv_has ls 9 [(0, .ref L.1), (2, .int x2), (4, .int x4), (7, .int x7), (8, .int x8)]) (hF : fX_whose_b83 N k47 σ x2 x4 x7 x8 = some (σ', r)) : W p l e R s m args below meth c H locs cells slots (xZ below L g A s args σ' (some (.int r)) 8 1200) (F0 m 83 ls []) := by
  have hx := C0.1
  have hb := C0.2.1
  have hst := C0.2.2.2.2.2.2.2.2.2.2
  unfold fX_whose_b83 at hF
  refine lv_iload hx hb dX0_whose_83 (lv_at hl 3 rfl) ?_
  refine lv_istore (lv' := [(5, .int x7), (0, .ref L.1), (2, .int x2), (4, .int x4), (7, .int x7), (8, .int x8)]) hx hb dX0_whose_85 hl (by decide) rfl (fun ls hl => ?_)
  refine lv_iload hx hb dX0_whose_87 (lv_at hl 5 rfl) ?_
  refine lv_istore (lv' := [(6, .int x8), (5, .int x7), (0, .ref L.1), (2, .int x2), (4, .int x4), (7, .int x7), (8, .int x8)]) hx hb dX0_whose_89 hl (by decide) rfl (fun ls hl => ?_)
  exact bX_whose_91 C0 hRo hk47 _ _ _ _ _ _ H locs ls _ _ ⟨by omega, by omega⟩ hG (lv_sub hl [2, 3, 4, 1, 0, 5] rfl) hF
theorem bX_whose_47 {N : Nat} (C0 : xCx p l s m args meth c RX0 cX0_whose 9 (some .int) L A) (hRo : 214 ≤ R.frames ∧ 12024 ≤ R.locals ∧ 8 ≤ R.cells ∧ 1200 ≤ R.slots) {σ' : xS} {r : Int32} : ∀ (n : Nat) (σ : xS) (x2 : Int32) (x4 : Int32) (x5 : Int32) (x6 : Int32) (x7 : Int32) (H : Heap) (locs : List Loc) (ls : Array Slot) (cells slots : Nat), cells + 0 ≤ 8 ∧ slots + 0 ≤ 1200 →  xG A L g s σ H locs → lv_has ls 9 [(0, .ref L.1), (2, .int x2), (4, .int x4), (5, .int x5), (6, .int x6), (7, .int x7)] → fX_whose_b47 N n σ x2 x4 x5 x6 x7 = some (σ', r) → W p l e R s m args below meth c H locs cells slots (xZ below L g A s args σ' (some (.int r)) 8 1200) (F0 m 47 ls []) := by
  have hx := C0.1
  have hb := C0.2.1
  have hst := C0.2.2.2.2.2.2.2.2.2.2
  intro n
  induction n with
  | zero => intro σ x2 x4 x5 x6 x7 H locs ls cells slots hcs hG hl hF; cases hF
  | succ n ih =>
    intro σ x2 x4 x5 x6 x7 H locs ls cells slots hcs hG hl hF
    unfold fX_whose_b47 at hF
    refine lv_iload hx hb dX0_whose_47 (lv_at hl 5 rfl) ?_
    refine lv_aload_n hx hb dX0_whose_49 rfl (lv_at hl 0 rfl) ?_
    refine x_geti C0 hG 1 (by decide) rfl q175 dX0_whose_50 hF (fun x_14 hF => ?_)
    refine lv_icmp_ge (tgt := 97) hx hb dX0_whose_53 (by decide) (fun c_15 => ?_) (fun c_15 => ?_)
    · have hF := ifp hF c_15
      refine lv_aload_n hx hb dX0_whose_97 rfl (lv_at hl 0 rfl) ?_
      refine lv_iload hx hb dX0_whose_98 (lv_at hl 2 rfl) ?_
      refine x_puti C0 hG 2 (by decide) rfl q176 dX0_whose_100 (Or.inl (by decide)) hF (fun σ_16 H locs hG hF => ?_)
      refine lv_iload_n hx hb dX0_whose_103 rfl (lv_at hl 1 rfl) ?_
      refine lv_if_ne (tgt := 112) hx hb dX0_whose_104 (by decide) (fun c_17 => ?_) (fun c_17 => ?_)
      · have hF := ifn hF c_17
        refine lv_iload hx hb dX0_whose_112 (lv_at hl 4 rfl) ?_
        exact x_iret C0 hG ⟨by omega, by omega⟩ dX0_whose_114 hF
      · have hF := ifp hF c_17
        refine lv_iload hx hb dX0_whose_107 (lv_at hl 3 rfl) ?_
        refine lv_goto (tgt := 114) hx hb dX0_whose_109 (by decide) ?_
        exact x_iret C0 hG ⟨by omega, by omega⟩ dX0_whose_114 hF
    · have hF := ifn hF c_15
      refine lv_aload_n hx hb dX0_whose_56 rfl (lv_at hl 0 rfl) ?_
      refine lv_iload hx hb dX0_whose_57 (lv_at hl 5 rfl) ?_
      refine x_puti C0 hG 2 (by decide) rfl q176 dX0_whose_59 (Or.inl (by decide)) hF (fun σ_18 H locs hG hF => ?_)
      refine lv_aload_n hx hb dX0_whose_62 rfl (lv_at hl 0 rfl) ?_
      obtain ⟨σ_19, r_20, e_21, hF⟩ := obi_of hF
      refine x_cVi0 (As := []) (rest := []) C0 hG (mtX_marks l hst e_21) (lw_V q870 q872 qs23 q100 q873) yd_X0_marks (x_rc0 C0 hG) ⟨by omega, by omega⟩ ⟨by omega, by omega⟩ rfl rfl hl.1 (Nat.le_of_ble_eq_true rfl) dX0_whose_63 (fun H locs hG => ?_)
      refine lv_istore (lv' := [(8, .int r_20), (0, .ref L.1), (2, .int x2), (4, .int x4), (5, .int x5), (6, .int x6), (7, .int x7)]) hx hb dX0_whose_66 hl (by decide) rfl (fun ls hl => ?_)
      refine lv_iload hx hb dX0_whose_68 (lv_at hl 4 rfl) ?_
      refine lv_if_lt (tgt := 83) hx hb dX0_whose_70 (by decide) (fun c_22 => ?_) (fun c_22 => ?_)
      · have hF := ifp hF c_22
        exact bX_whose_83 C0 hRo ih _ _ _ _ _ H locs ls _ _ ⟨by omega, by omega⟩ hG (lv_sub hl [1, 2, 3, 6, 0] rfl) hF
      · have hF := ifn hF c_22
        refine lv_iload hx hb dX0_whose_73 (lv_at hl 0 rfl) ?_
        refine lv_iload hx hb dX0_whose_75 (lv_at hl 5 rfl) ?_
        refine lv_icmp_lt (tgt := 83) hx hb dX0_whose_77 (by decide) (fun c_23 => ?_) (fun c_23 => ?_)
        · have hF := ifp hF c_23
          exact bX_whose_83 C0 hRo ih _ _ _ _ _ H locs ls _ _ ⟨by omega, by omega⟩ hG (lv_sub hl [1, 2, 3, 6, 0] rfl) hF
        · have hF := ifn hF c_23
          refine lv_goto (tgt := 91) hx hb dX0_whose_80 (by decide) ?_
          exact bX_whose_91 C0 hRo ih _ _ _ _ _ _ H locs ls _ _ ⟨by omega, by omega⟩ hG (lv_sub hl [1, 2, 3, 4, 5, 6] rfl) hF
theorem bX_whose_e {N : Nat} (C0 : xCx p l s m args meth c RX0 cX0_whose 9 (some .int) L A) (hRo : 214 ≤ R.frames ∧ 12024 ≤ R.locals ∧ 8 ≤ R.cells ∧ 1200 ≤ R.slots) {σ' : xS} {r : Int32} (σ : xS) (a0 : Int32) (a1 : Int32) (H : Heap) (locs : List Loc) (ls : Array Slot) (cells slots : Nat) (hcs : cells + 8 ≤ 8 ∧ slots + 1200 ≤ 1200) (hG : xG A L g s σ H locs) (hl : lv_has ls 9 [(0, .ref L.1), (1, .int a0), (2, .int a1)]) (hF : fX_whose N σ a0 a1 = some (σ', r)) : W p l e R s m args below meth c H locs cells slots (xZ below L g A s args σ' (some (.int r)) 8 1200) (F0 m 0 ls []) := by
  have hx := C0.1
  have hb := C0.2.1
  have hst := C0.2.2.2.2.2.2.2.2.2.2
  unfold fX_whose at hF
  refine lv_iload_n hx hb dX0_whose_0 rfl (lv_at hl 1 rfl) ?_
  obtain ⟨σ_1, r_2, e_3, hF⟩ := obi_of hF
  refine x_cSi0 (As := [.int a0]) (rest := []) C0 hG (mtX_isShelf l hst e_3) (lw_S q489 q490 q100 q491) yd_X0_isShelf ⟨by omega, by omega⟩ ⟨by omega, by omega⟩ rfl rfl hl.1 (Nat.le_of_ble_eq_true rfl) dX0_whose_1 (fun H locs hG => ?_)
  refine lv_if_eq (tgt := 16) hx hb dX0_whose_4 (by decide) (fun c_4 => ?_) (fun c_4 => ?_)
  · have hF := ifp hF c_4
    refine lv_iconst (v := (-1)) hx hb dX0_whose_16 (by decide) ?_
    exact x_iret C0 hG ⟨by omega, by omega⟩ dX0_whose_17 hF
  · have hF := ifn hF c_4
    refine lv_iload_n hx hb dX0_whose_7 rfl (lv_at hl 2 rfl) ?_
    refine lv_iconst (v := 0) hx hb dX0_whose_8 (by decide) ?_
    refine lv_iconst (v := 1) hx hb dX0_whose_9 (by decide) ?_
    obtain ⟨σ_5, r_6, e_7, hF⟩ := obi_of hF
    refine x_cSi0 (As := [.int a1, .int 0, .int 1]) (rest := []) C0 hG (mtX_in l hst e_7) (lw_S q316 q317 q100 q318) yd_X0_in ⟨by omega, by omega⟩ ⟨by omega, by omega⟩ rfl rfl hl.1 (Nat.le_of_ble_eq_true rfl) dX0_whose_10 (fun H locs hG => ?_)
    refine lv_if_ne (tgt := 18) hx hb dX0_whose_13 (by decide) (fun c_8 => ?_) (fun c_8 => ?_)
    · have hF := ifn hF c_8
      refine lv_aload_n hx hb dX0_whose_18 rfl (lv_at hl 0 rfl) ?_
      refine lv_iload_n hx hb dX0_whose_19 rfl (lv_at hl 1 rfl) ?_
      obtain ⟨σ_9, r_10, e_11, hF⟩ := obi_of hF
      refine x_cWi (As := [.int a0]) (rest := []) C0 hG (mtX_layRoutine l hst e_11) (lw_VW q862 q864 qs22 q100 q865) yd_X0_layRoutine (x_rc0 C0 hG) ⟨by omega, by omega⟩ ⟨by omega, by omega⟩ rfl rfl hl.1 (Nat.le_of_ble_eq_true rfl) dX0_whose_20 (fun H locs hG => ?_)
      refine lv_istore_n (lv' := [(3, .int r_10), (0, .ref L.1), (1, .int a0), (2, .int a1)]) hx hb dX0_whose_23 rfl hl (by decide) rfl (fun ls hl => ?_)
      refine lv_iload_n hx hb dX0_whose_24 rfl (lv_at hl 0 rfl) ?_
      refine lv_if_ge (tgt := 30) hx hb dX0_whose_25 (by decide) (fun c_12 => ?_) (fun c_12 => ?_)
      · have hF := ifp hF c_12
        refine lv_aload_n hx hb dX0_whose_30 rfl (lv_at hl 1 rfl) ?_
        refine x_geti C0 hG 2 (by decide) rfl q176 dX0_whose_31 hF (fun x_13 hF => ?_)
        refine lv_istore (lv' := [(4, .int x_13), (3, .int r_10), (0, .ref L.1), (1, .int a0), (2, .int a1)]) hx hb dX0_whose_34 hl (by decide) rfl (fun ls hl => ?_)
        refine lv_bipush (v := (-2)) hx hb dX0_whose_36 (by decide) ?_
        refine lv_istore (lv' := [(5, .int (-2)), (4, .int x_13), (3, .int r_10), (0, .ref L.1), (1, .int a0), (2, .int a1)]) hx hb dX0_whose_38 hl (by decide) rfl (fun ls hl => ?_)
        refine lv_bipush (v := (-2)) hx hb dX0_whose_40 (by decide) ?_
        refine lv_istore (lv' := [(6, .int (-2)), (5, .int (-2)), (4, .int x_13), (3, .int r_10), (0, .ref L.1), (1, .int a0), (2, .int a1)]) hx hb dX0_whose_42 hl (by decide) rfl (fun ls hl => ?_)
        refine lv_iconst (v := 0) hx hb dX0_whose_44 (by decide) ?_
        refine lv_istore (lv' := [(7, .int 0), (6, .int (-2)), (5, .int (-2)), (4, .int x_13), (3, .int r_10), (0, .ref L.1), (1, .int a0), (2, .int a1)]) hx hb dX0_whose_45 hl (by decide) rfl (fun ls hl => ?_)
        exact bX_whose_47 C0 hRo N _ _ _ _ _ _ H locs ls _ _ ⟨by omega, by omega⟩ hG (lv_sub hl [5, 7, 3, 2, 1, 0] rfl) hF
      · have hF := ifn hF c_12
        refine lv_iload_n hx hb dX0_whose_28 rfl (lv_at hl 0 rfl) ?_
        exact x_iret C0 hG ⟨by omega, by omega⟩ dX0_whose_29 hF
    · have hF := ifp hF c_8
      refine lv_iconst (v := (-1)) hx hb dX0_whose_16 (by decide) ?_
      exact x_iret C0 hG ⟨by omega, by omega⟩ dX0_whose_17 hF
theorem mtX_whose (l : Launch) (hst : l.stackTraces = false) {N : Nat} {L : xL} {g : xg} {σ σ' : xS} {r : Int32} {a0 : Int32} {a1 : Int32} (hF : fX_whose N σ a0 a1 = some (σ', r)) : xMet l yX0_whose cX0_whose 9 (some .int) (214) (12024) 8 1200 [.ref L.1, .int a0, .int a1] L g σ (some (.int r)) σ' := by
  refine x_head hst (by decide) rfl ?_
  intro p e s m below meth c A C0 hG
  have hl := lv_entry ([.ref L.1, .int a0, .int a1]) (n := 9) (Nat.le_of_ble_eq_true rfl)
  rw [lg_entry_eq]
  generalize (lg_sl ([.ref L.1, .int a0, .int a1]) ++ List.replicate (9 - (lg_sl ([.ref L.1, .int a0, .int a1])).length) Slot.unset).toArray = ls at hl ⊢
  have hl : lv_has ls 9 [(0, .ref L.1), (1, .int a0), (2, .int a1)] := hl
  exact bX_whose_e C0 ⟨Nat.le_refl _, Nat.le_refl _, Nat.le_refl _, Nat.le_refl _⟩ _ _ _ _ [] ls 0 0 ⟨Nat.le_of_ble_eq_true rfl, Nat.le_of_ble_eq_true rfl⟩ hG hl hF
def fX_first_b114 (N : Nat) (k41 : xS → Int32 → Int32 → Int32 → Int32 → Option (xS × Int32)) (σ : xS) (x2 : Int32) (x4 : Int32) (x5 : Int32) (x6 : Int32) : Option (xS × Int32) :=
  nmv (x6 + 1) fun x_27 =>
  k41 σ x2 x4 x5 x_27
def fX_first_b106 (N : Nat) (k41 : xS → Int32 → Int32 → Int32 → Int32 → Option (xS × Int32)) (σ : xS) (x2 : Int32) (x6 : Int32) (x8 : Int32) : Option (xS × Int32) :=
  fX_first_b114 N k41 σ x2 x6 x8 x6
def fX_first_b41 (N : Nat) : Nat → xS → Int32 → Int32 → Int32 → Int32 → Option (xS × Int32)
  | 0, _, _, _, _, _ => none
  | n + 1, σ, x2, x4, x5, x6 =>
    nmv (xI σ 1) fun x_13 =>
    if x_13 ≤ x6 then (
      if x2 = 0 then (
        some (σ, x4))
      else (
        some (σ, x5)))
    else (
      chk x6 8 <| chl x6.toNatClampNeg (xn σ) <| nmv x6.toNatClampNeg fun u_16 =>
      chl u_16 (xn σ) <| nmv (xE σ u_16 4) fun x_17 =>
      chk x6 8 <| chl x6.toNatClampNeg (xn σ) <| nmv x6.toNatClampNeg fun u_18 =>
      chl u_18 (xn σ) <| nmv (xSe σ u_18 4 0) fun σ_19 =>
      obi (fX_marks N σ_19) fun σ_20 r_21 =>
      chk x6 8 <| chl x6.toNatClampNeg (xn σ_20) <| nmv x6.toNatClampNeg fun u_23 =>
      chl u_23 (xn σ_20) <| nmv (xSe σ_20 u_23 4 x_17) fun σ_24 =>
      if x4 < 0 then (
        fX_first_b106 N (fX_first_b41 N n) σ_24 x2 x6 r_21)
      else (
        if r_21 < x5 then (
          fX_first_b106 N (fX_first_b41 N n) σ_24 x2 x6 r_21)
        else (
          fX_first_b114 N (fX_first_b41 N n) σ_24 x2 x4 x5 x6)))
def fX_first (N : Nat) (σ : xS) (a0 : Int32) (a1 : Int32) : Option (xS × Int32) :=
  obi (fX_isShelf N σ a0) fun σ_1 r_2 =>
  if r_2 = 0 then (
    some (σ_1, (-1)))
  else (
    obi (fX_in N σ_1 a1 0 1) fun σ_5 r_6 =>
    if r_6 = 0 then (
      some (σ_5, (-1)))
    else (
      obi (fX_layRoutine N σ_5 a0) fun σ_9 r_10 =>
      if 0 ≤ r_10 then (
        fX_first_b41 N N σ_9 a1 (-2) (-2) 0)
      else (
        some (σ_9, r_10))))
theorem bX_first_114 {N : Nat} (C0 : xCx p l s m args meth c RX0 cX0_first 9 (some .int) L A) (hRo : 214 ≤ R.frames ∧ 12024 ≤ R.locals ∧ 8 ≤ R.cells ∧ 1200 ≤ R.slots) {σ' : xS} {r : Int32} {k41 : xS → Int32 → Int32 → Int32 → Int32 → Option (xS × Int32)} (hk41 : ∀ (σ : xS) (x2 : Int32) (x4 : Int32) (x5 : Int32) (x6 : Int32) (H : Heap) (locs : List Loc) (ls : Array Slot) (cells slots : Nat), cells + 0 ≤ 8 ∧ slots + 0 ≤ 1200 →  xG A L g s σ H locs → lv_has ls 9 [(0, .ref L.1), (2, .int x2), (4, .int x4), (5, .int x5), (6, .int x6)] → k41 σ x2 x4 x5 x6 = some (σ', r) → W p l e R s m args below meth c H locs cells slots (xZ below L g A s args σ' (some (.int r)) 8 1200) (F0 m 41 ls [])) (σ : xS) (x2 : Int32) (x4 : Int32) (x5 : Int32) (x6 : Int32) (H : Heap) (locs : List Loc) (ls : Array Slot) (cells slots : Nat) (hcs : cells + 0 ≤ 8 ∧ slots + 0 ≤ 1200) (hG : xG A L g s σ H locs) (hl : lv_has ls 9 [(0, .ref L.1), (2, .int x2), (4, .int x4), (5, .int x5), (6, .int x6)]) (hF : fX_first_b114 N k41 σ x2 x4 x5 x6 = some (σ', r)) : W p l e R s m args below meth c H locs cells slots (xZ below L g A s args σ' (some (.int r)) 8 1200) (F0 m 114 ls []) := by
  have hx := C0.1
  have hb := C0.2.1
  have hst := C0.2.2.2.2.2.2.2.2.2.2
  unfold fX_first_b114 at hF
  refine w_iinc hx hb dX0_first_114 hl 4 rfl (v := 1) (by decide) (by decide) hF (fun x_27 ls hl hF => ?_)
  have hl : lv_has ls 9 [(6, .int x_27), (0, .ref L.1), (2, .int x2), (4, .int x4), (5, .int x5)] := hl
  refine lv_goto (tgt := 41) hx hb dX0_first_117 (by decide) ?_
  exact hk41 _ _ _ _ _ H locs ls _ _ ⟨by omega, by omega⟩ hG (lv_sub hl [1, 2, 3, 4, 0] rfl) hF
theorem bX_first_106 {N : Nat} (C0 : xCx p l s m args meth c RX0 cX0_first 9 (some .int) L A) (hRo : 214 ≤ R.frames ∧ 12024 ≤ R.locals ∧ 8 ≤ R.cells ∧ 1200 ≤ R.slots) {σ' : xS} {r : Int32} {k41 : xS → Int32 → Int32 → Int32 → Int32 → Option (xS × Int32)} (hk41 : ∀ (σ : xS) (x2 : Int32) (x4 : Int32) (x5 : Int32) (x6 : Int32) (H : Heap) (locs : List Loc) (ls : Array Slot) (cells slots : Nat), cells + 0 ≤ 8 ∧ slots + 0 ≤ 1200 →  xG A L g s σ H locs → lv_has ls 9 [(0, .ref L.1), (2, .int x2), (4, .int x4), (5, .int x5), (6, .int x6)] → k41 σ x2 x4 x5 x6 = some (σ', r) → W p l e R s m args below meth c H locs cells slots (xZ below L g A s args σ' (some (.int r)) 8 1200) (F0 m 41 ls [])) (σ : xS) (x2 : Int32) (x6 : Int32) (x8 : Int32) (H : Heap) (locs : List Loc) (ls : Array Slot) (cells slots : Nat) (hcs : cells + 0 ≤ 8 ∧ slots + 0 ≤ 1200) (hG : xG A L g s σ H locs) (hl : lv_has ls 9 [(0, .ref L.1), (2, .int x2), (6, .int x6), (8, .int x8)]) (hF : fX_first_b106 N k41 σ x2 x6 x8 = some (σ', r)) : W p l e R s m args below meth c H locs cells slots (xZ below L g A s args σ' (some (.int r)) 8 1200) (F0 m 106 ls []) := by
  have hx := C0.1
  have hb := C0.2.1
  have hst := C0.2.2.2.2.2.2.2.2.2.2
  unfold fX_first_b106 at hF
  refine lv_iload hx hb dX0_first_106 (lv_at hl 2 rfl) ?_
  refine lv_istore (lv' := [(4, .int x6), (0, .ref L.1), (2, .int x2), (6, .int x6), (8, .int x8)]) hx hb dX0_first_108 hl (by decide) rfl (fun ls hl => ?_)
  refine lv_iload hx hb dX0_first_110 (lv_at hl 4 rfl) ?_
  refine lv_istore (lv' := [(5, .int x8), (4, .int x6), (0, .ref L.1), (2, .int x2), (6, .int x6), (8, .int x8)]) hx hb dX0_first_112 hl (by decide) rfl (fun ls hl => ?_)
  exact bX_first_114 C0 hRo hk41 _ _ _ _ _ H locs ls _ _ ⟨by omega, by omega⟩ hG (lv_sub hl [2, 3, 1, 0, 4] rfl) hF
theorem bX_first_41 {N : Nat} (C0 : xCx p l s m args meth c RX0 cX0_first 9 (some .int) L A) (hRo : 214 ≤ R.frames ∧ 12024 ≤ R.locals ∧ 8 ≤ R.cells ∧ 1200 ≤ R.slots) {σ' : xS} {r : Int32} : ∀ (n : Nat) (σ : xS) (x2 : Int32) (x4 : Int32) (x5 : Int32) (x6 : Int32) (H : Heap) (locs : List Loc) (ls : Array Slot) (cells slots : Nat), cells + 0 ≤ 8 ∧ slots + 0 ≤ 1200 →  xG A L g s σ H locs → lv_has ls 9 [(0, .ref L.1), (2, .int x2), (4, .int x4), (5, .int x5), (6, .int x6)] → fX_first_b41 N n σ x2 x4 x5 x6 = some (σ', r) → W p l e R s m args below meth c H locs cells slots (xZ below L g A s args σ' (some (.int r)) 8 1200) (F0 m 41 ls []) := by
  have hx := C0.1
  have hb := C0.2.1
  have hst := C0.2.2.2.2.2.2.2.2.2.2
  intro n
  induction n with
  | zero => intro σ x2 x4 x5 x6 H locs ls cells slots hcs hG hl hF; cases hF
  | succ n ih =>
    intro σ x2 x4 x5 x6 H locs ls cells slots hcs hG hl hF
    unfold fX_first_b41 at hF
    refine lv_iload hx hb dX0_first_41 (lv_at hl 4 rfl) ?_
    refine lv_aload_n hx hb dX0_first_43 rfl (lv_at hl 0 rfl) ?_
    refine x_geti C0 hG 1 (by decide) rfl q175 dX0_first_44 hF (fun x_13 hF => ?_)
    refine lv_icmp_ge (tgt := 120) hx hb dX0_first_47 (by decide) (fun c_14 => ?_) (fun c_14 => ?_)
    · have hF := ifp hF c_14
      refine lv_iload_n hx hb dX0_first_120 rfl (lv_at hl 1 rfl) ?_
      refine lv_if_ne (tgt := 129) hx hb dX0_first_121 (by decide) (fun c_15 => ?_) (fun c_15 => ?_)
      · have hF := ifn hF c_15
        refine lv_iload hx hb dX0_first_129 (lv_at hl 3 rfl) ?_
        exact x_iret C0 hG ⟨by omega, by omega⟩ dX0_first_131 hF
      · have hF := ifp hF c_15
        refine lv_iload hx hb dX0_first_124 (lv_at hl 2 rfl) ?_
        refine lv_goto (tgt := 131) hx hb dX0_first_126 (by decide) ?_
        exact x_iret C0 hG ⟨by omega, by omega⟩ dX0_first_131 hF
    · have hF := ifn hF c_14
      refine lv_aload_n hx hb dX0_first_50 rfl (lv_at hl 0 rfl) ?_
      refine x_geta C0 hG 0 (by decide) rfl (by decide) q174 dX0_first_51 ?_
      refine lv_iload hx hb dX0_first_54 (lv_at hl 4 rfl) ?_
      refine x_swld C0 hG dX0_first_56 hF (fun u_16 hF => ?_)
      refine x_swg C0 hG 4 (by decide) q336 dX0_first_57 hF (fun x_17 hF => ?_)
      refine lv_istore (lv' := [(7, .int x_17), (0, .ref L.1), (2, .int x2), (4, .int x4), (5, .int x5), (6, .int x6)]) hx hb dX0_first_60 hl (by decide) rfl (fun ls hl => ?_)
      refine lv_aload_n hx hb dX0_first_62 rfl (lv_at hl 1 rfl) ?_
      refine x_geta C0 hG 0 (by decide) rfl (by decide) q174 dX0_first_63 ?_
      refine lv_iload hx hb dX0_first_66 (lv_at hl 5 rfl) ?_
      refine x_swld C0 hG dX0_first_68 hF (fun u_18 hF => ?_)
      refine lv_iconst (v := 0) hx hb dX0_first_69 (by decide) ?_
      refine x_swp C0 hG 4 (by decide) q336 dX0_first_70 hF (fun σ_19 H locs hG hF => ?_)
      refine lv_aload_n hx hb dX0_first_73 rfl (lv_at hl 1 rfl) ?_
      obtain ⟨σ_20, r_21, e_22, hF⟩ := obi_of hF
      refine x_cVi0 (As := []) (rest := []) C0 hG (mtX_marks l hst e_22) (lw_V q870 q872 qs23 q100 q873) yd_X0_marks (x_rc0 C0 hG) ⟨by omega, by omega⟩ ⟨by omega, by omega⟩ rfl rfl hl.1 (Nat.le_of_ble_eq_true rfl) dX0_first_74 (fun H locs hG => ?_)
      refine lv_istore (lv' := [(8, .int r_21), (7, .int x_17), (0, .ref L.1), (2, .int x2), (4, .int x4), (5, .int x5), (6, .int x6)]) hx hb dX0_first_77 hl (by decide) rfl (fun ls hl => ?_)
      refine lv_aload_n hx hb dX0_first_79 rfl (lv_at hl 2 rfl) ?_
      refine x_geta C0 hG 0 (by decide) rfl (by decide) q174 dX0_first_80 ?_
      refine lv_iload hx hb dX0_first_83 (lv_at hl 6 rfl) ?_
      refine x_swld C0 hG dX0_first_85 hF (fun u_23 hF => ?_)
      refine lv_iload hx hb dX0_first_86 (lv_at hl 1 rfl) ?_
      refine x_swp C0 hG 4 (by decide) q336 dX0_first_88 hF (fun σ_24 H locs hG hF => ?_)
      refine lv_iload hx hb dX0_first_91 (lv_at hl 4 rfl) ?_
      refine lv_if_lt (tgt := 106) hx hb dX0_first_93 (by decide) (fun c_25 => ?_) (fun c_25 => ?_)
      · have hF := ifp hF c_25
        exact bX_first_106 C0 hRo ih _ _ _ _ H locs ls _ _ ⟨by omega, by omega⟩ hG (lv_sub hl [2, 3, 6, 0] rfl) hF
      · have hF := ifn hF c_25
        refine lv_iload hx hb dX0_first_96 (lv_at hl 0 rfl) ?_
        refine lv_iload hx hb dX0_first_98 (lv_at hl 5 rfl) ?_
        refine lv_icmp_lt (tgt := 106) hx hb dX0_first_100 (by decide) (fun c_26 => ?_) (fun c_26 => ?_)
        · have hF := ifp hF c_26
          exact bX_first_106 C0 hRo ih _ _ _ _ H locs ls _ _ ⟨by omega, by omega⟩ hG (lv_sub hl [2, 3, 6, 0] rfl) hF
        · have hF := ifn hF c_26
          refine lv_goto (tgt := 114) hx hb dX0_first_103 (by decide) ?_
          exact bX_first_114 C0 hRo ih _ _ _ _ _ H locs ls _ _ ⟨by omega, by omega⟩ hG (lv_sub hl [2, 3, 4, 5, 6] rfl) hF
theorem bX_first_e {N : Nat} (C0 : xCx p l s m args meth c RX0 cX0_first 9 (some .int) L A) (hRo : 214 ≤ R.frames ∧ 12024 ≤ R.locals ∧ 8 ≤ R.cells ∧ 1200 ≤ R.slots) {σ' : xS} {r : Int32} (σ : xS) (a0 : Int32) (a1 : Int32) (H : Heap) (locs : List Loc) (ls : Array Slot) (cells slots : Nat) (hcs : cells + 8 ≤ 8 ∧ slots + 1200 ≤ 1200) (hG : xG A L g s σ H locs) (hl : lv_has ls 9 [(0, .ref L.1), (1, .int a0), (2, .int a1)]) (hF : fX_first N σ a0 a1 = some (σ', r)) : W p l e R s m args below meth c H locs cells slots (xZ below L g A s args σ' (some (.int r)) 8 1200) (F0 m 0 ls []) := by
  have hx := C0.1
  have hb := C0.2.1
  have hst := C0.2.2.2.2.2.2.2.2.2.2
  unfold fX_first at hF
  refine lv_iload_n hx hb dX0_first_0 rfl (lv_at hl 1 rfl) ?_
  obtain ⟨σ_1, r_2, e_3, hF⟩ := obi_of hF
  refine x_cSi0 (As := [.int a0]) (rest := []) C0 hG (mtX_isShelf l hst e_3) (lw_S q489 q490 q100 q491) yd_X0_isShelf ⟨by omega, by omega⟩ ⟨by omega, by omega⟩ rfl rfl hl.1 (Nat.le_of_ble_eq_true rfl) dX0_first_1 (fun H locs hG => ?_)
  refine lv_if_eq (tgt := 16) hx hb dX0_first_4 (by decide) (fun c_4 => ?_) (fun c_4 => ?_)
  · have hF := ifp hF c_4
    refine lv_iconst (v := (-1)) hx hb dX0_first_16 (by decide) ?_
    exact x_iret C0 hG ⟨by omega, by omega⟩ dX0_first_17 hF
  · have hF := ifn hF c_4
    refine lv_iload_n hx hb dX0_first_7 rfl (lv_at hl 2 rfl) ?_
    refine lv_iconst (v := 0) hx hb dX0_first_8 (by decide) ?_
    refine lv_iconst (v := 1) hx hb dX0_first_9 (by decide) ?_
    obtain ⟨σ_5, r_6, e_7, hF⟩ := obi_of hF
    refine x_cSi0 (As := [.int a1, .int 0, .int 1]) (rest := []) C0 hG (mtX_in l hst e_7) (lw_S q316 q317 q100 q318) yd_X0_in ⟨by omega, by omega⟩ ⟨by omega, by omega⟩ rfl rfl hl.1 (Nat.le_of_ble_eq_true rfl) dX0_first_10 (fun H locs hG => ?_)
    refine lv_if_ne (tgt := 18) hx hb dX0_first_13 (by decide) (fun c_8 => ?_) (fun c_8 => ?_)
    · have hF := ifn hF c_8
      refine lv_aload_n hx hb dX0_first_18 rfl (lv_at hl 0 rfl) ?_
      refine lv_iload_n hx hb dX0_first_19 rfl (lv_at hl 1 rfl) ?_
      obtain ⟨σ_9, r_10, e_11, hF⟩ := obi_of hF
      refine x_cWi (As := [.int a0]) (rest := []) C0 hG (mtX_layRoutine l hst e_11) (lw_VW q862 q864 qs22 q100 q865) yd_X0_layRoutine (x_rc0 C0 hG) ⟨by omega, by omega⟩ ⟨by omega, by omega⟩ rfl rfl hl.1 (Nat.le_of_ble_eq_true rfl) dX0_first_20 (fun H locs hG => ?_)
      refine lv_istore_n (lv' := [(3, .int r_10), (0, .ref L.1), (1, .int a0), (2, .int a1)]) hx hb dX0_first_23 rfl hl (by decide) rfl (fun ls hl => ?_)
      refine lv_iload_n hx hb dX0_first_24 rfl (lv_at hl 0 rfl) ?_
      refine lv_if_ge (tgt := 30) hx hb dX0_first_25 (by decide) (fun c_12 => ?_) (fun c_12 => ?_)
      · have hF := ifp hF c_12
        refine lv_bipush (v := (-2)) hx hb dX0_first_30 (by decide) ?_
        refine lv_istore (lv' := [(4, .int (-2)), (3, .int r_10), (0, .ref L.1), (1, .int a0), (2, .int a1)]) hx hb dX0_first_32 hl (by decide) rfl (fun ls hl => ?_)
        refine lv_bipush (v := (-2)) hx hb dX0_first_34 (by decide) ?_
        refine lv_istore (lv' := [(5, .int (-2)), (4, .int (-2)), (3, .int r_10), (0, .ref L.1), (1, .int a0), (2, .int a1)]) hx hb dX0_first_36 hl (by decide) rfl (fun ls hl => ?_)
        refine lv_iconst (v := 0) hx hb dX0_first_38 (by decide) ?_
        refine lv_istore (lv' := [(6, .int 0), (5, .int (-2)), (4, .int (-2)), (3, .int r_10), (0, .ref L.1), (1, .int a0), (2, .int a1)]) hx hb dX0_first_39 hl (by decide) rfl (fun ls hl => ?_)
        exact bX_first_41 C0 hRo N _ _ _ _ _ H locs ls _ _ ⟨by omega, by omega⟩ hG (lv_sub hl [4, 6, 2, 1, 0] rfl) hF
      · have hF := ifn hF c_12
        refine lv_iload_n hx hb dX0_first_28 rfl (lv_at hl 0 rfl) ?_
        exact x_iret C0 hG ⟨by omega, by omega⟩ dX0_first_29 hF
    · have hF := ifp hF c_8
      refine lv_iconst (v := (-1)) hx hb dX0_first_16 (by decide) ?_
      exact x_iret C0 hG ⟨by omega, by omega⟩ dX0_first_17 hF
theorem mtX_first (l : Launch) (hst : l.stackTraces = false) {N : Nat} {L : xL} {g : xg} {σ σ' : xS} {r : Int32} {a0 : Int32} {a1 : Int32} (hF : fX_first N σ a0 a1 = some (σ', r)) : xMet l yX0_first cX0_first 9 (some .int) (214) (12024) 8 1200 [.ref L.1, .int a0, .int a1] L g σ (some (.int r)) σ' := by
  refine x_head hst (by decide) rfl ?_
  intro p e s m below meth c A C0 hG
  have hl := lv_entry ([.ref L.1, .int a0, .int a1]) (n := 9) (Nat.le_of_ble_eq_true rfl)
  rw [lg_entry_eq]
  generalize (lg_sl ([.ref L.1, .int a0, .int a1]) ++ List.replicate (9 - (lg_sl ([.ref L.1, .int a0, .int a1])).length) Slot.unset).toArray = ls at hl ⊢
  have hl : lv_has ls 9 [(0, .ref L.1), (1, .int a0), (2, .int a1)] := hl
  exact bX_first_e C0 ⟨Nat.le_refl _, Nat.le_refl _, Nat.le_refl _, Nat.le_refl _⟩ _ _ _ _ [] ls 0 0 ⟨Nat.le_of_ble_eq_true rfl, Nat.le_of_ble_eq_true rfl⟩ hG hl hF
end XWALK7
