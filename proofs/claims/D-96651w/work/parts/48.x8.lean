section XWALK8
variable {p : Program} {l : Launch} {e : Env} {R : Room} {s : State} {m : MethodId} {args : Array Value} {below : List Frame} {meth : Method} {c : Code} {A : Nat → Prop}
variable {L : xL} {g : xg}
def fX_slip (N : Nat) (σ : xS) (a0 : Int32) (a1 : Int32) (a2 : Int32) : Option (xS × Int32) :=
  obi (fX_isShelf N σ a0) fun σ_1 r_2 =>
  if r_2 = 0 then (
    some (σ_1, (-1)))
  else (
    if a1 < 0 then (
      some (σ_1, (-1)))
    else (
      chz 100 <|
      obi (fX_isOne N σ_1 (a1 / 100)) fun σ_7 r_8 =>
      if r_8 = 0 then (
        some (σ_7, (-1)))
      else (
        chz 100 <|
        if 60 ≤ (a1 - a1 / 100 * 100) then (
          some (σ_7, (-1)))
        else (
          obi (fX_in N σ_7 a2 (-99) 99) fun σ_13 r_14 =>
          if r_14 = 0 then (
            some (σ_13, (-1)))
          else (
            obi (fX_layRoutine N σ_13 a0) fun σ_17 r_18 =>
            if 0 ≤ r_18 then (
              chz 100 <|
              nmv (xSi σ_17 16 (a1 / 100)) fun σ_22 =>
              chz 100 <|
              nmv (xSi σ_22 17 (a1 - a1 / 100 * 100)) fun σ_24 =>
              nmv (xSi σ_24 18 a2) fun σ_25 =>
              obi (fX_marks N σ_25) fun σ_26 r_27 =>
              nmv (xSi σ_26 17 (-2)) fun σ_29 =>
              some (σ_29, r_27))
            else (
              some (σ_17, r_18)))))))
theorem bX_slip_e {N : Nat} (C0 : xCx p l s m args meth c RX0 cX0_slip 6 (some .int) L A) (hRo : 214 ≤ R.frames ∧ 12024 ≤ R.locals ∧ 8 ≤ R.cells ∧ 1200 ≤ R.slots) {σ' : xS} {r : Int32} (σ : xS) (a0 : Int32) (a1 : Int32) (a2 : Int32) (H : Heap) (locs : List Loc) (ls : Array Slot) (cells slots : Nat) (hcs : cells + 8 ≤ 8 ∧ slots + 1200 ≤ 1200) (hG : xG A L g s σ H locs) (hl : lv_has ls 6 [(0, .ref L.1), (1, .int a0), (2, .int a1), (3, .int a2)]) (hF : fX_slip N σ a0 a1 a2 = some (σ', r)) : W p l e R s m args below meth c H locs cells slots (xZ below L g A s args σ' (some (.int r)) 8 1200) (F0 m 0 ls []) := by
  have hx := C0.1
  have hb := C0.2.1
  have hst := C0.2.2.2.2.2.2.2.2.2.2
  unfold fX_slip at hF
  refine lv_iload_n hx hb dX0_slip_0 rfl (lv_at hl 1 rfl) ?_
  obtain ⟨σ_1, r_2, e_3, hF⟩ := obi_of hF
  refine x_cSi0 (As := [.int a0]) (rest := []) C0 hG (mtX_isShelf l hst e_3) (lw_S q489 q490 q100 q491) yd_X0_isShelf ⟨by omega, by omega⟩ ⟨by omega, by omega⟩ rfl rfl hl.1 (Nat.le_of_ble_eq_true rfl) dX0_slip_1 (fun H locs hG => ?_)
  refine lv_if_eq (tgt := 42) hx hb dX0_slip_4 (by decide) (fun c_4 => ?_) (fun c_4 => ?_)
  · have hF := ifp hF c_4
    refine lv_iconst (v := (-1)) hx hb dX0_slip_42 (by decide) ?_
    exact x_iret C0 hG ⟨by omega, by omega⟩ dX0_slip_43 hF
  · have hF := ifn hF c_4
    refine lv_iload_n hx hb dX0_slip_7 rfl (lv_at hl 2 rfl) ?_
    refine lv_if_lt (tgt := 42) hx hb dX0_slip_8 (by decide) (fun c_5 => ?_) (fun c_5 => ?_)
    · have hF := ifp hF c_5
      refine lv_iconst (v := (-1)) hx hb dX0_slip_42 (by decide) ?_
      exact x_iret C0 hG ⟨by omega, by omega⟩ dX0_slip_43 hF
    · have hF := ifn hF c_5
      refine lv_aload_n hx hb dX0_slip_11 rfl (lv_at hl 0 rfl) ?_
      refine lv_iload_n hx hb dX0_slip_12 rfl (lv_at hl 2 rfl) ?_
      refine lv_bipush (v := 100) hx hb dX0_slip_13 (by decide) ?_
      obtain ⟨h_6, hF⟩ := chz_of hF
      refine lv_idiv hx hb dX0_slip_15 h_6 ?_
      obtain ⟨σ_7, r_8, e_9, hF⟩ := obi_of hF
      refine x_cVi0 (As := [.int (a1 / 100)]) (rest := []) C0 hG (mtX_isOne l hst e_9) (lw_V q517 q519 qs5 q100 q520) yd_X0_isOne (x_rc0 C0 hG) ⟨by omega, by omega⟩ ⟨by omega, by omega⟩ rfl rfl hl.1 (Nat.le_of_ble_eq_true rfl) dX0_slip_16 (fun H locs hG => ?_)
      refine lv_if_eq (tgt := 42) hx hb dX0_slip_19 (by decide) (fun c_10 => ?_) (fun c_10 => ?_)
      · have hF := ifp hF c_10
        refine lv_iconst (v := (-1)) hx hb dX0_slip_42 (by decide) ?_
        exact x_iret C0 hG ⟨by omega, by omega⟩ dX0_slip_43 hF
      · have hF := ifn hF c_10
        refine lv_iload_n hx hb dX0_slip_22 rfl (lv_at hl 2 rfl) ?_
        refine lv_bipush (v := 100) hx hb dX0_slip_23 (by decide) ?_
        obtain ⟨h_11, hF⟩ := chz_of hF
        refine lv_irem hx hb dX0_slip_25 h_11 ?_
        refine lv_bipush (v := 60) hx hb dX0_slip_26 (by decide) ?_
        refine lv_icmp_ge (tgt := 42) hx hb dX0_slip_28 (by decide) (fun c_12 => ?_) (fun c_12 => ?_)
        · have hF := ifp hF c_12
          refine lv_iconst (v := (-1)) hx hb dX0_slip_42 (by decide) ?_
          exact x_iret C0 hG ⟨by omega, by omega⟩ dX0_slip_43 hF
        · have hF := ifn hF c_12
          refine lv_iload_n hx hb dX0_slip_31 rfl (lv_at hl 3 rfl) ?_
          refine lv_bipush (v := (-99)) hx hb dX0_slip_32 (by decide) ?_
          refine lv_bipush (v := 99) hx hb dX0_slip_34 (by decide) ?_
          obtain ⟨σ_13, r_14, e_15, hF⟩ := obi_of hF
          refine x_cSi0 (As := [.int a2, .int (-99), .int 99]) (rest := []) C0 hG (mtX_in l hst e_15) (lw_S q316 q317 q100 q318) yd_X0_in ⟨by omega, by omega⟩ ⟨by omega, by omega⟩ rfl rfl hl.1 (Nat.le_of_ble_eq_true rfl) dX0_slip_36 (fun H locs hG => ?_)
          refine lv_if_ne (tgt := 44) hx hb dX0_slip_39 (by decide) (fun c_16 => ?_) (fun c_16 => ?_)
          · have hF := ifn hF c_16
            refine lv_aload_n hx hb dX0_slip_44 rfl (lv_at hl 0 rfl) ?_
            refine lv_iload_n hx hb dX0_slip_45 rfl (lv_at hl 1 rfl) ?_
            obtain ⟨σ_17, r_18, e_19, hF⟩ := obi_of hF
            refine x_cWi (As := [.int a0]) (rest := []) C0 hG (mtX_layRoutine l hst e_19) (lw_VW q862 q864 qs22 q100 q865) yd_X0_layRoutine (x_rc0 C0 hG) ⟨by omega, by omega⟩ ⟨by omega, by omega⟩ rfl rfl hl.1 (Nat.le_of_ble_eq_true rfl) dX0_slip_46 (fun H locs hG => ?_)
            refine lv_istore (lv' := [(4, .int r_18), (0, .ref L.1), (1, .int a0), (2, .int a1), (3, .int a2)]) hx hb dX0_slip_49 hl (by decide) rfl (fun ls hl => ?_)
            refine lv_iload hx hb dX0_slip_51 (lv_at hl 0 rfl) ?_
            refine lv_if_ge (tgt := 59) hx hb dX0_slip_53 (by decide) (fun c_20 => ?_) (fun c_20 => ?_)
            · have hF := ifp hF c_20
              refine lv_aload_n hx hb dX0_slip_59 rfl (lv_at hl 1 rfl) ?_
              refine lv_iload_n hx hb dX0_slip_60 rfl (lv_at hl 3 rfl) ?_
              refine lv_bipush (v := 100) hx hb dX0_slip_61 (by decide) ?_
              obtain ⟨h_21, hF⟩ := chz_of hF
              refine lv_idiv hx hb dX0_slip_63 h_21 ?_
              refine x_puti C0 hG 16 (by decide) rfl q192 dX0_slip_64 (Or.inl (by decide)) hF (fun σ_22 H locs hG hF => ?_)
              refine lv_aload_n hx hb dX0_slip_67 rfl (lv_at hl 1 rfl) ?_
              refine lv_iload_n hx hb dX0_slip_68 rfl (lv_at hl 3 rfl) ?_
              refine lv_bipush (v := 100) hx hb dX0_slip_69 (by decide) ?_
              obtain ⟨h_23, hF⟩ := chz_of hF
              refine lv_irem hx hb dX0_slip_71 h_23 ?_
              refine x_puti C0 hG 17 (by decide) rfl q193 dX0_slip_72 (Or.inl (by decide)) hF (fun σ_24 H locs hG hF => ?_)
              refine lv_aload_n hx hb dX0_slip_75 rfl (lv_at hl 1 rfl) ?_
              refine lv_iload_n hx hb dX0_slip_76 rfl (lv_at hl 4 rfl) ?_
              refine x_puti C0 hG 18 (by decide) rfl q194 dX0_slip_77 (Or.inl (by decide)) hF (fun σ_25 H locs hG hF => ?_)
              refine lv_aload_n hx hb dX0_slip_80 rfl (lv_at hl 1 rfl) ?_
              obtain ⟨σ_26, r_27, e_28, hF⟩ := obi_of hF
              refine x_cVi0 (As := []) (rest := []) C0 hG (mtX_marks l hst e_28) (lw_V q870 q872 qs23 q100 q873) yd_X0_marks (x_rc0 C0 hG) ⟨by omega, by omega⟩ ⟨by omega, by omega⟩ rfl rfl hl.1 (Nat.le_of_ble_eq_true rfl) dX0_slip_81 (fun H locs hG => ?_)
              refine lv_istore (lv' := [(5, .int r_27), (4, .int r_18), (0, .ref L.1), (1, .int a0), (2, .int a1), (3, .int a2)]) hx hb dX0_slip_84 hl (by decide) rfl (fun ls hl => ?_)
              refine lv_aload_n hx hb dX0_slip_86 rfl (lv_at hl 2 rfl) ?_
              refine lv_bipush (v := (-2)) hx hb dX0_slip_87 (by decide) ?_
              refine x_puti C0 hG 17 (by decide) rfl q193 dX0_slip_89 (Or.inl (by decide)) hF (fun σ_29 H locs hG hF => ?_)
              refine lv_iload hx hb dX0_slip_92 (lv_at hl 0 rfl) ?_
              exact x_iret C0 hG ⟨by omega, by omega⟩ dX0_slip_94 hF
            · have hF := ifn hF c_20
              refine lv_iload hx hb dX0_slip_56 (lv_at hl 0 rfl) ?_
              exact x_iret C0 hG ⟨by omega, by omega⟩ dX0_slip_58 hF
          · have hF := ifp hF c_16
            refine lv_iconst (v := (-1)) hx hb dX0_slip_42 (by decide) ?_
            exact x_iret C0 hG ⟨by omega, by omega⟩ dX0_slip_43 hF
theorem mtX_slip (l : Launch) (hst : l.stackTraces = false) {N : Nat} {L : xL} {g : xg} {σ σ' : xS} {r : Int32} {a0 : Int32} {a1 : Int32} {a2 : Int32} (hF : fX_slip N σ a0 a1 a2 = some (σ', r)) : xMet l yX0_slip cX0_slip 6 (some .int) (214) (12024) 8 1200 [.ref L.1, .int a0, .int a1, .int a2] L g σ (some (.int r)) σ' := by
  refine x_head hst (by decide) rfl ?_
  intro p e s m below meth c A C0 hG
  have hl := lv_entry ([.ref L.1, .int a0, .int a1, .int a2]) (n := 6) (Nat.le_of_ble_eq_true rfl)
  rw [lg_entry_eq]
  generalize (lg_sl ([.ref L.1, .int a0, .int a1, .int a2]) ++ List.replicate (6 - (lg_sl ([.ref L.1, .int a0, .int a1, .int a2])).length) Slot.unset).toArray = ls at hl ⊢
  have hl : lv_has ls 6 [(0, .ref L.1), (1, .int a0), (2, .int a1), (3, .int a2)] := hl
  exact bX_slip_e C0 ⟨Nat.le_refl _, Nat.le_refl _, Nat.le_refl _, Nat.le_refl _⟩ _ _ _ _ _ [] ls 0 0 ⟨Nat.le_of_ble_eq_true rfl, Nat.le_of_ble_eq_true rfl⟩ hG hl hF
def fX_layBoth (N : Nat) (σ : xS) (a0 : Int32) : Option (xS × Int32) :=
  chz 10 <|
  obi (fX_layRoutine N σ (a0 / 10)) fun σ_2 r_3 =>
  chz 10 <|
  obi (fX_layTold N σ_2 (a0 - a0 / 10 * 10)) fun σ_6 r_7 =>
  if r_3 = (-11) then (
    some (σ_6, (-11)))
  else (
    if r_7 = (-11) then (
      some (σ_6, (-11)))
    else (
      if r_3 < 0 then (
        some (σ_6, (-12)))
      else (
        if 0 ≤ r_7 then (
          some (σ_6, 0))
        else (
          some (σ_6, (-12))))))
theorem bX_layBoth_e {N : Nat} (C0 : xCx p l s m args meth c RX0 cX0_layBoth 4 (some .int) L A) (hRo : 41 ≤ R.frames ∧ 12024 ≤ R.locals ∧ 16 ≤ R.cells ∧ 2400 ≤ R.slots) {σ' : xS} {r : Int32} (σ : xS) (a0 : Int32) (H : Heap) (locs : List Loc) (ls : Array Slot) (cells slots : Nat) (hcs : cells + 16 ≤ 16 ∧ slots + 2400 ≤ 2400) (hG : xG A L g s σ H locs) (hl : lv_has ls 4 [(0, .ref L.1), (1, .int a0)]) (hF : fX_layBoth N σ a0 = some (σ', r)) : W p l e R s m args below meth c H locs cells slots (xZ below L g A s args σ' (some (.int r)) 16 2400) (F0 m 0 ls []) := by
  have hx := C0.1
  have hb := C0.2.1
  have hst := C0.2.2.2.2.2.2.2.2.2.2
  unfold fX_layBoth at hF
  refine lv_aload_n hx hb dX0_layBoth_0 rfl (lv_at hl 0 rfl) ?_
  refine lv_iload_n hx hb dX0_layBoth_1 rfl (lv_at hl 1 rfl) ?_
  refine lv_bipush (v := 10) hx hb dX0_layBoth_2 (by decide) ?_
  obtain ⟨h_1, hF⟩ := chz_of hF
  refine lv_idiv hx hb dX0_layBoth_4 h_1 ?_
  obtain ⟨σ_2, r_3, e_4, hF⟩ := obi_of hF
  refine x_cWi (As := [.int (a0 / 10)]) (rest := []) C0 hG (mtX_layRoutine l hst e_4) (lw_VW q862 q864 qs22 q100 q865) yd_X0_layRoutine (x_rc0 C0 hG) ⟨by omega, by omega⟩ ⟨by omega, by omega⟩ rfl rfl hl.1 (Nat.le_of_ble_eq_true rfl) dX0_layBoth_5 (fun H locs hG => ?_)
  refine lv_istore_n (lv' := [(2, .int r_3), (0, .ref L.1), (1, .int a0)]) hx hb dX0_layBoth_8 rfl hl (by decide) rfl (fun ls hl => ?_)
  refine lv_aload_n hx hb dX0_layBoth_9 rfl (lv_at hl 1 rfl) ?_
  refine lv_iload_n hx hb dX0_layBoth_10 rfl (lv_at hl 2 rfl) ?_
  refine lv_bipush (v := 10) hx hb dX0_layBoth_11 (by decide) ?_
  obtain ⟨h_5, hF⟩ := chz_of hF
  refine lv_irem hx hb dX0_layBoth_13 h_5 ?_
  obtain ⟨σ_6, r_7, e_8, hF⟩ := obi_of hF
  refine x_cWi (As := [.int (a0 - a0 / 10 * 10)]) (rest := []) C0 hG (mtX_layTold l hst e_8) (lw_VW q1040 q1042 qs46 q100 q1043) yd_X0_layTold (x_rc0 C0 hG) ⟨by omega, by omega⟩ ⟨by omega, by omega⟩ rfl rfl hl.1 (Nat.le_of_ble_eq_true rfl) dX0_layBoth_14 (fun H locs hG => ?_)
  refine lv_istore_n (lv' := [(3, .int r_7), (2, .int r_3), (0, .ref L.1), (1, .int a0)]) hx hb dX0_layBoth_17 rfl hl (by decide) rfl (fun ls hl => ?_)
  refine lv_iload_n hx hb dX0_layBoth_18 rfl (lv_at hl 1 rfl) ?_
  refine lv_bipush (v := (-11)) hx hb dX0_layBoth_19 (by decide) ?_
  refine lv_icmp_eq (tgt := 30) hx hb dX0_layBoth_21 (by decide) (fun c_9 => ?_) (fun c_9 => ?_)
  · have hF := ifp hF c_9
    refine lv_bipush (v := (-11)) hx hb dX0_layBoth_30 (by decide) ?_
    refine lv_goto (tgt := 49) hx hb dX0_layBoth_32 (by decide) ?_
    exact x_iret C0 hG ⟨by omega, by omega⟩ dX0_layBoth_49 hF
  · have hF := ifn hF c_9
    refine lv_iload_n hx hb dX0_layBoth_24 rfl (lv_at hl 0 rfl) ?_
    refine lv_bipush (v := (-11)) hx hb dX0_layBoth_25 (by decide) ?_
    refine lv_icmp_ne (tgt := 35) hx hb dX0_layBoth_27 (by decide) (fun c_10 => ?_) (fun c_10 => ?_)
    · have hF := ifn hF c_10
      refine lv_iload_n hx hb dX0_layBoth_35 rfl (lv_at hl 1 rfl) ?_
      refine lv_if_lt (tgt := 43) hx hb dX0_layBoth_36 (by decide) (fun c_11 => ?_) (fun c_11 => ?_)
      · have hF := ifp hF c_11
        refine lv_bipush (v := (-12)) hx hb dX0_layBoth_43 (by decide) ?_
        refine lv_goto (tgt := 49) hx hb dX0_layBoth_45 (by decide) ?_
        exact x_iret C0 hG ⟨by omega, by omega⟩ dX0_layBoth_49 hF
      · have hF := ifn hF c_11
        refine lv_iload_n hx hb dX0_layBoth_39 rfl (lv_at hl 0 rfl) ?_
        refine lv_if_ge (tgt := 48) hx hb dX0_layBoth_40 (by decide) (fun c_12 => ?_) (fun c_12 => ?_)
        · have hF := ifp hF c_12
          refine lv_iconst (v := 0) hx hb dX0_layBoth_48 (by decide) ?_
          exact x_iret C0 hG ⟨by omega, by omega⟩ dX0_layBoth_49 hF
        · have hF := ifn hF c_12
          refine lv_bipush (v := (-12)) hx hb dX0_layBoth_43 (by decide) ?_
          refine lv_goto (tgt := 49) hx hb dX0_layBoth_45 (by decide) ?_
          exact x_iret C0 hG ⟨by omega, by omega⟩ dX0_layBoth_49 hF
    · have hF := ifp hF c_10
      refine lv_bipush (v := (-11)) hx hb dX0_layBoth_30 (by decide) ?_
      refine lv_goto (tgt := 49) hx hb dX0_layBoth_32 (by decide) ?_
      exact x_iret C0 hG ⟨by omega, by omega⟩ dX0_layBoth_49 hF
theorem mtX_layBoth (l : Launch) (hst : l.stackTraces = false) {N : Nat} {L : xL} {g : xg} {σ σ' : xS} {r : Int32} {a0 : Int32} (hF : fX_layBoth N σ a0 = some (σ', r)) : xMet l yX0_layBoth cX0_layBoth 4 (some .int) (41) (12024) 16 2400 [.ref L.1, .int a0] L g σ (some (.int r)) σ' := by
  refine x_head hst (by decide) rfl ?_
  intro p e s m below meth c A C0 hG
  have hl := lv_entry ([.ref L.1, .int a0]) (n := 4) (Nat.le_of_ble_eq_true rfl)
  rw [lg_entry_eq]
  generalize (lg_sl ([.ref L.1, .int a0]) ++ List.replicate (4 - (lg_sl ([.ref L.1, .int a0])).length) Slot.unset).toArray = ls at hl ⊢
  have hl : lv_has ls 4 [(0, .ref L.1), (1, .int a0)] := hl
  exact bX_layBoth_e C0 ⟨Nat.le_refl _, Nat.le_refl _, Nat.le_refl _, Nat.le_refl _⟩ _ _ _ [] ls 0 0 ⟨Nat.le_of_ble_eq_true rfl, Nat.le_of_ble_eq_true rfl⟩ hG hl hF
def fX_judge (N : Nat) (σ : xS) (a0 : Int32) : Option (xS × Int32) :=
  obi (fX_areShelves N σ a0) fun σ_1 r_2 =>
  if r_2 = 0 then (
    some (σ_1, (-1)))
  else (
    obi (fX_layBoth N σ_1 a0) fun σ_5 r_6 =>
    if 0 ≤ r_6 then (
      obi (fX_wrongAt N σ_5) fun σ_9 r_10 =>
      some (σ_9, r_10))
    else (
      some (σ_5, r_6)))
theorem bX_judge_e {N : Nat} (C0 : xCx p l s m args meth c RX0 cX0_judge 3 (some .int) L A) (hRo : 42 ≤ R.frames ∧ 12047 ≤ R.locals ∧ 16 ≤ R.cells ∧ 2400 ≤ R.slots) {σ' : xS} {r : Int32} (σ : xS) (a0 : Int32) (H : Heap) (locs : List Loc) (ls : Array Slot) (cells slots : Nat) (hcs : cells + 16 ≤ 16 ∧ slots + 2400 ≤ 2400) (hG : xG A L g s σ H locs) (hl : lv_has ls 3 [(0, .ref L.1), (1, .int a0)]) (hF : fX_judge N σ a0 = some (σ', r)) : W p l e R s m args below meth c H locs cells slots (xZ below L g A s args σ' (some (.int r)) 16 2400) (F0 m 0 ls []) := by
  have hx := C0.1
  have hb := C0.2.1
  have hst := C0.2.2.2.2.2.2.2.2.2.2
  unfold fX_judge at hF
  refine lv_iload_n hx hb dX0_judge_0 rfl (lv_at hl 1 rfl) ?_
  obtain ⟨σ_1, r_2, e_3, hF⟩ := obi_of hF
  refine x_cSi0 (As := [.int a0]) (rest := []) C0 hG (mtX_areShelves l hst e_3) (lw_S q1033 q1034 q100 q1035) yd_X0_areShelves ⟨by omega, by omega⟩ ⟨by omega, by omega⟩ rfl rfl hl.1 (Nat.le_of_ble_eq_true rfl) dX0_judge_1 (fun H locs hG => ?_)
  refine lv_if_ne (tgt := 9) hx hb dX0_judge_4 (by decide) (fun c_4 => ?_) (fun c_4 => ?_)
  · have hF := ifn hF c_4
    refine lv_aload_n hx hb dX0_judge_9 rfl (lv_at hl 0 rfl) ?_
    refine lv_iload_n hx hb dX0_judge_10 rfl (lv_at hl 1 rfl) ?_
    obtain ⟨σ_5, r_6, e_7, hF⟩ := obi_of hF
    refine x_cVi (As := [.int a0]) (rest := []) C0 hG (mtX_layBoth l hst e_7) (lw_V q1036 q1038 qs45 q100 q1039) yd_X0_layBoth (x_rc0 C0 hG) ⟨by omega, by omega⟩ ⟨by omega, by omega⟩ rfl rfl hl.1 (Nat.le_of_ble_eq_true rfl) dX0_judge_11 (fun H locs hG => ?_)
    refine lv_istore_n (lv' := [(2, .int r_6), (0, .ref L.1), (1, .int a0)]) hx hb dX0_judge_14 rfl hl (by decide) rfl (fun ls hl => ?_)
    refine lv_iload_n hx hb dX0_judge_15 rfl (lv_at hl 0 rfl) ?_
    refine lv_if_ge (tgt := 23) hx hb dX0_judge_16 (by decide) (fun c_8 => ?_) (fun c_8 => ?_)
    · have hF := ifp hF c_8
      refine lv_aload_n hx hb dX0_judge_23 rfl (lv_at hl 1 rfl) ?_
      obtain ⟨σ_9, r_10, e_11, hF⟩ := obi_of hF
      refine x_cVi0 (As := []) (rest := []) C0 hG (mtX_wrongAt l hst e_11) (lw_V q1053 q1055 qs47 q100 q1056) yd_X0_wrongAt (x_rc0 C0 hG) ⟨by omega, by omega⟩ ⟨by omega, by omega⟩ rfl rfl hl.1 (Nat.le_of_ble_eq_true rfl) dX0_judge_24 (fun H locs hG => ?_)
      exact x_iret C0 hG ⟨by omega, by omega⟩ dX0_judge_27 hF
    · have hF := ifn hF c_8
      refine lv_iload_n hx hb dX0_judge_19 rfl (lv_at hl 0 rfl) ?_
      refine lv_goto (tgt := 27) hx hb dX0_judge_20 (by decide) ?_
      exact x_iret C0 hG ⟨by omega, by omega⟩ dX0_judge_27 hF
  · have hF := ifp hF c_4
    refine lv_iconst (v := (-1)) hx hb dX0_judge_7 (by decide) ?_
    exact x_iret C0 hG ⟨by omega, by omega⟩ dX0_judge_8 hF
theorem mtX_judge (l : Launch) (hst : l.stackTraces = false) {N : Nat} {L : xL} {g : xg} {σ σ' : xS} {r : Int32} {a0 : Int32} (hF : fX_judge N σ a0 = some (σ', r)) : xMet l yX0_judge cX0_judge 3 (some .int) (42) (12047) 16 2400 [.ref L.1, .int a0] L g σ (some (.int r)) σ' := by
  refine x_head hst (by decide) rfl ?_
  intro p e s m below meth c A C0 hG
  have hl := lv_entry ([.ref L.1, .int a0]) (n := 3) (Nat.le_of_ble_eq_true rfl)
  rw [lg_entry_eq]
  generalize (lg_sl ([.ref L.1, .int a0]) ++ List.replicate (3 - (lg_sl ([.ref L.1, .int a0])).length) Slot.unset).toArray = ls at hl ⊢
  have hl : lv_has ls 3 [(0, .ref L.1), (1, .int a0)] := hl
  exact bX_judge_e C0 ⟨Nat.le_refl _, Nat.le_refl _, Nat.le_refl _, Nat.le_refl _⟩ _ _ _ [] ls 0 0 ⟨Nat.le_of_ble_eq_true rfl, Nat.le_of_ble_eq_true rfl⟩ hG hl hF
def fX_whoLed_b65 (N : Nat) (k32 : xS → Int32 → Int32 → Int32 → Option (xS × Int32)) (σ : xS) (x3 : Int32) (x4 : Int32) (x5 : Int32) : Option (xS × Int32) :=
  nmv (x5 + 1) fun x_19 =>
  k32 σ x3 x4 x_19
def fX_whoLed_b32 (N : Nat) : Nat → xS → Int32 → Int32 → Int32 → Option (xS × Int32)
  | 0, _, _, _, _ => none
  | n + 1, σ, x3, x4, x5 =>
    nmv (xI σ 1) fun x_10 =>
    if x_10 ≤ x5 then (
      nmv (xSi σ 2 x3) fun σ_12 =>
      some (σ_12, x4))
    else (
      nmv (xSi σ 2 x5) fun σ_13 =>
      obi (fX_wrongAt N σ_13) fun σ_14 r_15 =>
      if r_15 = (-2) then (
        nmv (x4 ||| (1 <<< (x5 &&& 31))) fun x_18 =>
        fX_whoLed_b65 N (fX_whoLed_b32 N n) σ_14 x3 x_18 x5)
      else (
        fX_whoLed_b65 N (fX_whoLed_b32 N n) σ_14 x3 x4 x5))
def fX_whoLed (N : Nat) (σ : xS) (a0 : Int32) : Option (xS × Int32) :=
  obi (fX_areShelves N σ a0) fun σ_1 r_2 =>
  if r_2 = 0 then (
    some (σ_1, (-1)))
  else (
    obi (fX_layBoth N σ_1 a0) fun σ_5 r_6 =>
    if 0 ≤ r_6 then (
      nmv (xI σ_5 2) fun x_9 =>
      fX_whoLed_b32 N N σ_5 x_9 0 0)
    else (
      some (σ_5, r_6)))
theorem bX_whoLed_65 {N : Nat} (C0 : xCx p l s m args meth c RX0 cX0_whoLed 6 (some .int) L A) (hRo : 42 ≤ R.frames ∧ 12047 ≤ R.locals ∧ 16 ≤ R.cells ∧ 2400 ≤ R.slots) {σ' : xS} {r : Int32} {k32 : xS → Int32 → Int32 → Int32 → Option (xS × Int32)} (hk32 : ∀ (σ : xS) (x3 : Int32) (x4 : Int32) (x5 : Int32) (H : Heap) (locs : List Loc) (ls : Array Slot) (cells slots : Nat), cells + 0 ≤ 16 ∧ slots + 0 ≤ 2400 →  xG A L g s σ H locs → lv_has ls 6 [(0, .ref L.1), (3, .int x3), (4, .int x4), (5, .int x5)] → k32 σ x3 x4 x5 = some (σ', r) → W p l e R s m args below meth c H locs cells slots (xZ below L g A s args σ' (some (.int r)) 16 2400) (F0 m 32 ls [])) (σ : xS) (x3 : Int32) (x4 : Int32) (x5 : Int32) (H : Heap) (locs : List Loc) (ls : Array Slot) (cells slots : Nat) (hcs : cells + 0 ≤ 16 ∧ slots + 0 ≤ 2400) (hG : xG A L g s σ H locs) (hl : lv_has ls 6 [(0, .ref L.1), (3, .int x3), (4, .int x4), (5, .int x5)]) (hF : fX_whoLed_b65 N k32 σ x3 x4 x5 = some (σ', r)) : W p l e R s m args below meth c H locs cells slots (xZ below L g A s args σ' (some (.int r)) 16 2400) (F0 m 65 ls []) := by
  have hx := C0.1
  have hb := C0.2.1
  have hst := C0.2.2.2.2.2.2.2.2.2.2
  unfold fX_whoLed_b65 at hF
  refine w_iinc hx hb dX0_whoLed_65 hl 3 rfl (v := 1) (by decide) (by decide) hF (fun x_19 ls hl hF => ?_)
  have hl : lv_has ls 6 [(5, .int x_19), (0, .ref L.1), (3, .int x3), (4, .int x4)] := hl
  refine lv_goto (tgt := 32) hx hb dX0_whoLed_68 (by decide) ?_
  exact hk32 _ _ _ _ H locs ls _ _ ⟨by omega, by omega⟩ hG (lv_sub hl [1, 2, 3, 0] rfl) hF
theorem bX_whoLed_32 {N : Nat} (C0 : xCx p l s m args meth c RX0 cX0_whoLed 6 (some .int) L A) (hRo : 42 ≤ R.frames ∧ 12047 ≤ R.locals ∧ 16 ≤ R.cells ∧ 2400 ≤ R.slots) {σ' : xS} {r : Int32} : ∀ (n : Nat) (σ : xS) (x3 : Int32) (x4 : Int32) (x5 : Int32) (H : Heap) (locs : List Loc) (ls : Array Slot) (cells slots : Nat), cells + 0 ≤ 16 ∧ slots + 0 ≤ 2400 →  xG A L g s σ H locs → lv_has ls 6 [(0, .ref L.1), (3, .int x3), (4, .int x4), (5, .int x5)] → fX_whoLed_b32 N n σ x3 x4 x5 = some (σ', r) → W p l e R s m args below meth c H locs cells slots (xZ below L g A s args σ' (some (.int r)) 16 2400) (F0 m 32 ls []) := by
  have hx := C0.1
  have hb := C0.2.1
  have hst := C0.2.2.2.2.2.2.2.2.2.2
  intro n
  induction n with
  | zero => intro σ x3 x4 x5 H locs ls cells slots hcs hG hl hF; cases hF
  | succ n ih =>
    intro σ x3 x4 x5 H locs ls cells slots hcs hG hl hF
    unfold fX_whoLed_b32 at hF
    refine lv_iload hx hb dX0_whoLed_32 (lv_at hl 3 rfl) ?_
    refine lv_aload_n hx hb dX0_whoLed_34 rfl (lv_at hl 0 rfl) ?_
    refine x_geti C0 hG 1 (by decide) rfl q175 dX0_whoLed_35 hF (fun x_10 hF => ?_)
    refine lv_icmp_ge (tgt := 71) hx hb dX0_whoLed_38 (by decide) (fun c_11 => ?_) (fun c_11 => ?_)
    · have hF := ifp hF c_11
      refine lv_aload_n hx hb dX0_whoLed_71 rfl (lv_at hl 0 rfl) ?_
      refine lv_iload_n hx hb dX0_whoLed_72 rfl (lv_at hl 1 rfl) ?_
      refine x_puti C0 hG 2 (by decide) rfl q176 dX0_whoLed_73 (Or.inl (by decide)) hF (fun σ_12 H locs hG hF => ?_)
      refine lv_iload hx hb dX0_whoLed_76 (lv_at hl 2 rfl) ?_
      exact x_iret C0 hG ⟨by omega, by omega⟩ dX0_whoLed_78 hF
    · have hF := ifn hF c_11
      refine lv_aload_n hx hb dX0_whoLed_41 rfl (lv_at hl 0 rfl) ?_
      refine lv_iload hx hb dX0_whoLed_42 (lv_at hl 3 rfl) ?_
      refine x_puti C0 hG 2 (by decide) rfl q176 dX0_whoLed_44 (Or.inl (by decide)) hF (fun σ_13 H locs hG hF => ?_)
      refine lv_aload_n hx hb dX0_whoLed_47 rfl (lv_at hl 0 rfl) ?_
      obtain ⟨σ_14, r_15, e_16, hF⟩ := obi_of hF
      refine x_cVi0 (As := []) (rest := []) C0 hG (mtX_wrongAt l hst e_16) (lw_V q1053 q1055 qs47 q100 q1056) yd_X0_wrongAt (x_rc0 C0 hG) ⟨by omega, by omega⟩ ⟨by omega, by omega⟩ rfl rfl hl.1 (Nat.le_of_ble_eq_true rfl) dX0_whoLed_48 (fun H locs hG => ?_)
      refine lv_bipush (v := (-2)) hx hb dX0_whoLed_51 (by decide) ?_
      refine lv_icmp_ne (tgt := 65) hx hb dX0_whoLed_53 (by decide) (fun c_17 => ?_) (fun c_17 => ?_)
      · have hF := ifn hF c_17
        exact bX_whoLed_65 C0 hRo ih _ _ _ _ H locs ls _ _ ⟨by omega, by omega⟩ hG (lv_sub hl [0, 1, 2, 3] rfl) hF
      · have hF := ifp hF c_17
        refine lv_iload hx hb dX0_whoLed_56 (lv_at hl 2 rfl) ?_
        refine lv_iconst (v := 1) hx hb dX0_whoLed_58 (by decide) ?_
        refine lv_iload hx hb dX0_whoLed_59 (lv_at hl 3 rfl) ?_
        refine lv_ishl hx hb dX0_whoLed_61 ?_
        refine lv_ior hx hb dX0_whoLed_62 ?_
        refine w_nm hF (fun x_18 hF => ?_)
        refine lv_istore (lv' := [(4, .int x_18), (0, .ref L.1), (3, .int x3), (5, .int x5)]) hx hb dX0_whoLed_63 hl (by decide) rfl (fun ls hl => ?_)
        exact bX_whoLed_65 C0 hRo ih _ _ _ _ H locs ls _ _ ⟨by omega, by omega⟩ hG (lv_sub hl [1, 2, 0, 3] rfl) hF
theorem bX_whoLed_e {N : Nat} (C0 : xCx p l s m args meth c RX0 cX0_whoLed 6 (some .int) L A) (hRo : 42 ≤ R.frames ∧ 12047 ≤ R.locals ∧ 16 ≤ R.cells ∧ 2400 ≤ R.slots) {σ' : xS} {r : Int32} (σ : xS) (a0 : Int32) (H : Heap) (locs : List Loc) (ls : Array Slot) (cells slots : Nat) (hcs : cells + 16 ≤ 16 ∧ slots + 2400 ≤ 2400) (hG : xG A L g s σ H locs) (hl : lv_has ls 6 [(0, .ref L.1), (1, .int a0)]) (hF : fX_whoLed N σ a0 = some (σ', r)) : W p l e R s m args below meth c H locs cells slots (xZ below L g A s args σ' (some (.int r)) 16 2400) (F0 m 0 ls []) := by
  have hx := C0.1
  have hb := C0.2.1
  have hst := C0.2.2.2.2.2.2.2.2.2.2
  unfold fX_whoLed at hF
  refine lv_iload_n hx hb dX0_whoLed_0 rfl (lv_at hl 1 rfl) ?_
  obtain ⟨σ_1, r_2, e_3, hF⟩ := obi_of hF
  refine x_cSi0 (As := [.int a0]) (rest := []) C0 hG (mtX_areShelves l hst e_3) (lw_S q1033 q1034 q100 q1035) yd_X0_areShelves ⟨by omega, by omega⟩ ⟨by omega, by omega⟩ rfl rfl hl.1 (Nat.le_of_ble_eq_true rfl) dX0_whoLed_1 (fun H locs hG => ?_)
  refine lv_if_ne (tgt := 9) hx hb dX0_whoLed_4 (by decide) (fun c_4 => ?_) (fun c_4 => ?_)
  · have hF := ifn hF c_4
    refine lv_aload_n hx hb dX0_whoLed_9 rfl (lv_at hl 0 rfl) ?_
    refine lv_iload_n hx hb dX0_whoLed_10 rfl (lv_at hl 1 rfl) ?_
    obtain ⟨σ_5, r_6, e_7, hF⟩ := obi_of hF
    refine x_cVi (As := [.int a0]) (rest := []) C0 hG (mtX_layBoth l hst e_7) (lw_V q1036 q1038 qs45 q100 q1039) yd_X0_layBoth (x_rc0 C0 hG) ⟨by omega, by omega⟩ ⟨by omega, by omega⟩ rfl rfl hl.1 (Nat.le_of_ble_eq_true rfl) dX0_whoLed_11 (fun H locs hG => ?_)
    refine lv_istore_n (lv' := [(2, .int r_6), (0, .ref L.1), (1, .int a0)]) hx hb dX0_whoLed_14 rfl hl (by decide) rfl (fun ls hl => ?_)
    refine lv_iload_n hx hb dX0_whoLed_15 rfl (lv_at hl 0 rfl) ?_
    refine lv_if_ge (tgt := 21) hx hb dX0_whoLed_16 (by decide) (fun c_8 => ?_) (fun c_8 => ?_)
    · have hF := ifp hF c_8
      refine lv_aload_n hx hb dX0_whoLed_21 rfl (lv_at hl 1 rfl) ?_
      refine x_geti C0 hG 2 (by decide) rfl q176 dX0_whoLed_22 hF (fun x_9 hF => ?_)
      refine lv_istore_n (lv' := [(3, .int x_9), (2, .int r_6), (0, .ref L.1), (1, .int a0)]) hx hb dX0_whoLed_25 rfl hl (by decide) rfl (fun ls hl => ?_)
      refine lv_iconst (v := 0) hx hb dX0_whoLed_26 (by decide) ?_
      refine lv_istore (lv' := [(4, .int 0), (3, .int x_9), (2, .int r_6), (0, .ref L.1), (1, .int a0)]) hx hb dX0_whoLed_27 hl (by decide) rfl (fun ls hl => ?_)
      refine lv_iconst (v := 0) hx hb dX0_whoLed_29 (by decide) ?_
      refine lv_istore (lv' := [(5, .int 0), (4, .int 0), (3, .int x_9), (2, .int r_6), (0, .ref L.1), (1, .int a0)]) hx hb dX0_whoLed_30 hl (by decide) rfl (fun ls hl => ?_)
      exact bX_whoLed_32 C0 hRo N _ _ _ _ H locs ls _ _ ⟨by omega, by omega⟩ hG (lv_sub hl [4, 2, 1, 0] rfl) hF
    · have hF := ifn hF c_8
      refine lv_iload_n hx hb dX0_whoLed_19 rfl (lv_at hl 0 rfl) ?_
      exact x_iret C0 hG ⟨by omega, by omega⟩ dX0_whoLed_20 hF
  · have hF := ifp hF c_4
    refine lv_iconst (v := (-1)) hx hb dX0_whoLed_7 (by decide) ?_
    exact x_iret C0 hG ⟨by omega, by omega⟩ dX0_whoLed_8 hF
theorem mtX_whoLed (l : Launch) (hst : l.stackTraces = false) {N : Nat} {L : xL} {g : xg} {σ σ' : xS} {r : Int32} {a0 : Int32} (hF : fX_whoLed N σ a0 = some (σ', r)) : xMet l yX0_whoLed cX0_whoLed 6 (some .int) (42) (12047) 16 2400 [.ref L.1, .int a0] L g σ (some (.int r)) σ' := by
  refine x_head hst (by decide) rfl ?_
  intro p e s m below meth c A C0 hG
  have hl := lv_entry ([.ref L.1, .int a0]) (n := 6) (Nat.le_of_ble_eq_true rfl)
  rw [lg_entry_eq]
  generalize (lg_sl ([.ref L.1, .int a0]) ++ List.replicate (6 - (lg_sl ([.ref L.1, .int a0])).length) Slot.unset).toArray = ls at hl ⊢
  have hl : lv_has ls 6 [(0, .ref L.1), (1, .int a0)] := hl
  exact bX_whoLed_e C0 ⟨Nat.le_refl _, Nat.le_refl _, Nat.le_refl _, Nat.le_refl _⟩ _ _ _ [] ls 0 0 ⟨Nat.le_of_ble_eq_true rfl, Nat.le_of_ble_eq_true rfl⟩ hG hl hF
def fX_later_b89 (N : Nat) (σ : xS) (x2 : Int32) (x4 : Int32) (x5 : Int32) : Option (xS × Int32) :=
  chk x2 8 <| chl x2.toNatClampNeg (xn σ) <| nmv x2.toNatClampNeg fun u_23 =>
  chl u_23 (xn σ) <| nmv (xSe σ u_23 5 x4) fun σ_24 =>
  some (σ_24, x5)
def fX_later_b83 (N : Nat) (k47 : xS → Int32 → Int32 → Int32 → Int32 → Option (xS × Int32)) (σ : xS) (x2 : Int32) (x4 : Int32) (x5 : Int32) (x6 : Int32) : Option (xS × Int32) :=
  nmv (x6 + 1) fun x_25 =>
  k47 σ x2 x4 x5 x_25
def fX_later_b47 (N : Nat) : Nat → xS → Int32 → Int32 → Int32 → Int32 → Option (xS × Int32)
  | 0, _, _, _, _, _ => none
  | n + 1, σ, x2, x4, x5, x6 =>
    if 99 < x6 then (
      fX_later_b89 N σ x2 x4 x5)
    else (
      if 0 ≤ x5 then (
        fX_later_b89 N σ x2 x4 x5)
      else (
        chk x2 8 <| chl x2.toNatClampNeg (xn σ) <| nmv x2.toNatClampNeg fun u_17 =>
        chl u_17 (xn σ) <| nmv (xSe σ u_17 5 x6) fun σ_18 =>
        obi (fX_wrongAt N σ_18) fun σ_19 r_20 =>
        if r_20 = (-2) then (
          fX_later_b83 N (fX_later_b47 N n) σ_19 x2 x4 x6 x6)
        else (
          fX_later_b83 N (fX_later_b47 N n) σ_19 x2 x4 x5 x6)))
def fX_later (N : Nat) (σ : xS) (a0 : Int32) (a1 : Int32) : Option (xS × Int32) :=
  obi (fX_areShelves N σ a0) fun σ_1 r_2 =>
  if r_2 = 0 then (
    some (σ_1, (-1)))
  else (
    obi (fX_isOne N σ_1 a1) fun σ_5 r_6 =>
    if r_6 = 0 then (
      some (σ_5, (-1)))
    else (
      obi (fX_layBoth N σ_5 a0) fun σ_9 r_10 =>
      if 0 ≤ r_10 then (
        chk a1 8 <| chl a1.toNatClampNeg (xn σ_9) <| nmv a1.toNatClampNeg fun u_13 =>
        chl u_13 (xn σ_9) <| nmv (xE σ_9 u_13 5) fun x_14 =>
        fX_later_b47 N N σ_9 a1 x_14 (-2) 0)
      else (
        some (σ_9, r_10))))
theorem bX_later_89 {N : Nat} (C0 : xCx p l s m args meth c RX0 cX0_later 7 (some .int) L A) (hRo : 42 ≤ R.frames ∧ 12047 ≤ R.locals ∧ 16 ≤ R.cells ∧ 2400 ≤ R.slots) {σ' : xS} {r : Int32} (σ : xS) (x2 : Int32) (x4 : Int32) (x5 : Int32) (H : Heap) (locs : List Loc) (ls : Array Slot) (cells slots : Nat) (hcs : cells + 0 ≤ 16 ∧ slots + 0 ≤ 2400) (hG : xG A L g s σ H locs) (hl : lv_has ls 7 [(0, .ref L.1), (2, .int x2), (4, .int x4), (5, .int x5)]) (hF : fX_later_b89 N σ x2 x4 x5 = some (σ', r)) : W p l e R s m args below meth c H locs cells slots (xZ below L g A s args σ' (some (.int r)) 16 2400) (F0 m 89 ls []) := by
  have hx := C0.1
  have hb := C0.2.1
  have hst := C0.2.2.2.2.2.2.2.2.2.2
  unfold fX_later_b89 at hF
  refine lv_aload_n hx hb dX0_later_89 rfl (lv_at hl 0 rfl) ?_
  refine x_geta C0 hG 0 (by decide) rfl (by decide) q174 dX0_later_90 ?_
  refine lv_iload_n hx hb dX0_later_93 rfl (lv_at hl 1 rfl) ?_
  refine x_swld C0 hG dX0_later_94 hF (fun u_23 hF => ?_)
  refine lv_iload hx hb dX0_later_95 (lv_at hl 2 rfl) ?_
  refine x_swp C0 hG 5 (by decide) q337 dX0_later_97 hF (fun σ_24 H locs hG hF => ?_)
  refine lv_iload hx hb dX0_later_100 (lv_at hl 3 rfl) ?_
  exact x_iret C0 hG ⟨by omega, by omega⟩ dX0_later_102 hF
theorem bX_later_83 {N : Nat} (C0 : xCx p l s m args meth c RX0 cX0_later 7 (some .int) L A) (hRo : 42 ≤ R.frames ∧ 12047 ≤ R.locals ∧ 16 ≤ R.cells ∧ 2400 ≤ R.slots) {σ' : xS} {r : Int32} {k47 : xS → Int32 → Int32 → Int32 → Int32 → Option (xS × Int32)} (hk47 : ∀ (σ : xS) (x2 : Int32) (x4 : Int32) (x5 : Int32) (x6 : Int32) (H : Heap) (locs : List Loc) (ls : Array Slot) (cells slots : Nat), cells + 0 ≤ 16 ∧ slots + 0 ≤ 2400 →  xG A L g s σ H locs → lv_has ls 7 [(0, .ref L.1), (2, .int x2), (4, .int x4), (5, .int x5), (6, .int x6)] → k47 σ x2 x4 x5 x6 = some (σ', r) → W p l e R s m args below meth c H locs cells slots (xZ below L g A s args σ' (some (.int r)) 16 2400) (F0 m 47 ls [])) (σ : xS) (x2 : Int32) (x4 : Int32) (x5 : Int32) (x6 : Int32) (H : Heap) (locs : List Loc) (ls : Array Slot) (cells slots : Nat) (hcs : cells + 0 ≤ 16 ∧ slots + 0 ≤ 2400) (hG : xG A L g s σ H locs) (hl : lv_has ls 7 [(0, .ref L.1), (2, .int x2), (4, .int x4), (5, .int x5), (6, .int x6)]) (hF : fX_later_b83 N k47 σ x2 x4 x5 x6 = some (σ', r)) : W p l e R s m args below meth c H locs cells slots (xZ below L g A s args σ' (some (.int r)) 16 2400) (F0 m 83 ls []) := by
  have hx := C0.1
  have hb := C0.2.1
  have hst := C0.2.2.2.2.2.2.2.2.2.2
  unfold fX_later_b83 at hF
  refine w_iinc hx hb dX0_later_83 hl 4 rfl (v := 1) (by decide) (by decide) hF (fun x_25 ls hl hF => ?_)
  have hl : lv_has ls 7 [(6, .int x_25), (0, .ref L.1), (2, .int x2), (4, .int x4), (5, .int x5)] := hl
  refine lv_goto (tgt := 47) hx hb dX0_later_86 (by decide) ?_
  exact hk47 _ _ _ _ _ H locs ls _ _ ⟨by omega, by omega⟩ hG (lv_sub hl [1, 2, 3, 4, 0] rfl) hF
theorem bX_later_47 {N : Nat} (C0 : xCx p l s m args meth c RX0 cX0_later 7 (some .int) L A) (hRo : 42 ≤ R.frames ∧ 12047 ≤ R.locals ∧ 16 ≤ R.cells ∧ 2400 ≤ R.slots) {σ' : xS} {r : Int32} : ∀ (n : Nat) (σ : xS) (x2 : Int32) (x4 : Int32) (x5 : Int32) (x6 : Int32) (H : Heap) (locs : List Loc) (ls : Array Slot) (cells slots : Nat), cells + 0 ≤ 16 ∧ slots + 0 ≤ 2400 →  xG A L g s σ H locs → lv_has ls 7 [(0, .ref L.1), (2, .int x2), (4, .int x4), (5, .int x5), (6, .int x6)] → fX_later_b47 N n σ x2 x4 x5 x6 = some (σ', r) → W p l e R s m args below meth c H locs cells slots (xZ below L g A s args σ' (some (.int r)) 16 2400) (F0 m 47 ls []) := by
  have hx := C0.1
  have hb := C0.2.1
  have hst := C0.2.2.2.2.2.2.2.2.2.2
  intro n
  induction n with
  | zero => intro σ x2 x4 x5 x6 H locs ls cells slots hcs hG hl hF; cases hF
  | succ n ih =>
    intro σ x2 x4 x5 x6 H locs ls cells slots hcs hG hl hF
    unfold fX_later_b47 at hF
    refine lv_iload hx hb dX0_later_47 (lv_at hl 4 rfl) ?_
    refine lv_bipush (v := 99) hx hb dX0_later_49 (by decide) ?_
    refine lv_icmp_gt (tgt := 89) hx hb dX0_later_51 (by decide) (fun c_15 => ?_) (fun c_15 => ?_)
    · have hF := ifp hF c_15
      exact bX_later_89 C0 hRo _ _ _ _ H locs ls _ _ ⟨by omega, by omega⟩ hG (lv_sub hl [0, 1, 2, 3] rfl) hF
    · have hF := ifn hF c_15
      refine lv_iload hx hb dX0_later_54 (lv_at hl 3 rfl) ?_
      refine lv_if_ge (tgt := 89) hx hb dX0_later_56 (by decide) (fun c_16 => ?_) (fun c_16 => ?_)
      · have hF := ifp hF c_16
        exact bX_later_89 C0 hRo _ _ _ _ H locs ls _ _ ⟨by omega, by omega⟩ hG (lv_sub hl [0, 1, 2, 3] rfl) hF
      · have hF := ifn hF c_16
        refine lv_aload_n hx hb dX0_later_59 rfl (lv_at hl 0 rfl) ?_
        refine x_geta C0 hG 0 (by decide) rfl (by decide) q174 dX0_later_60 ?_
        refine lv_iload_n hx hb dX0_later_63 rfl (lv_at hl 1 rfl) ?_
        refine x_swld C0 hG dX0_later_64 hF (fun u_17 hF => ?_)
        refine lv_iload hx hb dX0_later_65 (lv_at hl 4 rfl) ?_
        refine x_swp C0 hG 5 (by decide) q337 dX0_later_67 hF (fun σ_18 H locs hG hF => ?_)
        refine lv_aload_n hx hb dX0_later_70 rfl (lv_at hl 0 rfl) ?_
        obtain ⟨σ_19, r_20, e_21, hF⟩ := obi_of hF
        refine x_cVi0 (As := []) (rest := []) C0 hG (mtX_wrongAt l hst e_21) (lw_V q1053 q1055 qs47 q100 q1056) yd_X0_wrongAt (x_rc0 C0 hG) ⟨by omega, by omega⟩ ⟨by omega, by omega⟩ rfl rfl hl.1 (Nat.le_of_ble_eq_true rfl) dX0_later_71 (fun H locs hG => ?_)
        refine lv_bipush (v := (-2)) hx hb dX0_later_74 (by decide) ?_
        refine lv_icmp_ne (tgt := 83) hx hb dX0_later_76 (by decide) (fun c_22 => ?_) (fun c_22 => ?_)
        · have hF := ifn hF c_22
          exact bX_later_83 C0 hRo ih _ _ _ _ _ H locs ls _ _ ⟨by omega, by omega⟩ hG (lv_sub hl [0, 1, 2, 3, 4] rfl) hF
        · have hF := ifp hF c_22
          refine lv_iload hx hb dX0_later_79 (lv_at hl 4 rfl) ?_
          refine lv_istore (lv' := [(5, .int x6), (0, .ref L.1), (2, .int x2), (4, .int x4), (6, .int x6)]) hx hb dX0_later_81 hl (by decide) rfl (fun ls hl => ?_)
          exact bX_later_83 C0 hRo ih _ _ _ _ _ H locs ls _ _ ⟨by omega, by omega⟩ hG (lv_sub hl [1, 2, 3, 0, 4] rfl) hF
theorem bX_later_e {N : Nat} (C0 : xCx p l s m args meth c RX0 cX0_later 7 (some .int) L A) (hRo : 42 ≤ R.frames ∧ 12047 ≤ R.locals ∧ 16 ≤ R.cells ∧ 2400 ≤ R.slots) {σ' : xS} {r : Int32} (σ : xS) (a0 : Int32) (a1 : Int32) (H : Heap) (locs : List Loc) (ls : Array Slot) (cells slots : Nat) (hcs : cells + 16 ≤ 16 ∧ slots + 2400 ≤ 2400) (hG : xG A L g s σ H locs) (hl : lv_has ls 7 [(0, .ref L.1), (1, .int a0), (2, .int a1)]) (hF : fX_later N σ a0 a1 = some (σ', r)) : W p l e R s m args below meth c H locs cells slots (xZ below L g A s args σ' (some (.int r)) 16 2400) (F0 m 0 ls []) := by
  have hx := C0.1
  have hb := C0.2.1
  have hst := C0.2.2.2.2.2.2.2.2.2.2
  unfold fX_later at hF
  refine lv_iload_n hx hb dX0_later_0 rfl (lv_at hl 1 rfl) ?_
  obtain ⟨σ_1, r_2, e_3, hF⟩ := obi_of hF
  refine x_cSi0 (As := [.int a0]) (rest := []) C0 hG (mtX_areShelves l hst e_3) (lw_S q1033 q1034 q100 q1035) yd_X0_areShelves ⟨by omega, by omega⟩ ⟨by omega, by omega⟩ rfl rfl hl.1 (Nat.le_of_ble_eq_true rfl) dX0_later_1 (fun H locs hG => ?_)
  refine lv_if_eq (tgt := 15) hx hb dX0_later_4 (by decide) (fun c_4 => ?_) (fun c_4 => ?_)
  · have hF := ifp hF c_4
    refine lv_iconst (v := (-1)) hx hb dX0_later_15 (by decide) ?_
    exact x_iret C0 hG ⟨by omega, by omega⟩ dX0_later_16 hF
  · have hF := ifn hF c_4
    refine lv_aload_n hx hb dX0_later_7 rfl (lv_at hl 0 rfl) ?_
    refine lv_iload_n hx hb dX0_later_8 rfl (lv_at hl 2 rfl) ?_
    obtain ⟨σ_5, r_6, e_7, hF⟩ := obi_of hF
    refine x_cVi0 (As := [.int a1]) (rest := []) C0 hG (mtX_isOne l hst e_7) (lw_V q517 q519 qs5 q100 q520) yd_X0_isOne (x_rc0 C0 hG) ⟨by omega, by omega⟩ ⟨by omega, by omega⟩ rfl rfl hl.1 (Nat.le_of_ble_eq_true rfl) dX0_later_9 (fun H locs hG => ?_)
    refine lv_if_ne (tgt := 17) hx hb dX0_later_12 (by decide) (fun c_8 => ?_) (fun c_8 => ?_)
    · have hF := ifn hF c_8
      refine lv_aload_n hx hb dX0_later_17 rfl (lv_at hl 0 rfl) ?_
      refine lv_iload_n hx hb dX0_later_18 rfl (lv_at hl 1 rfl) ?_
      obtain ⟨σ_9, r_10, e_11, hF⟩ := obi_of hF
      refine x_cVi (As := [.int a0]) (rest := []) C0 hG (mtX_layBoth l hst e_11) (lw_V q1036 q1038 qs45 q100 q1039) yd_X0_layBoth (x_rc0 C0 hG) ⟨by omega, by omega⟩ ⟨by omega, by omega⟩ rfl rfl hl.1 (Nat.le_of_ble_eq_true rfl) dX0_later_19 (fun H locs hG => ?_)
      refine lv_istore_n (lv' := [(3, .int r_10), (0, .ref L.1), (1, .int a0), (2, .int a1)]) hx hb dX0_later_22 rfl hl (by decide) rfl (fun ls hl => ?_)
      refine lv_iload_n hx hb dX0_later_23 rfl (lv_at hl 0 rfl) ?_
      refine lv_if_ge (tgt := 29) hx hb dX0_later_24 (by decide) (fun c_12 => ?_) (fun c_12 => ?_)
      · have hF := ifp hF c_12
        refine lv_aload_n hx hb dX0_later_29 rfl (lv_at hl 1 rfl) ?_
        refine x_geta C0 hG 0 (by decide) rfl (by decide) q174 dX0_later_30 ?_
        refine lv_iload_n hx hb dX0_later_33 rfl (lv_at hl 3 rfl) ?_
        refine x_swld C0 hG dX0_later_34 hF (fun u_13 hF => ?_)
        refine x_swg C0 hG 5 (by decide) q337 dX0_later_35 hF (fun x_14 hF => ?_)
        refine lv_istore (lv' := [(4, .int x_14), (3, .int r_10), (0, .ref L.1), (1, .int a0), (2, .int a1)]) hx hb dX0_later_38 hl (by decide) rfl (fun ls hl => ?_)
        refine lv_bipush (v := (-2)) hx hb dX0_later_40 (by decide) ?_
        refine lv_istore (lv' := [(5, .int (-2)), (4, .int x_14), (3, .int r_10), (0, .ref L.1), (1, .int a0), (2, .int a1)]) hx hb dX0_later_42 hl (by decide) rfl (fun ls hl => ?_)
        refine lv_iconst (v := 0) hx hb dX0_later_44 (by decide) ?_
        refine lv_istore (lv' := [(6, .int 0), (5, .int (-2)), (4, .int x_14), (3, .int r_10), (0, .ref L.1), (1, .int a0), (2, .int a1)]) hx hb dX0_later_45 hl (by decide) rfl (fun ls hl => ?_)
        exact bX_later_47 C0 hRo N _ _ _ _ _ H locs ls _ _ ⟨by omega, by omega⟩ hG (lv_sub hl [4, 6, 2, 1, 0] rfl) hF
      · have hF := ifn hF c_12
        refine lv_iload_n hx hb dX0_later_27 rfl (lv_at hl 0 rfl) ?_
        exact x_iret C0 hG ⟨by omega, by omega⟩ dX0_later_28 hF
    · have hF := ifp hF c_8
      refine lv_iconst (v := (-1)) hx hb dX0_later_15 (by decide) ?_
      exact x_iret C0 hG ⟨by omega, by omega⟩ dX0_later_16 hF
theorem mtX_later (l : Launch) (hst : l.stackTraces = false) {N : Nat} {L : xL} {g : xg} {σ σ' : xS} {r : Int32} {a0 : Int32} {a1 : Int32} (hF : fX_later N σ a0 a1 = some (σ', r)) : xMet l yX0_later cX0_later 7 (some .int) (42) (12047) 16 2400 [.ref L.1, .int a0, .int a1] L g σ (some (.int r)) σ' := by
  refine x_head hst (by decide) rfl ?_
  intro p e s m below meth c A C0 hG
  have hl := lv_entry ([.ref L.1, .int a0, .int a1]) (n := 7) (Nat.le_of_ble_eq_true rfl)
  rw [lg_entry_eq]
  generalize (lg_sl ([.ref L.1, .int a0, .int a1]) ++ List.replicate (7 - (lg_sl ([.ref L.1, .int a0, .int a1])).length) Slot.unset).toArray = ls at hl ⊢
  have hl : lv_has ls 7 [(0, .ref L.1), (1, .int a0), (2, .int a1)] := hl
  exact bX_later_e C0 ⟨Nat.le_refl _, Nat.le_refl _, Nat.le_refl _, Nat.le_refl _⟩ _ _ _ _ [] ls 0 0 ⟨Nat.le_of_ble_eq_true rfl, Nat.le_of_ble_eq_true rfl⟩ hG hl hF
def fX_quicker_b93 (N : Nat) (σ : xS) (x2 : Int32) (x4 : Int32) (x5 : Int32) : Option (xS × Int32) :=
  chk x2 8 <| chl x2.toNatClampNeg (xn σ) <| nmv x2.toNatClampNeg fun u_23 =>
  chl u_23 (xn σ) <| nmv (xSe σ u_23 4 x4) fun σ_24 =>
  some (σ_24, x5)
def fX_quicker_b87 (N : Nat) (k49 : xS → Int32 → Int32 → Int32 → Int32 → Option (xS × Int32)) (σ : xS) (x2 : Int32) (x4 : Int32) (x5 : Int32) (x6 : Int32) : Option (xS × Int32) :=
  nmv (x6 + 1) fun x_25 =>
  k49 σ x2 x4 x5 x_25
def fX_quicker_b49 (N : Nat) : Nat → xS → Int32 → Int32 → Int32 → Int32 → Option (xS × Int32)
  | 0, _, _, _, _, _ => none
  | n + 1, σ, x2, x4, x5, x6 =>
    if 9 < x6 then (
      fX_quicker_b93 N σ x2 x4 x5)
    else (
      if x5 = (-99) then (
        chk x2 8 <| chl x2.toNatClampNeg (xn σ) <| nmv x2.toNatClampNeg fun u_17 =>
        chl u_17 (xn σ) <| nmv (xSe σ u_17 4 x6) fun σ_18 =>
        obi (fX_wrongAt N σ_18) fun σ_19 r_20 =>
        if r_20 = (-2) then (
          fX_quicker_b87 N (fX_quicker_b49 N n) σ_19 x2 x4 x6 x6)
        else (
          fX_quicker_b87 N (fX_quicker_b49 N n) σ_19 x2 x4 x5 x6))
      else (
        fX_quicker_b93 N σ x2 x4 x5))
def fX_quicker (N : Nat) (σ : xS) (a0 : Int32) (a1 : Int32) : Option (xS × Int32) :=
  obi (fX_areShelves N σ a0) fun σ_1 r_2 =>
  if r_2 = 0 then (
    some (σ_1, (-2000000000)))
  else (
    obi (fX_isOne N σ_1 a1) fun σ_5 r_6 =>
    if r_6 = 0 then (
      some (σ_5, (-2000000000)))
    else (
      obi (fX_layBoth N σ_5 a0) fun σ_9 r_10 =>
      if 0 ≤ r_10 then (
        chk a1 8 <| chl a1.toNatClampNeg (xn σ_9) <| nmv a1.toNatClampNeg fun u_13 =>
        chl u_13 (xn σ_9) <| nmv (xE σ_9 u_13 4) fun x_14 =>
        fX_quicker_b49 N N σ_9 a1 x_14 (-99) (-9))
      else (
        some (σ_9, r_10))))
theorem bX_quicker_93 {N : Nat} (C0 : xCx p l s m args meth c RX0 cX0_quicker 7 (some .int) L A) (hRo : 42 ≤ R.frames ∧ 12047 ≤ R.locals ∧ 16 ≤ R.cells ∧ 2400 ≤ R.slots) {σ' : xS} {r : Int32} (σ : xS) (x2 : Int32) (x4 : Int32) (x5 : Int32) (H : Heap) (locs : List Loc) (ls : Array Slot) (cells slots : Nat) (hcs : cells + 0 ≤ 16 ∧ slots + 0 ≤ 2400) (hG : xG A L g s σ H locs) (hl : lv_has ls 7 [(0, .ref L.1), (2, .int x2), (4, .int x4), (5, .int x5)]) (hF : fX_quicker_b93 N σ x2 x4 x5 = some (σ', r)) : W p l e R s m args below meth c H locs cells slots (xZ below L g A s args σ' (some (.int r)) 16 2400) (F0 m 93 ls []) := by
  have hx := C0.1
  have hb := C0.2.1
  have hst := C0.2.2.2.2.2.2.2.2.2.2
  unfold fX_quicker_b93 at hF
  refine lv_aload_n hx hb dX0_quicker_93 rfl (lv_at hl 0 rfl) ?_
  refine x_geta C0 hG 0 (by decide) rfl (by decide) q174 dX0_quicker_94 ?_
  refine lv_iload_n hx hb dX0_quicker_97 rfl (lv_at hl 1 rfl) ?_
  refine x_swld C0 hG dX0_quicker_98 hF (fun u_23 hF => ?_)
  refine lv_iload hx hb dX0_quicker_99 (lv_at hl 2 rfl) ?_
  refine x_swp C0 hG 4 (by decide) q336 dX0_quicker_101 hF (fun σ_24 H locs hG hF => ?_)
  refine lv_iload hx hb dX0_quicker_104 (lv_at hl 3 rfl) ?_
  exact x_iret C0 hG ⟨by omega, by omega⟩ dX0_quicker_106 hF
theorem bX_quicker_87 {N : Nat} (C0 : xCx p l s m args meth c RX0 cX0_quicker 7 (some .int) L A) (hRo : 42 ≤ R.frames ∧ 12047 ≤ R.locals ∧ 16 ≤ R.cells ∧ 2400 ≤ R.slots) {σ' : xS} {r : Int32} {k49 : xS → Int32 → Int32 → Int32 → Int32 → Option (xS × Int32)} (hk49 : ∀ (σ : xS) (x2 : Int32) (x4 : Int32) (x5 : Int32) (x6 : Int32) (H : Heap) (locs : List Loc) (ls : Array Slot) (cells slots : Nat), cells + 0 ≤ 16 ∧ slots + 0 ≤ 2400 →  xG A L g s σ H locs → lv_has ls 7 [(0, .ref L.1), (2, .int x2), (4, .int x4), (5, .int x5), (6, .int x6)] → k49 σ x2 x4 x5 x6 = some (σ', r) → W p l e R s m args below meth c H locs cells slots (xZ below L g A s args σ' (some (.int r)) 16 2400) (F0 m 49 ls [])) (σ : xS) (x2 : Int32) (x4 : Int32) (x5 : Int32) (x6 : Int32) (H : Heap) (locs : List Loc) (ls : Array Slot) (cells slots : Nat) (hcs : cells + 0 ≤ 16 ∧ slots + 0 ≤ 2400) (hG : xG A L g s σ H locs) (hl : lv_has ls 7 [(0, .ref L.1), (2, .int x2), (4, .int x4), (5, .int x5), (6, .int x6)]) (hF : fX_quicker_b87 N k49 σ x2 x4 x5 x6 = some (σ', r)) : W p l e R s m args below meth c H locs cells slots (xZ below L g A s args σ' (some (.int r)) 16 2400) (F0 m 87 ls []) := by
  have hx := C0.1
  have hb := C0.2.1
  have hst := C0.2.2.2.2.2.2.2.2.2.2
  unfold fX_quicker_b87 at hF
  refine w_iinc hx hb dX0_quicker_87 hl 4 rfl (v := 1) (by decide) (by decide) hF (fun x_25 ls hl hF => ?_)
  have hl : lv_has ls 7 [(6, .int x_25), (0, .ref L.1), (2, .int x2), (4, .int x4), (5, .int x5)] := hl
  refine lv_goto (tgt := 49) hx hb dX0_quicker_90 (by decide) ?_
  exact hk49 _ _ _ _ _ H locs ls _ _ ⟨by omega, by omega⟩ hG (lv_sub hl [1, 2, 3, 4, 0] rfl) hF
theorem bX_quicker_49 {N : Nat} (C0 : xCx p l s m args meth c RX0 cX0_quicker 7 (some .int) L A) (hRo : 42 ≤ R.frames ∧ 12047 ≤ R.locals ∧ 16 ≤ R.cells ∧ 2400 ≤ R.slots) {σ' : xS} {r : Int32} : ∀ (n : Nat) (σ : xS) (x2 : Int32) (x4 : Int32) (x5 : Int32) (x6 : Int32) (H : Heap) (locs : List Loc) (ls : Array Slot) (cells slots : Nat), cells + 0 ≤ 16 ∧ slots + 0 ≤ 2400 →  xG A L g s σ H locs → lv_has ls 7 [(0, .ref L.1), (2, .int x2), (4, .int x4), (5, .int x5), (6, .int x6)] → fX_quicker_b49 N n σ x2 x4 x5 x6 = some (σ', r) → W p l e R s m args below meth c H locs cells slots (xZ below L g A s args σ' (some (.int r)) 16 2400) (F0 m 49 ls []) := by
  have hx := C0.1
  have hb := C0.2.1
  have hst := C0.2.2.2.2.2.2.2.2.2.2
  intro n
  induction n with
  | zero => intro σ x2 x4 x5 x6 H locs ls cells slots hcs hG hl hF; cases hF
  | succ n ih =>
    intro σ x2 x4 x5 x6 H locs ls cells slots hcs hG hl hF
    unfold fX_quicker_b49 at hF
    refine lv_iload hx hb dX0_quicker_49 (lv_at hl 4 rfl) ?_
    refine lv_bipush (v := 9) hx hb dX0_quicker_51 (by decide) ?_
    refine lv_icmp_gt (tgt := 93) hx hb dX0_quicker_53 (by decide) (fun c_15 => ?_) (fun c_15 => ?_)
    · have hF := ifp hF c_15
      exact bX_quicker_93 C0 hRo _ _ _ _ H locs ls _ _ ⟨by omega, by omega⟩ hG (lv_sub hl [0, 1, 2, 3] rfl) hF
    · have hF := ifn hF c_15
      refine lv_iload hx hb dX0_quicker_56 (lv_at hl 3 rfl) ?_
      refine lv_bipush (v := (-99)) hx hb dX0_quicker_58 (by decide) ?_
      refine lv_icmp_ne (tgt := 93) hx hb dX0_quicker_60 (by decide) (fun c_16 => ?_) (fun c_16 => ?_)
      · have hF := ifn hF c_16
        exact bX_quicker_93 C0 hRo _ _ _ _ H locs ls _ _ ⟨by omega, by omega⟩ hG (lv_sub hl [0, 1, 2, 3] rfl) hF
      · have hF := ifp hF c_16
        refine lv_aload_n hx hb dX0_quicker_63 rfl (lv_at hl 0 rfl) ?_
        refine x_geta C0 hG 0 (by decide) rfl (by decide) q174 dX0_quicker_64 ?_
        refine lv_iload_n hx hb dX0_quicker_67 rfl (lv_at hl 1 rfl) ?_
        refine x_swld C0 hG dX0_quicker_68 hF (fun u_17 hF => ?_)
        refine lv_iload hx hb dX0_quicker_69 (lv_at hl 4 rfl) ?_
        refine x_swp C0 hG 4 (by decide) q336 dX0_quicker_71 hF (fun σ_18 H locs hG hF => ?_)
        refine lv_aload_n hx hb dX0_quicker_74 rfl (lv_at hl 0 rfl) ?_
        obtain ⟨σ_19, r_20, e_21, hF⟩ := obi_of hF
        refine x_cVi0 (As := []) (rest := []) C0 hG (mtX_wrongAt l hst e_21) (lw_V q1053 q1055 qs47 q100 q1056) yd_X0_wrongAt (x_rc0 C0 hG) ⟨by omega, by omega⟩ ⟨by omega, by omega⟩ rfl rfl hl.1 (Nat.le_of_ble_eq_true rfl) dX0_quicker_75 (fun H locs hG => ?_)
        refine lv_bipush (v := (-2)) hx hb dX0_quicker_78 (by decide) ?_
        refine lv_icmp_ne (tgt := 87) hx hb dX0_quicker_80 (by decide) (fun c_22 => ?_) (fun c_22 => ?_)
        · have hF := ifn hF c_22
          exact bX_quicker_87 C0 hRo ih _ _ _ _ _ H locs ls _ _ ⟨by omega, by omega⟩ hG (lv_sub hl [0, 1, 2, 3, 4] rfl) hF
        · have hF := ifp hF c_22
          refine lv_iload hx hb dX0_quicker_83 (lv_at hl 4 rfl) ?_
          refine lv_istore (lv' := [(5, .int x6), (0, .ref L.1), (2, .int x2), (4, .int x4), (6, .int x6)]) hx hb dX0_quicker_85 hl (by decide) rfl (fun ls hl => ?_)
          exact bX_quicker_87 C0 hRo ih _ _ _ _ _ H locs ls _ _ ⟨by omega, by omega⟩ hG (lv_sub hl [1, 2, 3, 0, 4] rfl) hF
theorem bX_quicker_e {N : Nat} (C0 : xCx p l s m args meth c RX0 cX0_quicker 7 (some .int) L A) (hRo : 42 ≤ R.frames ∧ 12047 ≤ R.locals ∧ 16 ≤ R.cells ∧ 2400 ≤ R.slots) {σ' : xS} {r : Int32} (σ : xS) (a0 : Int32) (a1 : Int32) (H : Heap) (locs : List Loc) (ls : Array Slot) (cells slots : Nat) (hcs : cells + 16 ≤ 16 ∧ slots + 2400 ≤ 2400) (hG : xG A L g s σ H locs) (hl : lv_has ls 7 [(0, .ref L.1), (1, .int a0), (2, .int a1)]) (hF : fX_quicker N σ a0 a1 = some (σ', r)) : W p l e R s m args below meth c H locs cells slots (xZ below L g A s args σ' (some (.int r)) 16 2400) (F0 m 0 ls []) := by
  have hx := C0.1
  have hb := C0.2.1
  have hst := C0.2.2.2.2.2.2.2.2.2.2
  unfold fX_quicker at hF
  refine lv_iload_n hx hb dX0_quicker_0 rfl (lv_at hl 1 rfl) ?_
  obtain ⟨σ_1, r_2, e_3, hF⟩ := obi_of hF
  refine x_cSi0 (As := [.int a0]) (rest := []) C0 hG (mtX_areShelves l hst e_3) (lw_S q1033 q1034 q100 q1035) yd_X0_areShelves ⟨by omega, by omega⟩ ⟨by omega, by omega⟩ rfl rfl hl.1 (Nat.le_of_ble_eq_true rfl) dX0_quicker_1 (fun H locs hG => ?_)
  refine lv_if_eq (tgt := 15) hx hb dX0_quicker_4 (by decide) (fun c_4 => ?_) (fun c_4 => ?_)
  · have hF := ifp hF c_4
    refine lv_ldc (v := (-2000000000)) hx hb C0.2.2.2.1 (C0.2.2.2.2.1 _ q554) dX0_quicker_15 ?_
    exact x_iret C0 hG ⟨by omega, by omega⟩ dX0_quicker_17 hF
  · have hF := ifn hF c_4
    refine lv_aload_n hx hb dX0_quicker_7 rfl (lv_at hl 0 rfl) ?_
    refine lv_iload_n hx hb dX0_quicker_8 rfl (lv_at hl 2 rfl) ?_
    obtain ⟨σ_5, r_6, e_7, hF⟩ := obi_of hF
    refine x_cVi0 (As := [.int a1]) (rest := []) C0 hG (mtX_isOne l hst e_7) (lw_V q517 q519 qs5 q100 q520) yd_X0_isOne (x_rc0 C0 hG) ⟨by omega, by omega⟩ ⟨by omega, by omega⟩ rfl rfl hl.1 (Nat.le_of_ble_eq_true rfl) dX0_quicker_9 (fun H locs hG => ?_)
    refine lv_if_ne (tgt := 18) hx hb dX0_quicker_12 (by decide) (fun c_8 => ?_) (fun c_8 => ?_)
    · have hF := ifn hF c_8
      refine lv_aload_n hx hb dX0_quicker_18 rfl (lv_at hl 0 rfl) ?_
      refine lv_iload_n hx hb dX0_quicker_19 rfl (lv_at hl 1 rfl) ?_
      obtain ⟨σ_9, r_10, e_11, hF⟩ := obi_of hF
      refine x_cVi (As := [.int a0]) (rest := []) C0 hG (mtX_layBoth l hst e_11) (lw_V q1036 q1038 qs45 q100 q1039) yd_X0_layBoth (x_rc0 C0 hG) ⟨by omega, by omega⟩ ⟨by omega, by omega⟩ rfl rfl hl.1 (Nat.le_of_ble_eq_true rfl) dX0_quicker_20 (fun H locs hG => ?_)
      refine lv_istore_n (lv' := [(3, .int r_10), (0, .ref L.1), (1, .int a0), (2, .int a1)]) hx hb dX0_quicker_23 rfl hl (by decide) rfl (fun ls hl => ?_)
      refine lv_iload_n hx hb dX0_quicker_24 rfl (lv_at hl 0 rfl) ?_
      refine lv_if_ge (tgt := 30) hx hb dX0_quicker_25 (by decide) (fun c_12 => ?_) (fun c_12 => ?_)
      · have hF := ifp hF c_12
        refine lv_aload_n hx hb dX0_quicker_30 rfl (lv_at hl 1 rfl) ?_
        refine x_geta C0 hG 0 (by decide) rfl (by decide) q174 dX0_quicker_31 ?_
        refine lv_iload_n hx hb dX0_quicker_34 rfl (lv_at hl 3 rfl) ?_
        refine x_swld C0 hG dX0_quicker_35 hF (fun u_13 hF => ?_)
        refine x_swg C0 hG 4 (by decide) q336 dX0_quicker_36 hF (fun x_14 hF => ?_)
        refine lv_istore (lv' := [(4, .int x_14), (3, .int r_10), (0, .ref L.1), (1, .int a0), (2, .int a1)]) hx hb dX0_quicker_39 hl (by decide) rfl (fun ls hl => ?_)
        refine lv_bipush (v := (-99)) hx hb dX0_quicker_41 (by decide) ?_
        refine lv_istore (lv' := [(5, .int (-99)), (4, .int x_14), (3, .int r_10), (0, .ref L.1), (1, .int a0), (2, .int a1)]) hx hb dX0_quicker_43 hl (by decide) rfl (fun ls hl => ?_)
        refine lv_bipush (v := (-9)) hx hb dX0_quicker_45 (by decide) ?_
        refine lv_istore (lv' := [(6, .int (-9)), (5, .int (-99)), (4, .int x_14), (3, .int r_10), (0, .ref L.1), (1, .int a0), (2, .int a1)]) hx hb dX0_quicker_47 hl (by decide) rfl (fun ls hl => ?_)
        exact bX_quicker_49 C0 hRo N _ _ _ _ _ H locs ls _ _ ⟨by omega, by omega⟩ hG (lv_sub hl [4, 6, 2, 1, 0] rfl) hF
      · have hF := ifn hF c_12
        refine lv_iload_n hx hb dX0_quicker_28 rfl (lv_at hl 0 rfl) ?_
        exact x_iret C0 hG ⟨by omega, by omega⟩ dX0_quicker_29 hF
    · have hF := ifp hF c_8
      refine lv_ldc (v := (-2000000000)) hx hb C0.2.2.2.1 (C0.2.2.2.2.1 _ q554) dX0_quicker_15 ?_
      exact x_iret C0 hG ⟨by omega, by omega⟩ dX0_quicker_17 hF
theorem mtX_quicker (l : Launch) (hst : l.stackTraces = false) {N : Nat} {L : xL} {g : xg} {σ σ' : xS} {r : Int32} {a0 : Int32} {a1 : Int32} (hF : fX_quicker N σ a0 a1 = some (σ', r)) : xMet l yX0_quicker cX0_quicker 7 (some .int) (42) (12047) 16 2400 [.ref L.1, .int a0, .int a1] L g σ (some (.int r)) σ' := by
  refine x_head hst (by decide) rfl ?_
  intro p e s m below meth c A C0 hG
  have hl := lv_entry ([.ref L.1, .int a0, .int a1]) (n := 7) (Nat.le_of_ble_eq_true rfl)
  rw [lg_entry_eq]
  generalize (lg_sl ([.ref L.1, .int a0, .int a1]) ++ List.replicate (7 - (lg_sl ([.ref L.1, .int a0, .int a1])).length) Slot.unset).toArray = ls at hl ⊢
  have hl : lv_has ls 7 [(0, .ref L.1), (1, .int a0), (2, .int a1)] := hl
  exact bX_quicker_e C0 ⟨Nat.le_refl _, Nat.le_refl _, Nat.le_refl _, Nat.le_refl _⟩ _ _ _ _ [] ls 0 0 ⟨Nat.le_of_ble_eq_true rfl, Nat.le_of_ble_eq_true rfl⟩ hG hl hF
end XWALK8
