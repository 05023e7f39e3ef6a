section XWALK2
variable {p : Program} {l : Launch} {e : Env} {R : Room} {s : State} {m : MethodId} {args : Array Value} {below : List Frame} {meth : Method} {c : Code} {A : Nat → Prop}
variable {L : xL} {g : xg}
def fX_losesBy_b126 (N : Nat) (σ : xS) (x6 : Int32) : Option (xS × Int32) :=
  nmv (if x6 < 99 then x6 else 99) fun x_25 =>
  nmv (if 0 < x_25 then x_25 else 0) fun x_26 =>
  some (σ, x_26)
def fX_losesBy_b17 (N : Nat) (σ : xS) (y0 : Int32) (y1 : Int32) (x1 : Nat) (x2 : Nat) (x3 : Int32) (x4 : Int32) (x5 : Int32) : Option (xS × Int32) :=
  nmv (y1 * y0) fun x_4 =>
  if (xY σ).isNone = true then (
    fX_losesBy_b126 N σ x_4)
  else (
    obi (fX_Facts_clear N σ) fun σ_5 r_6 =>
    chk 111 128 <| nmv (xSj σ_5 44 (111 : Int32).toNatClampNeg x3) fun σ_8 =>
    chk 101 128 <| nmv (xSj σ_8 44 (101 : Int32).toNatClampNeg x4) fun σ_9 =>
    chl x1 (xn σ_9) <|
    obi (fX_Swimmer_farFrom N σ_9 x1 x2) fun σ_10 r_11 =>
    chk 100 128 <| nmv (xSj σ_10 44 (100 : Int32).toNatClampNeg r_11) fun σ_14 =>
    chl x1 (xn σ_14) <| nmv (xE σ_14 x1 2) fun x_15 =>
    chl x2 (xn σ_14) <| nmv (xE σ_14 x2 2) fun x_16 =>
    nmv (if 0 ≤ (x_15 - x_16) then (x_15 - x_16) else 0 - (x_15 - x_16)) fun x_17 =>
    chk 116 128 <| nmv (xSj σ_14 44 (116 : Int32).toNatClampNeg x_17) fun σ_18 =>
    chk 107 128 <| nmv (xSj σ_18 44 (107 : Int32).toNatClampNeg x5) fun σ_19 =>
    nmv (xI σ_19 3) fun x_20 =>
    chk 115 128 <| nmv (xSj σ_19 44 (115 : Int32).toNatClampNeg x_20) fun σ_21 =>
    obi (fX_gives N σ_21) fun σ_22 r_23 =>
    fX_losesBy_b126 N σ_22 r_23)
def fX_losesBy (N : Nat) (σ : xS) (a0 : Nat) (a1 : Nat) (a2 : Int32) (a3 : Int32) (a4 : Int32) : Option (xS × Int32) :=
  nmv (xI σ 3) fun x_1 =>
  chz x_1 <|
  if a3 = 2 then (
    fX_losesBy_b17 N σ 2 (a2 / x_1) a0 a1 a2 a3 a4)
  else (
    fX_losesBy_b17 N σ 1 (a2 / x_1) a0 a1 a2 a3 a4)
theorem bX_losesBy_126 {N : Nat} (C0 : xCx p l s m args meth c RX0 cX0_losesBy 7 (some .int) L A) (hRo : 211 ≤ R.frames ∧ 6021 ≤ R.locals) {σ' : xS} {r : Int32} (σ : xS) (x6 : Int32) (H : Heap) (locs : List Loc) (ls : Array Slot) (hG : xG A L g s σ H locs) (hl : lv_has ls 7 [(6, .int x6)]) (hF : fX_losesBy_b126 N σ x6 = some (σ', r)) : W p l e R s m args below meth c H locs 0 0 (xZ below L g A s args σ' (some (.int r)) 0 0) (F0 m 126 ls []) := by
  have hx := C0.1
  have hb := C0.2.1
  have hst := C0.2.2.2.2.2.2.2.2.2.2
  unfold fX_losesBy_b126 at hF
  refine lv_iconst (v := 0) hx hb dX0_losesBy_126 (by decide) ?_
  refine lv_bipush (v := 99) hx hb dX0_losesBy_127 (by decide) ?_
  refine lv_iload hx hb dX0_losesBy_129 (lv_at hl 0 rfl) ?_
  refine x_min C0 hl.1 q856 q679 q116 q680 ⟨by omega, by omega⟩ ⟨by omega, by omega⟩ (Nat.le_of_ble_eq_true rfl) dX0_losesBy_131 hF (fun x_25 hF => ?_)
  refine x_max C0 hl.1 q857 q676 q116 q677 ⟨by omega, by omega⟩ ⟨by omega, by omega⟩ (Nat.le_of_ble_eq_true rfl) dX0_losesBy_134 hF (fun x_26 hF => ?_)
  exact x_iret C0 hG ⟨by omega, by omega⟩ dX0_losesBy_137 hF
theorem bX_losesBy_17 {N : Nat} (C0 : xCx p l s m args meth c RX0 cX0_losesBy 7 (some .int) L A) (hRo : 211 ≤ R.frames ∧ 6021 ≤ R.locals) {σ' : xS} {r : Int32} (σ : xS) (y0 : Int32) (y1 : Int32) (x1 : Nat) (x2 : Nat) (x3 : Int32) (x4 : Int32) (x5 : Int32) (H : Heap) (locs : List Loc) (ls : Array Slot) (hG : xG A L g s σ H locs) (hl : lv_has ls 7 [(0, .ref L.1), (1, .ref (g.1 x1)), (2, .ref (g.1 x2)), (3, .int x3), (4, .int x4), (5, .int x5)]) (hF : fX_losesBy_b17 N σ y0 y1 x1 x2 x3 x4 x5 = some (σ', r)) : W p l e R s m args below meth c H locs 0 0 (xZ below L g A s args σ' (some (.int r)) 0 0) (F0 m 17 ls [.int y0, .int y1]) := by
  have hx := C0.1
  have hb := C0.2.1
  have hst := C0.2.2.2.2.2.2.2.2.2.2
  unfold fX_losesBy_b17 at hF
  refine lv_imul hx hb dX0_losesBy_17 ?_
  refine w_nm hF (fun x_4 hF => ?_)
  refine lv_istore (lv' := [(6, .int x_4), (0, .ref L.1), (1, .ref (g.1 x1)), (2, .ref (g.1 x2)), (3, .int x3), (4, .int x4), (5, .int x5)]) hx hb dX0_losesBy_18 hl (by decide) rfl (fun ls hl => ?_)
  refine lv_aload_n hx hb dX0_losesBy_20 rfl (lv_at hl 1 rfl) ?_
  refine x_getl C0 hG q186 dX0_losesBy_21 ?_
  refine x_lawnull C0 hG (tgt := 126) dX0_losesBy_24 (by decide) hF (fun hF => ?_) (fun hF => ?_)
  · exact bX_losesBy_126 C0 hRo _ _ H locs ls hG (lv_sub hl [0] rfl) hF
  · refine lv_aload_n hx hb dX0_losesBy_27 rfl (lv_at hl 1 rfl) ?_
    refine x_geta C0 hG 11 (by decide) rfl (by decide) q187 dX0_losesBy_28 ?_
    obtain ⟨σ_5, r_6, e_7, hF⟩ := obi_of hF
    refine x_cVv0 (As := []) (rest := []) C0 hG (mtX_Facts_clear l hst e_7) (lw_V q816 q817 q818 q101 q819) yd_X1_clear (x_rcf C0 hG) ⟨by omega, by omega⟩ ⟨by omega, by omega⟩ rfl rfl hl.1 (Nat.le_of_ble_eq_true rfl) dX0_losesBy_31 (fun H locs hG => ?_)
    refine lv_aload_n hx hb dX0_losesBy_34 rfl (lv_at hl 1 rfl) ?_
    refine x_geta C0 hG 11 (by decide) rfl (by decide) q187 dX0_losesBy_35 ?_
    refine x_named C0 hG q164 dX0_losesBy_38 ?_
    refine lv_bipush (v := 111) hx hb dX0_losesBy_41 (by decide) ?_
    refine lv_iload_n hx hb dX0_losesBy_43 rfl (lv_at hl 4 rfl) ?_
    refine x_st C0 hG 44 ⟨by decide, rfl, rfl⟩ dX0_losesBy_44 hF (fun σ_8 H locs hG hF => ?_)
    refine lv_aload_n hx hb dX0_losesBy_45 rfl (lv_at hl 1 rfl) ?_
    refine x_geta C0 hG 11 (by decide) rfl (by decide) q187 dX0_losesBy_46 ?_
    refine x_named C0 hG q164 dX0_losesBy_49 ?_
    refine lv_bipush (v := 101) hx hb dX0_losesBy_52 (by decide) ?_
    refine lv_iload hx hb dX0_losesBy_54 (lv_at hl 5 rfl) ?_
    refine x_st C0 hG 44 ⟨by decide, rfl, rfl⟩ dX0_losesBy_56 hF (fun σ_9 H locs hG hF => ?_)
    refine lv_aload_n hx hb dX0_losesBy_57 rfl (lv_at hl 1 rfl) ?_
    refine x_geta C0 hG 11 (by decide) rfl (by decide) q187 dX0_losesBy_58 ?_
    refine x_named C0 hG q164 dX0_losesBy_61 ?_
    refine lv_bipush (v := 100) hx hb dX0_losesBy_64 (by decide) ?_
    refine lv_aload_n hx hb dX0_losesBy_66 rfl (lv_at hl 2 rfl) ?_
    refine lv_aload_n hx hb dX0_losesBy_67 rfl (lv_at hl 3 rfl) ?_
    obtain ⟨h_13, hF⟩ := chl_of hF
    obtain ⟨σ_10, r_11, e_12, hF⟩ := obi_of hF
    refine x_cVi0 (As := [.ref (g.1 x2)]) (rest := [.int 100, .ref (L.2.1 44)]) C0 hG (mtX_Swimmer_farFrom l hst e_12) (lw_V q820 q821 q822 q103 q823) yd_X3_farFrom (x_rcs C0 hG h_13) ⟨by omega, by omega⟩ ⟨by omega, by omega⟩ rfl rfl hl.1 (Nat.le_of_ble_eq_true rfl) dX0_losesBy_68 (fun H locs hG => ?_)
    refine x_st C0 hG 44 ⟨by decide, rfl, rfl⟩ dX0_losesBy_71 hF (fun σ_14 H locs hG hF => ?_)
    refine lv_aload_n hx hb dX0_losesBy_72 rfl (lv_at hl 1 rfl) ?_
    refine x_geta C0 hG 11 (by decide) rfl (by decide) q187 dX0_losesBy_73 ?_
    refine x_named C0 hG q164 dX0_losesBy_76 ?_
    refine lv_bipush (v := 116) hx hb dX0_losesBy_79 (by decide) ?_
    refine lv_aload_n hx hb dX0_losesBy_81 rfl (lv_at hl 2 rfl) ?_
    refine x_swg C0 hG 2 (by decide) q333 dX0_losesBy_82 hF (fun x_15 hF => ?_)
    refine lv_aload_n hx hb dX0_losesBy_85 rfl (lv_at hl 3 rfl) ?_
    refine x_swg C0 hG 2 (by decide) q333 dX0_losesBy_86 hF (fun x_16 hF => ?_)
    refine lv_isub hx hb dX0_losesBy_89 ?_
    refine x_abs C0 hl.1 q827 q825 q116 q826 ⟨by omega, by omega⟩ ⟨by omega, by omega⟩ (Nat.le_of_ble_eq_true rfl) dX0_losesBy_90 hF (fun x_17 hF => ?_)
    refine x_st C0 hG 44 ⟨by decide, rfl, rfl⟩ dX0_losesBy_93 hF (fun σ_18 H locs hG hF => ?_)
    refine lv_aload_n hx hb dX0_losesBy_94 rfl (lv_at hl 1 rfl) ?_
    refine x_geta C0 hG 11 (by decide) rfl (by decide) q187 dX0_losesBy_95 ?_
    refine x_named C0 hG q164 dX0_losesBy_98 ?_
    refine lv_bipush (v := 107) hx hb dX0_losesBy_101 (by decide) ?_
    refine lv_iload hx hb dX0_losesBy_103 (lv_at hl 6 rfl) ?_
    refine x_st C0 hG 44 ⟨by decide, rfl, rfl⟩ dX0_losesBy_105 hF (fun σ_19 H locs hG hF => ?_)
    refine lv_aload_n hx hb dX0_losesBy_106 rfl (lv_at hl 1 rfl) ?_
    refine x_geta C0 hG 11 (by decide) rfl (by decide) q187 dX0_losesBy_107 ?_
    refine x_named C0 hG q164 dX0_losesBy_110 ?_
    refine lv_bipush (v := 115) hx hb dX0_losesBy_113 (by decide) ?_
    refine lv_aload_n hx hb dX0_losesBy_115 rfl (lv_at hl 1 rfl) ?_
    refine x_geti C0 hG 3 (by decide) rfl q177 dX0_losesBy_116 hF (fun x_20 hF => ?_)
    refine x_st C0 hG 44 ⟨by decide, rfl, rfl⟩ dX0_losesBy_119 hF (fun σ_21 H locs hG hF => ?_)
    refine lv_aload_n hx hb dX0_losesBy_120 rfl (lv_at hl 1 rfl) ?_
    obtain ⟨σ_22, r_23, e_24, hF⟩ := obi_of hF
    refine x_cVi0 (As := []) (rest := []) C0 hG (mtX_gives l hst e_24) (lw_V q828 q830 qs21 q100 q831) yd_X0_gives (x_rc0 C0 hG) ⟨by omega, by omega⟩ ⟨by omega, by omega⟩ rfl rfl hl.1 (Nat.le_of_ble_eq_true rfl) dX0_losesBy_121 (fun H locs hG => ?_)
    refine lv_istore (lv' := [(6, .int r_23), (0, .ref L.1), (1, .ref (g.1 x1)), (2, .ref (g.1 x2)), (3, .int x3), (4, .int x4), (5, .int x5)]) hx hb dX0_losesBy_124 hl (by decide) rfl (fun ls hl => ?_)
    exact bX_losesBy_126 C0 hRo _ _ H locs ls hG (lv_sub hl [0] rfl) hF
theorem bX_losesBy_e {N : Nat} (C0 : xCx p l s m args meth c RX0 cX0_losesBy 7 (some .int) L A) (hRo : 211 ≤ R.frames ∧ 6021 ≤ R.locals) {σ' : xS} {r : Int32} (σ : xS) (a0 : Nat) (a1 : Nat) (a2 : Int32) (a3 : Int32) (a4 : Int32) (H : Heap) (locs : List Loc) (ls : Array Slot) (hG : xG A L g s σ H locs) (hl : lv_has ls 7 [(0, .ref L.1), (1, .ref (g.1 a0)), (2, .ref (g.1 a1)), (3, .int a2), (4, .int a3), (5, .int a4)]) (hF : fX_losesBy N σ a0 a1 a2 a3 a4 = some (σ', r)) : W p l e R s m args below meth c H locs 0 0 (xZ below L g A s args σ' (some (.int r)) 0 0) (F0 m 0 ls []) := by
  have hx := C0.1
  have hb := C0.2.1
  have hst := C0.2.2.2.2.2.2.2.2.2.2
  unfold fX_losesBy at hF
  refine lv_iload_n hx hb dX0_losesBy_0 rfl (lv_at hl 3 rfl) ?_
  refine lv_aload_n hx hb dX0_losesBy_1 rfl (lv_at hl 0 rfl) ?_
  refine x_geti C0 hG 3 (by decide) rfl q177 dX0_losesBy_2 hF (fun x_1 hF => ?_)
  obtain ⟨h_2, hF⟩ := chz_of hF
  refine lv_idiv hx hb dX0_losesBy_5 h_2 ?_
  refine lv_iload hx hb dX0_losesBy_6 (lv_at hl 4 rfl) ?_
  refine lv_iconst (v := 2) hx hb dX0_losesBy_8 (by decide) ?_
  refine lv_icmp_ne (tgt := 16) hx hb dX0_losesBy_9 (by decide) (fun c_3 => ?_) (fun c_3 => ?_)
  · have hF := ifn hF c_3
    refine lv_iconst (v := 1) hx hb dX0_losesBy_16 (by decide) ?_
    exact bX_losesBy_17 C0 hRo _ _ _ _ _ _ _ _ H locs ls hG (lv_sub hl [0, 1, 2, 3, 4, 5] rfl) hF
  · have hF := ifp hF c_3
    refine lv_iconst (v := 2) hx hb dX0_losesBy_12 (by decide) ?_
    refine lv_goto (tgt := 17) hx hb dX0_losesBy_13 (by decide) ?_
    exact bX_losesBy_17 C0 hRo _ _ _ _ _ _ _ _ H locs ls hG (lv_sub hl [0, 1, 2, 3, 4, 5] rfl) hF
theorem mtX_losesBy (l : Launch) (hst : l.stackTraces = false) {N : Nat} {L : xL} {g : xg} {σ σ' : xS} {r : Int32} {a0 : Nat} {a1 : Nat} {a2 : Int32} {a3 : Int32} {a4 : Int32} (hF : fX_losesBy N σ a0 a1 a2 a3 a4 = some (σ', r)) : xMet l yX0_losesBy cX0_losesBy 7 (some .int) (211) (6021) 0 0 [.ref L.1, .ref (g.1 a0), .ref (g.1 a1), .int a2, .int a3, .int a4] L g σ (some (.int r)) σ' := by
  refine x_head hst (by decide) rfl ?_
  intro p e s m below meth c A C0 hG
  have hl := lv_entry ([.ref L.1, .ref (g.1 a0), .ref (g.1 a1), .int a2, .int a3, .int a4]) (n := 7) (Nat.le_of_ble_eq_true rfl)
  rw [lg_entry_eq]
  generalize (lg_sl ([.ref L.1, .ref (g.1 a0), .ref (g.1 a1), .int a2, .int a3, .int a4]) ++ List.replicate (7 - (lg_sl ([.ref L.1, .ref (g.1 a0), .ref (g.1 a1), .int a2, .int a3, .int a4])).length) Slot.unset).toArray = ls at hl ⊢
  have hl : lv_has ls 7 [(0, .ref L.1), (1, .ref (g.1 a0)), (2, .ref (g.1 a1)), (3, .int a2), (4, .int a3), (5, .int a4)] := hl
  exact bX_losesBy_e C0 ⟨Nat.le_refl _, Nat.le_refl _⟩ _ _ _ _ _ _ _ [] ls hG hl hF
def fX_loses (N : Nat) (σ : xS) (a0 : Int32) (a1 : Int32) (a2 : Int32) : Option (xS × Int32) :=
  if a0 < 0 then (
    some (σ, (-1)))
  else (
    chz 10 <|
    obi (fX_isOne N σ (a0 / 10)) fun σ_3 r_4 =>
    if r_4 = 0 then (
      some (σ_3, (-1)))
    else (
      chz 10 <|
      obi (fX_isOne N σ_3 (a0 - a0 / 10 * 10)) fun σ_8 r_9 =>
      if r_9 = 0 then (
        some (σ_8, (-1)))
      else (
        chz 10 <|
        chz 10 <|
        if (a0 / 10) = (a0 - a0 / 10 * 10) then (
          some (σ_8, (-1)))
        else (
          obi (fX_in N σ_8 a1 0 9999) fun σ_15 r_16 =>
          if r_16 = 0 then (
            some (σ_15, (-1)))
          else (
            if a2 < 0 then (
              some (σ_15, (-1)))
            else (
              chz 100 <|
              if 4 < (a2 / 100) then (
                some (σ_15, (-1)))
              else (
                chz 100 <|
                if (a2 - a2 / 100 * 100) < 60 then (
                  chz 10 <|
                  nmv (a0 / 10) fun x_25 =>
                  chk x_25 8 <| chl x_25.toNatClampNeg (xn σ_15) <| nmv x_25.toNatClampNeg fun u_26 =>
                  chz 10 <|
                  nmv (a0 - a0 / 10 * 10) fun x_28 =>
                  chk x_28 8 <| chl x_28.toNatClampNeg (xn σ_15) <| nmv x_28.toNatClampNeg fun u_29 =>
                  chz 100 <|
                  chz 100 <|
                  obi (fX_losesBy N σ_15 u_26 u_29 a1 (a2 / 100) (a2 - a2 / 100 * 100)) fun σ_32 r_33 =>
                  some (σ_32, r_33))
                else (
                  some (σ_15, (-1))))))))))
theorem bX_loses_e {N : Nat} (C0 : xCx p l s m args meth c RX0 cX0_loses 4 (some .int) L A) (hRo : 212 ≤ R.frames ∧ 6047 ≤ R.locals) {σ' : xS} {r : Int32} (σ : xS) (a0 : Int32) (a1 : Int32) (a2 : Int32) (H : Heap) (locs : List Loc) (ls : Array Slot) (hG : xG A L g s σ H locs) (hl : lv_has ls 4 [(0, .ref L.1), (1, .int a0), (2, .int a1), (3, .int a2)]) (hF : fX_loses N σ a0 a1 a2 = some (σ', r)) : W p l e R s m args below meth c H locs 0 0 (xZ below L g A s args σ' (some (.int r)) 0 0) (F0 m 0 ls []) := by
  have hx := C0.1
  have hb := C0.2.1
  have hst := C0.2.2.2.2.2.2.2.2.2.2
  unfold fX_loses at hF
  refine lv_iload_n hx hb dX0_loses_0 rfl (lv_at hl 1 rfl) ?_
  refine lv_if_lt (tgt := 69) hx hb dX0_loses_1 (by decide) (fun c_1 => ?_) (fun c_1 => ?_)
  · have hF := ifp hF c_1
    refine lv_iconst (v := (-1)) hx hb dX0_loses_69 (by decide) ?_
    exact x_iret C0 hG ⟨by omega, by omega⟩ dX0_loses_70 hF
  · have hF := ifn hF c_1
    refine lv_aload_n hx hb dX0_loses_4 rfl (lv_at hl 0 rfl) ?_
    refine lv_iload_n hx hb dX0_loses_5 rfl (lv_at hl 1 rfl) ?_
    refine lv_bipush (v := 10) hx hb dX0_loses_6 (by decide) ?_
    obtain ⟨h_2, hF⟩ := chz_of hF
    refine lv_idiv hx hb dX0_loses_8 h_2 ?_
    obtain ⟨σ_3, r_4, e_5, hF⟩ := obi_of hF
    refine x_cVi0 (As := [.int (a0 / 10)]) (rest := []) C0 hG (mtX_isOne l hst e_5) (lw_V q517 q519 qs5 q100 q520) yd_X0_isOne (x_rc0 C0 hG) ⟨by omega, by omega⟩ ⟨by omega, by omega⟩ rfl rfl hl.1 (Nat.le_of_ble_eq_true rfl) dX0_loses_9 (fun H locs hG => ?_)
    refine lv_if_eq (tgt := 69) hx hb dX0_loses_12 (by decide) (fun c_6 => ?_) (fun c_6 => ?_)
    · have hF := ifp hF c_6
      refine lv_iconst (v := (-1)) hx hb dX0_loses_69 (by decide) ?_
      exact x_iret C0 hG ⟨by omega, by omega⟩ dX0_loses_70 hF
    · have hF := ifn hF c_6
      refine lv_aload_n hx hb dX0_loses_15 rfl (lv_at hl 0 rfl) ?_
      refine lv_iload_n hx hb dX0_loses_16 rfl (lv_at hl 1 rfl) ?_
      refine lv_bipush (v := 10) hx hb dX0_loses_17 (by decide) ?_
      obtain ⟨h_7, hF⟩ := chz_of hF
      refine lv_irem hx hb dX0_loses_19 h_7 ?_
      obtain ⟨σ_8, r_9, e_10, hF⟩ := obi_of hF
      refine x_cVi0 (As := [.int (a0 - a0 / 10 * 10)]) (rest := []) C0 hG (mtX_isOne l hst e_10) (lw_V q517 q519 qs5 q100 q520) yd_X0_isOne (x_rc0 C0 hG) ⟨by omega, by omega⟩ ⟨by omega, by omega⟩ rfl rfl hl.1 (Nat.le_of_ble_eq_true rfl) dX0_loses_20 (fun H locs hG => ?_)
      refine lv_if_eq (tgt := 69) hx hb dX0_loses_23 (by decide) (fun c_11 => ?_) (fun c_11 => ?_)
      · have hF := ifp hF c_11
        refine lv_iconst (v := (-1)) hx hb dX0_loses_69 (by decide) ?_
        exact x_iret C0 hG ⟨by omega, by omega⟩ dX0_loses_70 hF
      · have hF := ifn hF c_11
        refine lv_iload_n hx hb dX0_loses_26 rfl (lv_at hl 1 rfl) ?_
        refine lv_bipush (v := 10) hx hb dX0_loses_27 (by decide) ?_
        obtain ⟨h_12, hF⟩ := chz_of hF
        refine lv_idiv hx hb dX0_loses_29 h_12 ?_
        refine lv_iload_n hx hb dX0_loses_30 rfl (lv_at hl 1 rfl) ?_
        refine lv_bipush (v := 10) hx hb dX0_loses_31 (by decide) ?_
        obtain ⟨h_13, hF⟩ := chz_of hF
        refine lv_irem hx hb dX0_loses_33 h_13 ?_
        refine lv_icmp_eq (tgt := 69) hx hb dX0_loses_34 (by decide) (fun c_14 => ?_) (fun c_14 => ?_)
        · have hF := ifp hF c_14
          refine lv_iconst (v := (-1)) hx hb dX0_loses_69 (by decide) ?_
          exact x_iret C0 hG ⟨by omega, by omega⟩ dX0_loses_70 hF
        · have hF := ifn hF c_14
          refine lv_iload_n hx hb dX0_loses_37 rfl (lv_at hl 2 rfl) ?_
          refine lv_iconst (v := 0) hx hb dX0_loses_38 (by decide) ?_
          refine lv_sipush (v := 9999) hx hb dX0_loses_39 (by decide) ?_
          obtain ⟨σ_15, r_16, e_17, hF⟩ := obi_of hF
          refine x_cSi0 (As := [.int a1, .int 0, .int 9999]) (rest := []) C0 hG (mtX_in l hst e_17) (lw_S q316 q317 q100 q318) yd_X0_in ⟨by omega, by omega⟩ ⟨by omega, by omega⟩ rfl rfl hl.1 (Nat.le_of_ble_eq_true rfl) dX0_loses_42 (fun H locs hG => ?_)
          refine lv_if_eq (tgt := 69) hx hb dX0_loses_45 (by decide) (fun c_18 => ?_) (fun c_18 => ?_)
          · have hF := ifp hF c_18
            refine lv_iconst (v := (-1)) hx hb dX0_loses_69 (by decide) ?_
            exact x_iret C0 hG ⟨by omega, by omega⟩ dX0_loses_70 hF
          · have hF := ifn hF c_18
            refine lv_iload_n hx hb dX0_loses_48 rfl (lv_at hl 3 rfl) ?_
            refine lv_if_lt (tgt := 69) hx hb dX0_loses_49 (by decide) (fun c_19 => ?_) (fun c_19 => ?_)
            · have hF := ifp hF c_19
              refine lv_iconst (v := (-1)) hx hb dX0_loses_69 (by decide) ?_
              exact x_iret C0 hG ⟨by omega, by omega⟩ dX0_loses_70 hF
            · have hF := ifn hF c_19
              refine lv_iload_n hx hb dX0_loses_52 rfl (lv_at hl 3 rfl) ?_
              refine lv_bipush (v := 100) hx hb dX0_loses_53 (by decide) ?_
              obtain ⟨h_20, hF⟩ := chz_of hF
              refine lv_idiv hx hb dX0_loses_55 h_20 ?_
              refine lv_iconst (v := 4) hx hb dX0_loses_56 (by decide) ?_
              refine lv_icmp_gt (tgt := 69) hx hb dX0_loses_57 (by decide) (fun c_21 => ?_) (fun c_21 => ?_)
              · have hF := ifp hF c_21
                refine lv_iconst (v := (-1)) hx hb dX0_loses_69 (by decide) ?_
                exact x_iret C0 hG ⟨by omega, by omega⟩ dX0_loses_70 hF
              · have hF := ifn hF c_21
                refine lv_iload_n hx hb dX0_loses_60 rfl (lv_at hl 3 rfl) ?_
                refine lv_bipush (v := 100) hx hb dX0_loses_61 (by decide) ?_
                obtain ⟨h_22, hF⟩ := chz_of hF
                refine lv_irem hx hb dX0_loses_63 h_22 ?_
                refine lv_bipush (v := 60) hx hb dX0_loses_64 (by decide) ?_
                refine lv_icmp_lt (tgt := 71) hx hb dX0_loses_66 (by decide) (fun c_23 => ?_) (fun c_23 => ?_)
                · have hF := ifp hF c_23
                  refine lv_aload_n hx hb dX0_loses_71 rfl (lv_at hl 0 rfl) ?_
                  refine lv_aload_n hx hb dX0_loses_72 rfl (lv_at hl 0 rfl) ?_
                  refine x_geta C0 hG 0 (by decide) rfl (by decide) q174 dX0_loses_73 ?_
                  refine lv_iload_n hx hb dX0_loses_76 rfl (lv_at hl 1 rfl) ?_
                  refine lv_bipush (v := 10) hx hb dX0_loses_77 (by decide) ?_
                  obtain ⟨h_24, hF⟩ := chz_of hF
                  refine lv_idiv hx hb dX0_loses_79 h_24 ?_
                  refine w_nm hF (fun x_25 hF => ?_)
                  refine x_swld C0 hG dX0_loses_80 hF (fun u_26 hF => ?_)
                  refine lv_aload_n hx hb dX0_loses_81 rfl (lv_at hl 0 rfl) ?_
                  refine x_geta C0 hG 0 (by decide) rfl (by decide) q174 dX0_loses_82 ?_
                  refine lv_iload_n hx hb dX0_loses_85 rfl (lv_at hl 1 rfl) ?_
                  refine lv_bipush (v := 10) hx hb dX0_loses_86 (by decide) ?_
                  obtain ⟨h_27, hF⟩ := chz_of hF
                  refine lv_irem hx hb dX0_loses_88 h_27 ?_
                  refine w_nm hF (fun x_28 hF => ?_)
                  refine x_swld C0 hG dX0_loses_89 hF (fun u_29 hF => ?_)
                  refine lv_iload_n hx hb dX0_loses_90 rfl (lv_at hl 2 rfl) ?_
                  refine lv_iload_n hx hb dX0_loses_91 rfl (lv_at hl 3 rfl) ?_
                  refine lv_bipush (v := 100) hx hb dX0_loses_92 (by decide) ?_
                  obtain ⟨h_30, hF⟩ := chz_of hF
                  refine lv_idiv hx hb dX0_loses_94 h_30 ?_
                  refine lv_iload_n hx hb dX0_loses_95 rfl (lv_at hl 3 rfl) ?_
                  refine lv_bipush (v := 100) hx hb dX0_loses_96 (by decide) ?_
                  obtain ⟨h_31, hF⟩ := chz_of hF
                  refine lv_irem hx hb dX0_loses_98 h_31 ?_
                  obtain ⟨σ_32, r_33, e_34, hF⟩ := obi_of hF
                  refine x_cVi0 (As := [.ref (g.1 u_26), .ref (g.1 u_29), .int a1, .int (a2 / 100), .int (a2 - a2 / 100 * 100)]) (rest := []) C0 hG (mtX_losesBy l hst e_34) (lw_V q812 q814 qs20 q100 q815) yd_X0_losesBy (x_rc0 C0 hG) ⟨by omega, by omega⟩ ⟨by omega, by omega⟩ rfl rfl hl.1 (Nat.le_of_ble_eq_true rfl) dX0_loses_99 (fun H locs hG => ?_)
                  exact x_iret C0 hG ⟨by omega, by omega⟩ dX0_loses_102 hF
                · have hF := ifn hF c_23
                  refine lv_iconst (v := (-1)) hx hb dX0_loses_69 (by decide) ?_
                  exact x_iret C0 hG ⟨by omega, by omega⟩ dX0_loses_70 hF
theorem mtX_loses (l : Launch) (hst : l.stackTraces = false) {N : Nat} {L : xL} {g : xg} {σ σ' : xS} {r : Int32} {a0 : Int32} {a1 : Int32} {a2 : Int32} (hF : fX_loses N σ a0 a1 a2 = some (σ', r)) : xMet l yX0_loses cX0_loses 4 (some .int) (212) (6047) 0 0 [.ref L.1, .int a0, .int a1, .int a2] L g σ (some (.int r)) σ' := by
  refine x_head hst (by decide) rfl ?_
  intro p e s m below meth c A C0 hG
  have hl := lv_entry ([.ref L.1, .int a0, .int a1, .int a2]) (n := 4) (Nat.le_of_ble_eq_true rfl)
  rw [lg_entry_eq]
  generalize (lg_sl ([.ref L.1, .int a0, .int a1, .int a2]) ++ List.replicate (4 - (lg_sl ([.ref L.1, .int a0, .int a1, .int a2])).length) Slot.unset).toArray = ls at hl ⊢
  have hl : lv_has ls 4 [(0, .ref L.1), (1, .int a0), (2, .int a1), (3, .int a2)] := hl
  exact bX_loses_e C0 ⟨Nat.le_refl _, Nat.le_refl _⟩ _ _ _ _ _ [] ls hG hl hF
def fX_marksIn_b17 (N : Nat) (k4 : xS → Int32 → Int32 → Int32 → Option (xS × Int32)) : Nat → xS → Int32 → Int32 → Int32 → Int32 → Option (xS × Int32)
  | 0, _, _, _, _, _ => none
  | n + 1, σ, x1, x2, x3, x4 =>
    nmv (xI σ 1) fun x_4 =>
    if x_4 ≤ x4 then (
      nmv (x3 + 1) fun x_6 =>
      k4 σ x1 x2 x_6)
    else (
      chk x3 8 <| chl x3.toNatClampNeg (xn σ) <| nmv x3.toNatClampNeg fun u_7 =>
      chk x4 8 <| chl x4.toNatClampNeg (xn σ) <| nmv x4.toNatClampNeg fun u_8 =>
      obi (fX_apartOf N σ x3 x4) fun σ_9 r_10 =>
      chk x1 60 <| nmv (xJ σ_9 12 x1.toNatClampNeg) fun x_12 =>
      obi (fX_losesBy N σ_9 u_7 u_8 r_10 x_12 x1) fun σ_13 r_14 =>
      nmv (((8 : Int32) * x3) + x4) fun x_16 =>
      chk x_16 64 <| nmv (xJ σ_13 14 x_16.toNatClampNeg) fun x_17 =>
      chk x_16 64 <| nmv (xSj σ_13 14 x_16.toNatClampNeg (x_17 + r_14)) fun σ_18 =>
      nmv (x2 + r_14) fun x_19 =>
      nmv (x4 + 1) fun x_20 =>
      (fX_marksIn_b17 N k4 n) σ_18 x1 x_19 x3 x_20)
def fX_marksIn_b4 (N : Nat) : Nat → xS → Int32 → Int32 → Int32 → Option (xS × Int32)
  | 0, _, _, _, _ => none
  | n + 1, σ, x1, x2, x3 =>
    nmv (xI σ 1) fun x_1 =>
    if x_1 ≤ x3 then (
      some (σ, x2))
    else (
      nmv (x3 + 1) fun x_3 =>
      fX_marksIn_b17 N (fX_marksIn_b4 N n) N σ x1 x2 x3 x_3)
def fX_marksIn (N : Nat) (σ : xS) (a0 : Int32) : Option (xS × Int32) :=
  fX_marksIn_b4 N N σ a0 0 0
theorem bX_marksIn_17 {N : Nat} (C0 : xCx p l s m args meth c RX0 cX0_marksIn 6 (some .int) L A) (hRo : 212 ≤ R.frames ∧ 6047 ≤ R.locals) {σ' : xS} {r : Int32} {k4 : xS → Int32 → Int32 → Int32 → Option (xS × Int32)} (hk4 : ∀ (σ : xS) (x1 : Int32) (x2 : Int32) (x3 : Int32) (H : Heap) (locs : List Loc) (ls : Array Slot), xG A L g s σ H locs → lv_has ls 6 [(0, .ref L.1), (1, .int x1), (2, .int x2), (3, .int x3)] → k4 σ x1 x2 x3 = some (σ', r) → W p l e R s m args below meth c H locs 0 0 (xZ below L g A s args σ' (some (.int r)) 0 0) (F0 m 4 ls [])) : ∀ (n : Nat) (σ : xS) (x1 : Int32) (x2 : Int32) (x3 : Int32) (x4 : Int32) (H : Heap) (locs : List Loc) (ls : Array Slot), xG A L g s σ H locs → lv_has ls 6 [(0, .ref L.1), (1, .int x1), (2, .int x2), (3, .int x3), (4, .int x4)] → fX_marksIn_b17 N k4 n σ x1 x2 x3 x4 = some (σ', r) → W p l e R s m args below meth c H locs 0 0 (xZ below L g A s args σ' (some (.int r)) 0 0) (F0 m 17 ls []) := by
  have hx := C0.1
  have hb := C0.2.1
  have hst := C0.2.2.2.2.2.2.2.2.2.2
  intro n
  induction n with
  | zero => intro σ x1 x2 x3 x4 H locs ls hG hl hF; cases hF
  | succ n ih =>
    intro σ x1 x2 x3 x4 H locs ls hG hl hF
    unfold fX_marksIn_b17 at hF
    refine lv_iload hx hb dX0_marksIn_17 (lv_at hl 4 rfl) ?_
    refine lv_aload_n hx hb dX0_marksIn_19 rfl (lv_at hl 0 rfl) ?_
    refine x_geti C0 hG 1 (by decide) rfl q175 dX0_marksIn_20 hF (fun x_4 hF => ?_)
    refine lv_icmp_ge (tgt := 87) hx hb dX0_marksIn_23 (by decide) (fun c_5 => ?_) (fun c_5 => ?_)
    · have hF := ifp hF c_5
      refine w_iinc hx hb dX0_marksIn_87 hl 3 rfl (v := 1) (by decide) (by decide) hF (fun x_6 ls hl hF => ?_)
      have hl : lv_has ls 6 [(3, .int x_6), (0, .ref L.1), (1, .int x1), (2, .int x2), (4, .int x4)] := hl
      refine lv_goto (tgt := 4) hx hb dX0_marksIn_90 (by decide) ?_
      exact hk4 _ _ _ _ H locs ls hG (lv_sub hl [1, 2, 3, 0] rfl) hF
    · have hF := ifn hF c_5
      refine lv_aload_n hx hb dX0_marksIn_26 rfl (lv_at hl 0 rfl) ?_
      refine lv_aload_n hx hb dX0_marksIn_27 rfl (lv_at hl 0 rfl) ?_
      refine x_geta C0 hG 0 (by decide) rfl (by decide) q174 dX0_marksIn_28 ?_
      refine lv_iload_n hx hb dX0_marksIn_31 rfl (lv_at hl 3 rfl) ?_
      refine x_swld C0 hG dX0_marksIn_32 hF (fun u_7 hF => ?_)
      refine lv_aload_n hx hb dX0_marksIn_33 rfl (lv_at hl 0 rfl) ?_
      refine x_geta C0 hG 0 (by decide) rfl (by decide) q174 dX0_marksIn_34 ?_
      refine lv_iload hx hb dX0_marksIn_37 (lv_at hl 4 rfl) ?_
      refine x_swld C0 hG dX0_marksIn_39 hF (fun u_8 hF => ?_)
      refine lv_aload_n hx hb dX0_marksIn_40 rfl (lv_at hl 0 rfl) ?_
      refine lv_iload_n hx hb dX0_marksIn_41 rfl (lv_at hl 3 rfl) ?_
      refine lv_iload hx hb dX0_marksIn_42 (lv_at hl 4 rfl) ?_
      obtain ⟨σ_9, r_10, e_11, hF⟩ := obi_of hF
      refine x_cVi0 (As := [.int x3, .int x4]) (rest := [.ref (g.1 u_8), .ref (g.1 u_7), .ref L.1]) C0 hG (mtX_apartOf l hst e_11) (lw_V q886 q888 qs27 q100 q889) yd_X0_apartOf (x_rc0 C0 hG) ⟨by omega, by omega⟩ ⟨by omega, by omega⟩ rfl rfl hl.1 (Nat.le_of_ble_eq_true rfl) dX0_marksIn_44 (fun H locs hG => ?_)
      refine lv_aload_n hx hb dX0_marksIn_47 rfl (lv_at hl 0 rfl) ?_
      refine x_geta C0 hG 12 (by decide) rfl (by decide) q188 dX0_marksIn_48 ?_
      refine lv_iload_n hx hb dX0_marksIn_51 rfl (lv_at hl 1 rfl) ?_
      refine x_ld C0 hG 12 ⟨by decide, rfl, rfl⟩ dX0_marksIn_52 hF (fun x_12 hF => ?_)
      refine lv_iload_n hx hb dX0_marksIn_53 rfl (lv_at hl 1 rfl) ?_
      obtain ⟨σ_13, r_14, e_15, hF⟩ := obi_of hF
      refine x_cVi0 (As := [.ref (g.1 u_7), .ref (g.1 u_8), .int r_10, .int x_12, .int x1]) (rest := []) C0 hG (mtX_losesBy l hst e_15) (lw_V q812 q814 qs20 q100 q815) yd_X0_losesBy (x_rc0 C0 hG) ⟨by omega, by omega⟩ ⟨by omega, by omega⟩ rfl rfl hl.1 (Nat.le_of_ble_eq_true rfl) dX0_marksIn_54 (fun H locs hG => ?_)
      refine lv_istore (lv' := [(5, .int r_14), (0, .ref L.1), (1, .int x1), (2, .int x2), (3, .int x3), (4, .int x4)]) hx hb dX0_marksIn_57 hl (by decide) rfl (fun ls hl => ?_)
      refine lv_aload_n hx hb dX0_marksIn_59 rfl (lv_at hl 1 rfl) ?_
      refine x_geta C0 hG 14 (by decide) rfl (by decide) q190 dX0_marksIn_60 ?_
      refine lv_bipush (v := 8) hx hb dX0_marksIn_63 (by decide) ?_
      refine lv_iload_n hx hb dX0_marksIn_65 rfl (lv_at hl 4 rfl) ?_
      refine lv_imul hx hb dX0_marksIn_66 ?_
      refine lv_iload hx hb dX0_marksIn_67 (lv_at hl 5 rfl) ?_
      refine lv_iadd hx hb dX0_marksIn_69 ?_
      refine w_nm hF (fun x_16 hF => ?_)
      refine lv_dup2_11 hx hb dX0_marksIn_70 rfl rfl ?_
      refine x_ld C0 hG 14 ⟨by decide, rfl, rfl⟩ dX0_marksIn_71 hF (fun x_17 hF => ?_)
      refine lv_iload hx hb dX0_marksIn_72 (lv_at hl 0 rfl) ?_
      refine lv_iadd hx hb dX0_marksIn_74 ?_
      refine x_st C0 hG 14 ⟨by decide, rfl, rfl⟩ dX0_marksIn_75 hF (fun σ_18 H locs hG hF => ?_)
      refine lv_iload_n hx hb dX0_marksIn_76 rfl (lv_at hl 3 rfl) ?_
      refine lv_iload hx hb dX0_marksIn_77 (lv_at hl 0 rfl) ?_
      refine lv_iadd hx hb dX0_marksIn_79 ?_
      refine w_nm hF (fun x_19 hF => ?_)
      refine lv_istore_n (lv' := [(2, .int x_19), (5, .int r_14), (0, .ref L.1), (1, .int x1), (3, .int x3), (4, .int x4)]) hx hb dX0_marksIn_80 rfl hl (by decide) rfl (fun ls hl => ?_)
      refine w_iinc hx hb dX0_marksIn_81 hl 5 rfl (v := 1) (by decide) (by decide) hF (fun x_20 ls hl hF => ?_)
      have hl : lv_has ls 6 [(4, .int x_20), (2, .int x_19), (5, .int r_14), (0, .ref L.1), (1, .int x1), (3, .int x3)] := hl
      refine lv_goto (tgt := 17) hx hb dX0_marksIn_84 (by decide) ?_
      exact ih _ _ _ _ _ H locs ls hG (lv_sub hl [3, 4, 1, 5, 0] rfl) hF
theorem bX_marksIn_4 {N : Nat} (C0 : xCx p l s m args meth c RX0 cX0_marksIn 6 (some .int) L A) (hRo : 212 ≤ R.frames ∧ 6047 ≤ R.locals) {σ' : xS} {r : Int32} : ∀ (n : Nat) (σ : xS) (x1 : Int32) (x2 : Int32) (x3 : Int32) (H : Heap) (locs : List Loc) (ls : Array Slot), xG A L g s σ H locs → lv_has ls 6 [(0, .ref L.1), (1, .int x1), (2, .int x2), (3, .int x3)] → fX_marksIn_b4 N n σ x1 x2 x3 = some (σ', r) → W p l e R s m args below meth c H locs 0 0 (xZ below L g A s args σ' (some (.int r)) 0 0) (F0 m 4 ls []) := by
  have hx := C0.1
  have hb := C0.2.1
  have hst := C0.2.2.2.2.2.2.2.2.2.2
  intro n
  induction n with
  | zero => intro σ x1 x2 x3 H locs ls hG hl hF; cases hF
  | succ n ih =>
    intro σ x1 x2 x3 H locs ls hG hl hF
    unfold fX_marksIn_b4 at hF
    refine lv_iload_n hx hb dX0_marksIn_4 rfl (lv_at hl 3 rfl) ?_
    refine lv_aload_n hx hb dX0_marksIn_5 rfl (lv_at hl 0 rfl) ?_
    refine x_geti C0 hG 1 (by decide) rfl q175 dX0_marksIn_6 hF (fun x_1 hF => ?_)
    refine lv_icmp_ge (tgt := 93) hx hb dX0_marksIn_9 (by decide) (fun c_2 => ?_) (fun c_2 => ?_)
    · have hF := ifp hF c_2
      refine lv_iload_n hx hb dX0_marksIn_93 rfl (lv_at hl 2 rfl) ?_
      exact x_iret C0 hG ⟨by omega, by omega⟩ dX0_marksIn_94 hF
    · have hF := ifn hF c_2
      refine lv_iload_n hx hb dX0_marksIn_12 rfl (lv_at hl 3 rfl) ?_
      refine lv_iconst (v := 1) hx hb dX0_marksIn_13 (by decide) ?_
      refine lv_iadd hx hb dX0_marksIn_14 ?_
      refine w_nm hF (fun x_3 hF => ?_)
      refine lv_istore (lv' := [(4, .int x_3), (0, .ref L.1), (1, .int x1), (2, .int x2), (3, .int x3)]) hx hb dX0_marksIn_15 hl (by decide) rfl (fun ls hl => ?_)
      exact bX_marksIn_17 C0 hRo ih N _ _ _ _ _ H locs ls hG (lv_sub hl [1, 2, 3, 4, 0] rfl) hF
theorem bX_marksIn_e {N : Nat} (C0 : xCx p l s m args meth c RX0 cX0_marksIn 6 (some .int) L A) (hRo : 212 ≤ R.frames ∧ 6047 ≤ R.locals) {σ' : xS} {r : Int32} (σ : xS) (a0 : Int32) (H : Heap) (locs : List Loc) (ls : Array Slot) (hG : xG A L g s σ H locs) (hl : lv_has ls 6 [(0, .ref L.1), (1, .int a0)]) (hF : fX_marksIn N σ a0 = some (σ', r)) : W p l e R s m args below meth c H locs 0 0 (xZ below L g A s args σ' (some (.int r)) 0 0) (F0 m 0 ls []) := by
  have hx := C0.1
  have hb := C0.2.1
  have hst := C0.2.2.2.2.2.2.2.2.2.2
  unfold fX_marksIn at hF
  refine lv_iconst (v := 0) hx hb dX0_marksIn_0 (by decide) ?_
  refine lv_istore_n (lv' := [(2, .int 0), (0, .ref L.1), (1, .int a0)]) hx hb dX0_marksIn_1 rfl hl (by decide) rfl (fun ls hl => ?_)
  refine lv_iconst (v := 0) hx hb dX0_marksIn_2 (by decide) ?_
  refine lv_istore_n (lv' := [(3, .int 0), (2, .int 0), (0, .ref L.1), (1, .int a0)]) hx hb dX0_marksIn_3 rfl hl (by decide) rfl (fun ls hl => ?_)
  exact bX_marksIn_4 C0 hRo N _ _ _ _ H locs ls hG (lv_sub hl [2, 3, 1, 0] rfl) hF
theorem mtX_marksIn (l : Launch) (hst : l.stackTraces = false) {N : Nat} {L : xL} {g : xg} {σ σ' : xS} {r : Int32} {a0 : Int32} (hF : fX_marksIn N σ a0 = some (σ', r)) : xMet l yX0_marksIn cX0_marksIn 6 (some .int) (212) (6047) 0 0 [.ref L.1, .int a0] L g σ (some (.int r)) σ' := by
  refine x_head hst (by decide) rfl ?_
  intro p e s m below meth c A C0 hG
  have hl := lv_entry ([.ref L.1, .int a0]) (n := 6) (Nat.le_of_ble_eq_true rfl)
  rw [lg_entry_eq]
  generalize (lg_sl ([.ref L.1, .int a0]) ++ List.replicate (6 - (lg_sl ([.ref L.1, .int a0])).length) Slot.unset).toArray = ls at hl ⊢
  have hl : lv_has ls 6 [(0, .ref L.1), (1, .int a0)] := hl
  exact bX_marksIn_e C0 ⟨Nat.le_refl _, Nat.le_refl _⟩ _ _ _ [] ls hG hl hF
def fX_marks_b29 (N : Nat) : Nat → xS → Int32 → Int32 → Option (xS × Int32)
  | 0, _, _, _ => none
  | n + 1, σ, x1, x2 =>
    nmv (xI σ 15) fun x_7 =>
    if x_7 ≤ x2 then (
      some (σ, x1))
    else (
      obi (fX_goCount N σ x2) fun σ_9 r_10 =>
      obi (fX_marksIn N σ_9 x2) fun σ_12 r_13 =>
      nmv (x1 + r_13) fun x_15 =>
      nmv (x2 + 1) fun x_16 =>
      (fX_marks_b29 N n) σ_12 x_15 x_16)
def fX_marks_b2 (N : Nat) : Nat → xS → Int32 → Option (xS × Int32)
  | 0, _, _ => none
  | n + 1, σ, x1 =>
    if 64 ≤ x1 then (
      obi (fX_begin N σ) fun σ_2 r_3 =>
      fX_marks_b29 N N σ_2 0 0)
    else (
      chk x1 64 <| nmv (xSj σ 14 x1.toNatClampNeg 0) fun σ_5 =>
      nmv (x1 + 1) fun x_6 =>
      (fX_marks_b2 N n) σ_5 x_6)
def fX_marks (N : Nat) (σ : xS) : Option (xS × Int32) :=
  fX_marks_b2 N N σ 0
theorem bX_marks_29 {N : Nat} (C0 : xCx p l s m args meth c RX0 cX0_marks 3 (some .int) L A) (hRo : 213 ≤ R.frames ∧ 6072 ≤ R.locals) {σ' : xS} {r : Int32} : ∀ (n : Nat) (σ : xS) (x1 : Int32) (x2 : Int32) (H : Heap) (locs : List Loc) (ls : Array Slot), xG A L g s σ H locs → lv_has ls 3 [(0, .ref L.1), (1, .int x1), (2, .int x2)] → fX_marks_b29 N n σ x1 x2 = some (σ', r) → W p l e R s m args below meth c H locs 0 0 (xZ below L g A s args σ' (some (.int r)) 0 0) (F0 m 29 ls []) := by
  have hx := C0.1
  have hb := C0.2.1
  have hst := C0.2.2.2.2.2.2.2.2.2.2
  intro n
  induction n with
  | zero => intro σ x1 x2 H locs ls hG hl hF; cases hF
  | succ n ih =>
    intro σ x1 x2 H locs ls hG hl hF
    unfold fX_marks_b29 at hF
    refine lv_iload_n hx hb dX0_marks_29 rfl (lv_at hl 2 rfl) ?_
    refine lv_aload_n hx hb dX0_marks_30 rfl (lv_at hl 0 rfl) ?_
    refine x_geti C0 hG 15 (by decide) rfl q191 dX0_marks_31 hF (fun x_7 hF => ?_)
    refine lv_icmp_ge (tgt := 56) hx hb dX0_marks_34 (by decide) (fun c_8 => ?_) (fun c_8 => ?_)
    · have hF := ifp hF c_8
      refine lv_iload_n hx hb dX0_marks_56 rfl (lv_at hl 1 rfl) ?_
      exact x_iret C0 hG ⟨by omega, by omega⟩ dX0_marks_57 hF
    · have hF := ifn hF c_8
      refine lv_aload_n hx hb dX0_marks_37 rfl (lv_at hl 0 rfl) ?_
      refine lv_iload_n hx hb dX0_marks_38 rfl (lv_at hl 2 rfl) ?_
      obtain ⟨σ_9, r_10, e_11, hF⟩ := obi_of hF
      refine x_cVv0 (As := [.int x2]) (rest := []) C0 hG (mtX_goCount l hst e_11) (lw_V q878 q880 qs25 q100 q881) yd_X0_goCount (x_rc0 C0 hG) ⟨by omega, by omega⟩ ⟨by omega, by omega⟩ rfl rfl hl.1 (Nat.le_of_ble_eq_true rfl) dX0_marks_39 (fun H locs hG => ?_)
      refine lv_iload_n hx hb dX0_marks_42 rfl (lv_at hl 1 rfl) ?_
      refine lv_aload_n hx hb dX0_marks_43 rfl (lv_at hl 0 rfl) ?_
      refine lv_iload_n hx hb dX0_marks_44 rfl (lv_at hl 2 rfl) ?_
      obtain ⟨σ_12, r_13, e_14, hF⟩ := obi_of hF
      refine x_cVi0 (As := [.int x2]) (rest := [.int x1]) C0 hG (mtX_marksIn l hst e_14) (lw_V q882 q884 qs26 q100 q885) yd_X0_marksIn (x_rc0 C0 hG) ⟨by omega, by omega⟩ ⟨by omega, by omega⟩ rfl rfl hl.1 (Nat.le_of_ble_eq_true rfl) dX0_marks_45 (fun H locs hG => ?_)
      refine lv_iadd hx hb dX0_marks_48 ?_
      refine w_nm hF (fun x_15 hF => ?_)
      refine lv_istore_n (lv' := [(1, .int x_15), (0, .ref L.1), (2, .int x2)]) hx hb dX0_marks_49 rfl hl (by decide) rfl (fun ls hl => ?_)
      refine w_iinc hx hb dX0_marks_50 hl 2 rfl (v := 1) (by decide) (by decide) hF (fun x_16 ls hl hF => ?_)
      have hl : lv_has ls 3 [(2, .int x_16), (1, .int x_15), (0, .ref L.1)] := hl
      refine lv_goto (tgt := 29) hx hb dX0_marks_53 (by decide) ?_
      exact ih _ _ _ H locs ls hG (lv_sub hl [2, 1, 0] rfl) hF
theorem bX_marks_2 {N : Nat} (C0 : xCx p l s m args meth c RX0 cX0_marks 3 (some .int) L A) (hRo : 213 ≤ R.frames ∧ 6072 ≤ R.locals) {σ' : xS} {r : Int32} : ∀ (n : Nat) (σ : xS) (x1 : Int32) (H : Heap) (locs : List Loc) (ls : Array Slot), xG A L g s σ H locs → lv_has ls 3 [(0, .ref L.1), (1, .int x1)] → fX_marks_b2 N n σ x1 = some (σ', r) → W p l e R s m args below meth c H locs 0 0 (xZ below L g A s args σ' (some (.int r)) 0 0) (F0 m 2 ls []) := by
  have hx := C0.1
  have hb := C0.2.1
  have hst := C0.2.2.2.2.2.2.2.2.2.2
  intro n
  induction n with
  | zero => intro σ x1 H locs ls hG hl hF; cases hF
  | succ n ih =>
    intro σ x1 H locs ls hG hl hF
    unfold fX_marks_b2 at hF
    refine lv_iload_n hx hb dX0_marks_2 rfl (lv_at hl 1 rfl) ?_
    refine lv_bipush (v := 64) hx hb dX0_marks_3 (by decide) ?_
    refine lv_icmp_ge (tgt := 21) hx hb dX0_marks_5 (by decide) (fun c_1 => ?_) (fun c_1 => ?_)
    · have hF := ifp hF c_1
      refine lv_aload_n hx hb dX0_marks_21 rfl (lv_at hl 0 rfl) ?_
      obtain ⟨σ_2, r_3, e_4, hF⟩ := obi_of hF
      refine x_cVv0 (As := []) (rest := []) C0 hG (mtX_begin l hst e_4) (lw_V q874 q876 qs24 q100 q877) yd_X0_begin (x_rc0 C0 hG) ⟨by omega, by omega⟩ ⟨by omega, by omega⟩ rfl rfl hl.1 (Nat.le_of_ble_eq_true rfl) dX0_marks_22 (fun H locs hG => ?_)
      refine lv_iconst (v := 0) hx hb dX0_marks_25 (by decide) ?_
      refine lv_istore_n (lv' := [(1, .int 0), (0, .ref L.1)]) hx hb dX0_marks_26 rfl hl (by decide) rfl (fun ls hl => ?_)
      refine lv_iconst (v := 0) hx hb dX0_marks_27 (by decide) ?_
      refine lv_istore_n (lv' := [(2, .int 0), (1, .int 0), (0, .ref L.1)]) hx hb dX0_marks_28 rfl hl (by decide) rfl (fun ls hl => ?_)
      exact bX_marks_29 C0 hRo N _ _ _ H locs ls hG (lv_sub hl [2, 1, 0] rfl) hF
    · have hF := ifn hF c_1
      refine lv_aload_n hx hb dX0_marks_8 rfl (lv_at hl 0 rfl) ?_
      refine x_geta C0 hG 14 (by decide) rfl (by decide) q190 dX0_marks_9 ?_
      refine lv_iload_n hx hb dX0_marks_12 rfl (lv_at hl 1 rfl) ?_
      refine lv_iconst (v := 0) hx hb dX0_marks_13 (by decide) ?_
      refine x_st C0 hG 14 ⟨by decide, rfl, rfl⟩ dX0_marks_14 hF (fun σ_5 H locs hG hF => ?_)
      refine w_iinc hx hb dX0_marks_15 hl 1 rfl (v := 1) (by decide) (by decide) hF (fun x_6 ls hl hF => ?_)
      have hl : lv_has ls 3 [(1, .int x_6), (0, .ref L.1)] := hl
      refine lv_goto (tgt := 2) hx hb dX0_marks_18 (by decide) ?_
      exact ih _ _ H locs ls hG (lv_sub hl [1, 0] rfl) hF
theorem bX_marks_e {N : Nat} (C0 : xCx p l s m args meth c RX0 cX0_marks 3 (some .int) L A) (hRo : 213 ≤ R.frames ∧ 6072 ≤ R.locals) {σ' : xS} {r : Int32} (σ : xS) (H : Heap) (locs : List Loc) (ls : Array Slot) (hG : xG A L g s σ H locs) (hl : lv_has ls 3 [(0, .ref L.1)]) (hF : fX_marks N σ = some (σ', r)) : W p l e R s m args below meth c H locs 0 0 (xZ below L g A s args σ' (some (.int r)) 0 0) (F0 m 0 ls []) := by
  have hx := C0.1
  have hb := C0.2.1
  have hst := C0.2.2.2.2.2.2.2.2.2.2
  unfold fX_marks at hF
  refine lv_iconst (v := 0) hx hb dX0_marks_0 (by decide) ?_
  refine lv_istore_n (lv' := [(1, .int 0), (0, .ref L.1)]) hx hb dX0_marks_1 rfl hl (by decide) rfl (fun ls hl => ?_)
  exact bX_marks_2 C0 hRo N _ _ H locs ls hG (lv_sub hl [1, 0] rfl) hF
theorem mtX_marks (l : Launch) (hst : l.stackTraces = false) {N : Nat} {L : xL} {g : xg} {σ σ' : xS} {r : Int32} (hF : fX_marks N σ = some (σ', r)) : xMet l yX0_marks cX0_marks 3 (some .int) (213) (6072) 0 0 [.ref L.1] L g σ (some (.int r)) σ' := by
  refine x_head hst (by decide) rfl ?_
  intro p e s m below meth c A C0 hG
  have hl := lv_entry ([.ref L.1]) (n := 3) (Nat.le_of_ble_eq_true rfl)
  rw [lg_entry_eq]
  generalize (lg_sl ([.ref L.1]) ++ List.replicate (3 - (lg_sl ([.ref L.1])).length) Slot.unset).toArray = ls at hl ⊢
  have hl : lv_has ls 3 [(0, .ref L.1)] := hl
  exact bX_marks_e C0 ⟨Nat.le_refl _, Nat.le_refl _⟩ _ _ [] ls hG hl hF
def fX_firstSeen_b6 (N : Nat) : Nat → xS → Int32 → Option (xS × Int32)
  | 0, _, _ => none
  | n + 1, σ, x1 =>
    nmv (xI σ 15) fun x_4 =>
    if x_4 ≤ x1 then (
      some (σ, (-2)))
    else (
      obi (fX_goCount N σ x1) fun σ_6 r_7 =>
      obi (fX_apartNow N σ_6) fun σ_9 r_10 =>
      nmv (xI σ_9 3) fun x_12 =>
      if r_10 < x_12 then (
        nmv (x1 + 1) fun x_14 =>
        (fX_firstSeen_b6 N n) σ_9 x_14)
      else (
        some (σ_9, x1)))
def fX_firstSeen (N : Nat) (σ : xS) : Option (xS × Int32) :=
  obi (fX_begin N σ) fun σ_1 r_2 =>
  fX_firstSeen_b6 N N σ_1 0
theorem bX_firstSeen_6 {N : Nat} (C0 : xCx p l s m args meth c RX0 cX0_firstSeen 2 (some .int) L A) (hRo : 3 ≤ R.frames ∧ 66 ≤ R.locals) {σ' : xS} {r : Int32} : ∀ (n : Nat) (σ : xS) (x1 : Int32) (H : Heap) (locs : List Loc) (ls : Array Slot), xG A L g s σ H locs → lv_has ls 2 [(0, .ref L.1), (1, .int x1)] → fX_firstSeen_b6 N n σ x1 = some (σ', r) → W p l e R s m args below meth c H locs 0 0 (xZ below L g A s args σ' (some (.int r)) 0 0) (F0 m 6 ls []) := by
  have hx := C0.1
  have hb := C0.2.1
  have hst := C0.2.2.2.2.2.2.2.2.2.2
  intro n
  induction n with
  | zero => intro σ x1 H locs ls hG hl hF; cases hF
  | succ n ih =>
    intro σ x1 H locs ls hG hl hF
    unfold fX_firstSeen_b6 at hF
    refine lv_iload_n hx hb dX0_firstSeen_6 rfl (lv_at hl 1 rfl) ?_
    refine lv_aload_n hx hb dX0_firstSeen_7 rfl (lv_at hl 0 rfl) ?_
    refine x_geti C0 hG 15 (by decide) rfl q191 dX0_firstSeen_8 hF (fun x_4 hF => ?_)
    refine lv_icmp_ge (tgt := 38) hx hb dX0_firstSeen_11 (by decide) (fun c_5 => ?_) (fun c_5 => ?_)
    · have hF := ifp hF c_5
      refine lv_bipush (v := (-2)) hx hb dX0_firstSeen_38 (by decide) ?_
      exact x_iret C0 hG ⟨by omega, by omega⟩ dX0_firstSeen_40 hF
    · have hF := ifn hF c_5
      refine lv_aload_n hx hb dX0_firstSeen_14 rfl (lv_at hl 0 rfl) ?_
      refine lv_iload_n hx hb dX0_firstSeen_15 rfl (lv_at hl 1 rfl) ?_
      obtain ⟨σ_6, r_7, e_8, hF⟩ := obi_of hF
      refine x_cVv0 (As := [.int x1]) (rest := []) C0 hG (mtX_goCount l hst e_8) (lw_V q878 q880 qs25 q100 q881) yd_X0_goCount (x_rc0 C0 hG) ⟨by omega, by omega⟩ ⟨by omega, by omega⟩ rfl rfl hl.1 (Nat.le_of_ble_eq_true rfl) dX0_firstSeen_16 (fun H locs hG => ?_)
      refine lv_aload_n hx hb dX0_firstSeen_19 rfl (lv_at hl 0 rfl) ?_
      obtain ⟨σ_9, r_10, e_11, hF⟩ := obi_of hF
      refine x_cVi0 (As := []) (rest := []) C0 hG (mtX_apartNow l hst e_11) (lw_V q898 q900 qs30 q100 q901) yd_X0_apartNow (x_rc0 C0 hG) ⟨by omega, by omega⟩ ⟨by omega, by omega⟩ rfl rfl hl.1 (Nat.le_of_ble_eq_true rfl) dX0_firstSeen_20 (fun H locs hG => ?_)
      refine lv_aload_n hx hb dX0_firstSeen_23 rfl (lv_at hl 0 rfl) ?_
      refine x_geti C0 hG 3 (by decide) rfl q177 dX0_firstSeen_24 hF (fun x_12 hF => ?_)
      refine lv_icmp_lt (tgt := 32) hx hb dX0_firstSeen_27 (by decide) (fun c_13 => ?_) (fun c_13 => ?_)
      · have hF := ifp hF c_13
        refine w_iinc hx hb dX0_firstSeen_32 hl 1 rfl (v := 1) (by decide) (by decide) hF (fun x_14 ls hl hF => ?_)
        have hl : lv_has ls 2 [(1, .int x_14), (0, .ref L.1)] := hl
        refine lv_goto (tgt := 6) hx hb dX0_firstSeen_35 (by decide) ?_
        exact ih _ _ H locs ls hG (lv_sub hl [1, 0] rfl) hF
      · have hF := ifn hF c_13
        refine lv_iload_n hx hb dX0_firstSeen_30 rfl (lv_at hl 1 rfl) ?_
        exact x_iret C0 hG ⟨by omega, by omega⟩ dX0_firstSeen_31 hF
theorem bX_firstSeen_e {N : Nat} (C0 : xCx p l s m args meth c RX0 cX0_firstSeen 2 (some .int) L A) (hRo : 3 ≤ R.frames ∧ 66 ≤ R.locals) {σ' : xS} {r : Int32} (σ : xS) (H : Heap) (locs : List Loc) (ls : Array Slot) (hG : xG A L g s σ H locs) (hl : lv_has ls 2 [(0, .ref L.1)]) (hF : fX_firstSeen N σ = some (σ', r)) : W p l e R s m args below meth c H locs 0 0 (xZ below L g A s args σ' (some (.int r)) 0 0) (F0 m 0 ls []) := by
  have hx := C0.1
  have hb := C0.2.1
  have hst := C0.2.2.2.2.2.2.2.2.2.2
  unfold fX_firstSeen at hF
  refine lv_aload_n hx hb dX0_firstSeen_0 rfl (lv_at hl 0 rfl) ?_
  obtain ⟨σ_1, r_2, e_3, hF⟩ := obi_of hF
  refine x_cVv0 (As := []) (rest := []) C0 hG (mtX_begin l hst e_3) (lw_V q874 q876 qs24 q100 q877) yd_X0_begin (x_rc0 C0 hG) ⟨by omega, by omega⟩ ⟨by omega, by omega⟩ rfl rfl hl.1 (Nat.le_of_ble_eq_true rfl) dX0_firstSeen_1 (fun H locs hG => ?_)
  refine lv_iconst (v := 0) hx hb dX0_firstSeen_4 (by decide) ?_
  refine lv_istore_n (lv' := [(1, .int 0), (0, .ref L.1)]) hx hb dX0_firstSeen_5 rfl hl (by decide) rfl (fun ls hl => ?_)
  exact bX_firstSeen_6 C0 hRo N _ _ H locs ls hG (lv_sub hl [1, 0] rfl) hF
theorem mtX_firstSeen (l : Launch) (hst : l.stackTraces = false) {N : Nat} {L : xL} {g : xg} {σ σ' : xS} {r : Int32} (hF : fX_firstSeen N σ = some (σ', r)) : xMet l yX0_firstSeen cX0_firstSeen 2 (some .int) (3) (66) 0 0 [.ref L.1] L g σ (some (.int r)) σ' := by
  refine x_head hst (by decide) rfl ?_
  intro p e s m below meth c A C0 hG
  have hl := lv_entry ([.ref L.1]) (n := 2) (Nat.le_of_ble_eq_true rfl)
  rw [lg_entry_eq]
  generalize (lg_sl ([.ref L.1]) ++ List.replicate (2 - (lg_sl ([.ref L.1])).length) Slot.unset).toArray = ls at hl ⊢
  have hl : lv_has ls 2 [(0, .ref L.1)] := hl
  exact bX_firstSeen_e C0 ⟨Nat.le_refl _, Nat.le_refl _⟩ _ _ [] ls hG hl hF
def fX_worstTwo_b51 (N : Nat) (k12 : xS → Int32 → Int32 → Int32 → Option (xS × Int32)) (σ : xS) (x1 : Int32) (x2 : Int32) (x3 : Int32) : Option (xS × Int32) :=
  nmv (x3 + 1) fun x_11 =>
  k12 σ x1 x2 x_11
def fX_worstTwo_b12 (N : Nat) : Nat → xS → Int32 → Int32 → Int32 → Option (xS × Int32)
  | 0, _, _, _, _ => none
  | n + 1, σ, x1, x2, x3 =>
    if 64 ≤ x3 then (
      some (σ, x1))
    else (
      chk x3 64 <| nmv (xJ σ 14 x3.toNatClampNeg) fun x_5 =>
      if x2 < x_5 then (
        chz 8 <|
        chz 8 <|
        nmv (((x3 / 8) * 10) + (x3 - x3 / 8 * 8)) fun x_9 =>
        chk x3 64 <| nmv (xJ σ 14 x3.toNatClampNeg) fun x_10 =>
        fX_worstTwo_b51 N (fX_worstTwo_b12 N n) σ x_9 x_10 x3)
      else (
        fX_worstTwo_b51 N (fX_worstTwo_b12 N n) σ x1 x2 x3))
def fX_worstTwo (N : Nat) (σ : xS) : Option (xS × Int32) :=
  obi (fX_marks N σ) fun σ_1 r_2 =>
  fX_worstTwo_b12 N N σ_1 (-2) 0 0
theorem bX_worstTwo_51 {N : Nat} (C0 : xCx p l s m args meth c RX0 cX0_worstTwo 4 (some .int) L A) (hRo : 214 ≤ R.frames ∧ 6094 ≤ R.locals) {σ' : xS} {r : Int32} {k12 : xS → Int32 → Int32 → Int32 → Option (xS × Int32)} (hk12 : ∀ (σ : xS) (x1 : Int32) (x2 : Int32) (x3 : Int32) (H : Heap) (locs : List Loc) (ls : Array Slot), xG A L g s σ H locs → lv_has ls 4 [(0, .ref L.1), (1, .int x1), (2, .int x2), (3, .int x3)] → k12 σ x1 x2 x3 = some (σ', r) → W p l e R s m args below meth c H locs 0 0 (xZ below L g A s args σ' (some (.int r)) 0 0) (F0 m 12 ls [])) (σ : xS) (x1 : Int32) (x2 : Int32) (x3 : Int32) (H : Heap) (locs : List Loc) (ls : Array Slot) (hG : xG A L g s σ H locs) (hl : lv_has ls 4 [(0, .ref L.1), (1, .int x1), (2, .int x2), (3, .int x3)]) (hF : fX_worstTwo_b51 N k12 σ x1 x2 x3 = some (σ', r)) : W p l e R s m args below meth c H locs 0 0 (xZ below L g A s args σ' (some (.int r)) 0 0) (F0 m 51 ls []) := by
  have hx := C0.1
  have hb := C0.2.1
  have hst := C0.2.2.2.2.2.2.2.2.2.2
  unfold fX_worstTwo_b51 at hF
  refine w_iinc hx hb dX0_worstTwo_51 hl 3 rfl (v := 1) (by decide) (by decide) hF (fun x_11 ls hl hF => ?_)
  have hl : lv_has ls 4 [(3, .int x_11), (0, .ref L.1), (1, .int x1), (2, .int x2)] := hl
  refine lv_goto (tgt := 12) hx hb dX0_worstTwo_54 (by decide) ?_
  exact hk12 _ _ _ _ H locs ls hG (lv_sub hl [1, 2, 3, 0] rfl) hF
theorem bX_worstTwo_12 {N : Nat} (C0 : xCx p l s m args meth c RX0 cX0_worstTwo 4 (some .int) L A) (hRo : 214 ≤ R.frames ∧ 6094 ≤ R.locals) {σ' : xS} {r : Int32} : ∀ (n : Nat) (σ : xS) (x1 : Int32) (x2 : Int32) (x3 : Int32) (H : Heap) (locs : List Loc) (ls : Array Slot), xG A L g s σ H locs → lv_has ls 4 [(0, .ref L.1), (1, .int x1), (2, .int x2), (3, .int x3)] → fX_worstTwo_b12 N n σ x1 x2 x3 = some (σ', r) → W p l e R s m args below meth c H locs 0 0 (xZ below L g A s args σ' (some (.int r)) 0 0) (F0 m 12 ls []) := by
  have hx := C0.1
  have hb := C0.2.1
  have hst := C0.2.2.2.2.2.2.2.2.2.2
  intro n
  induction n with
  | zero => intro σ x1 x2 x3 H locs ls hG hl hF; cases hF
  | succ n ih =>
    intro σ x1 x2 x3 H locs ls hG hl hF
    unfold fX_worstTwo_b12 at hF
    refine lv_iload_n hx hb dX0_worstTwo_12 rfl (lv_at hl 3 rfl) ?_
    refine lv_bipush (v := 64) hx hb dX0_worstTwo_13 (by decide) ?_
    refine lv_icmp_ge (tgt := 57) hx hb dX0_worstTwo_15 (by decide) (fun c_4 => ?_) (fun c_4 => ?_)
    · have hF := ifp hF c_4
      refine lv_iload_n hx hb dX0_worstTwo_57 rfl (lv_at hl 1 rfl) ?_
      exact x_iret C0 hG ⟨by omega, by omega⟩ dX0_worstTwo_58 hF
    · have hF := ifn hF c_4
      refine lv_aload_n hx hb dX0_worstTwo_18 rfl (lv_at hl 0 rfl) ?_
      refine x_geta C0 hG 14 (by decide) rfl (by decide) q190 dX0_worstTwo_19 ?_
      refine lv_iload_n hx hb dX0_worstTwo_22 rfl (lv_at hl 3 rfl) ?_
      refine x_ld C0 hG 14 ⟨by decide, rfl, rfl⟩ dX0_worstTwo_23 hF (fun x_5 hF => ?_)
      refine lv_iload_n hx hb dX0_worstTwo_24 rfl (lv_at hl 2 rfl) ?_
      refine lv_icmp_gt (tgt := 31) hx hb dX0_worstTwo_25 (by decide) (fun c_6 => ?_) (fun c_6 => ?_)
      · have hF := ifp hF c_6
        refine lv_iload_n hx hb dX0_worstTwo_31 rfl (lv_at hl 3 rfl) ?_
        refine lv_bipush (v := 8) hx hb dX0_worstTwo_32 (by decide) ?_
        obtain ⟨h_7, hF⟩ := chz_of hF
        refine lv_idiv hx hb dX0_worstTwo_34 h_7 ?_
        refine lv_bipush (v := 10) hx hb dX0_worstTwo_35 (by decide) ?_
        refine lv_imul hx hb dX0_worstTwo_37 ?_
        refine lv_iload_n hx hb dX0_worstTwo_38 rfl (lv_at hl 3 rfl) ?_
        refine lv_bipush (v := 8) hx hb dX0_worstTwo_39 (by decide) ?_
        obtain ⟨h_8, hF⟩ := chz_of hF
        refine lv_irem hx hb dX0_worstTwo_41 h_8 ?_
        refine lv_iadd hx hb dX0_worstTwo_42 ?_
        refine w_nm hF (fun x_9 hF => ?_)
        refine lv_istore_n (lv' := [(1, .int x_9), (0, .ref L.1), (2, .int x2), (3, .int x3)]) hx hb dX0_worstTwo_43 rfl hl (by decide) rfl (fun ls hl => ?_)
        refine lv_aload_n hx hb dX0_worstTwo_44 rfl (lv_at hl 1 rfl) ?_
        refine x_geta C0 hG 14 (by decide) rfl (by decide) q190 dX0_worstTwo_45 ?_
        refine lv_iload_n hx hb dX0_worstTwo_48 rfl (lv_at hl 3 rfl) ?_
        refine x_ld C0 hG 14 ⟨by decide, rfl, rfl⟩ dX0_worstTwo_49 hF (fun x_10 hF => ?_)
        refine lv_istore_n (lv' := [(2, .int x_10), (1, .int x_9), (0, .ref L.1), (3, .int x3)]) hx hb dX0_worstTwo_50 rfl hl (by decide) rfl (fun ls hl => ?_)
        exact bX_worstTwo_51 C0 hRo ih _ _ _ _ H locs ls hG (lv_sub hl [2, 1, 0, 3] rfl) hF
      · have hF := ifn hF c_6
        refine lv_goto (tgt := 51) hx hb dX0_worstTwo_28 (by decide) ?_
        exact bX_worstTwo_51 C0 hRo ih _ _ _ _ H locs ls hG (lv_sub hl [0, 1, 2, 3] rfl) hF
theorem bX_worstTwo_e {N : Nat} (C0 : xCx p l s m args meth c RX0 cX0_worstTwo 4 (some .int) L A) (hRo : 214 ≤ R.frames ∧ 6094 ≤ R.locals) {σ' : xS} {r : Int32} (σ : xS) (H : Heap) (locs : List Loc) (ls : Array Slot) (hG : xG A L g s σ H locs) (hl : lv_has ls 4 [(0, .ref L.1)]) (hF : fX_worstTwo N σ = some (σ', r)) : W p l e R s m args below meth c H locs 0 0 (xZ below L g A s args σ' (some (.int r)) 0 0) (F0 m 0 ls []) := by
  have hx := C0.1
  have hb := C0.2.1
  have hst := C0.2.2.2.2.2.2.2.2.2.2
  unfold fX_worstTwo at hF
  refine lv_aload_n hx hb dX0_worstTwo_0 rfl (lv_at hl 0 rfl) ?_
  obtain ⟨σ_1, r_2, e_3, hF⟩ := obi_of hF
  refine x_cVi0 (As := []) (rest := []) C0 hG (mtX_marks l hst e_3) (lw_V q870 q872 qs23 q100 q873) yd_X0_marks (x_rc0 C0 hG) ⟨by omega, by omega⟩ ⟨by omega, by omega⟩ rfl rfl hl.1 (Nat.le_of_ble_eq_true rfl) dX0_worstTwo_1 (fun H locs hG => ?_)
  refine lv_pop hx hb dX0_worstTwo_4 rfl ?_
  refine lv_bipush (v := (-2)) hx hb dX0_worstTwo_5 (by decide) ?_
  refine lv_istore_n (lv' := [(1, .int (-2)), (0, .ref L.1)]) hx hb dX0_worstTwo_7 rfl hl (by decide) rfl (fun ls hl => ?_)
  refine lv_iconst (v := 0) hx hb dX0_worstTwo_8 (by decide) ?_
  refine lv_istore_n (lv' := [(2, .int 0), (1, .int (-2)), (0, .ref L.1)]) hx hb dX0_worstTwo_9 rfl hl (by decide) rfl (fun ls hl => ?_)
  refine lv_iconst (v := 0) hx hb dX0_worstTwo_10 (by decide) ?_
  refine lv_istore_n (lv' := [(3, .int 0), (2, .int 0), (1, .int (-2)), (0, .ref L.1)]) hx hb dX0_worstTwo_11 rfl hl (by decide) rfl (fun ls hl => ?_)
  exact bX_worstTwo_12 C0 hRo N _ _ _ _ H locs ls hG (lv_sub hl [3, 2, 1, 0] rfl) hF
theorem mtX_worstTwo (l : Launch) (hst : l.stackTraces = false) {N : Nat} {L : xL} {g : xg} {σ σ' : xS} {r : Int32} (hF : fX_worstTwo N σ = some (σ', r)) : xMet l yX0_worstTwo cX0_worstTwo 4 (some .int) (214) (6094) 0 0 [.ref L.1] L g σ (some (.int r)) σ' := by
  refine x_head hst (by decide) rfl ?_
  intro p e s m below meth c A C0 hG
  have hl := lv_entry ([.ref L.1]) (n := 4) (Nat.le_of_ble_eq_true rfl)
  rw [lg_entry_eq]
  generalize (lg_sl ([.ref L.1]) ++ List.replicate (4 - (lg_sl ([.ref L.1])).length) Slot.unset).toArray = ls at hl ⊢
  have hl : lv_has ls 4 [(0, .ref L.1)] := hl
  exact bX_worstTwo_e C0 ⟨Nat.le_refl _, Nat.le_refl _⟩ _ _ [] ls hG hl hF
def fX_goCounts_b6 (N : Nat) : Nat → xS → Int32 → Int32 → Option (xS × Unit)
  | 0, _, _, _ => none
  | n + 1, σ, x1, x2 =>
    if x1 ≤ x2 then (
      some (σ, ()))
    else (
      nmv (xI σ 15) fun x_5 =>
      if x_5 ≤ x2 then (
        some (σ, ()))
      else (
        obi (fX_goCount N σ x2) fun σ_7 r_8 =>
        nmv (x2 + 1) fun x_10 =>
        (fX_goCounts_b6 N n) σ_7 x1 x_10))
def fX_goCounts (N : Nat) (σ : xS) (a0 : Int32) : Option (xS × Unit) :=
  obi (fX_begin N σ) fun σ_1 r_2 =>
  fX_goCounts_b6 N N σ_1 a0 0
theorem bX_goCounts_6 {N : Nat} (C0 : xCx p l s m args meth c RX0 cX0_goCounts 3 none L A) (hRo : 3 ≤ R.frames ∧ 65 ≤ R.locals) {σ' : xS} {r : Unit} : ∀ (n : Nat) (σ : xS) (x1 : Int32) (x2 : Int32) (H : Heap) (locs : List Loc) (ls : Array Slot), xG A L g s σ H locs → lv_has ls 3 [(0, .ref L.1), (1, .int x1), (2, .int x2)] → fX_goCounts_b6 N n σ x1 x2 = some (σ', r) → W p l e R s m args below meth c H locs 0 0 (xZ below L g A s args σ' none 0 0) (F0 m 6 ls []) := by
  have hx := C0.1
  have hb := C0.2.1
  have hst := C0.2.2.2.2.2.2.2.2.2.2
  intro n
  induction n with
  | zero => intro σ x1 x2 H locs ls hG hl hF; cases hF
  | succ n ih =>
    intro σ x1 x2 H locs ls hG hl hF
    unfold fX_goCounts_b6 at hF
    refine lv_iload_n hx hb dX0_goCounts_6 rfl (lv_at hl 2 rfl) ?_
    refine lv_iload_n hx hb dX0_goCounts_7 rfl (lv_at hl 1 rfl) ?_
    refine lv_icmp_ge (tgt := 30) hx hb dX0_goCounts_8 (by decide) (fun c_4 => ?_) (fun c_4 => ?_)
    · have hF := ifp hF c_4
      exact x_vret C0 hG ⟨by omega, by omega⟩ dX0_goCounts_30 hF
    · have hF := ifn hF c_4
      refine lv_iload_n hx hb dX0_goCounts_11 rfl (lv_at hl 2 rfl) ?_
      refine lv_aload_n hx hb dX0_goCounts_12 rfl (lv_at hl 0 rfl) ?_
      refine x_geti C0 hG 15 (by decide) rfl q191 dX0_goCounts_13 hF (fun x_5 hF => ?_)
      refine lv_icmp_ge (tgt := 30) hx hb dX0_goCounts_16 (by decide) (fun c_6 => ?_) (fun c_6 => ?_)
      · have hF := ifp hF c_6
        exact x_vret C0 hG ⟨by omega, by omega⟩ dX0_goCounts_30 hF
      · have hF := ifn hF c_6
        refine lv_aload_n hx hb dX0_goCounts_19 rfl (lv_at hl 0 rfl) ?_
        refine lv_iload_n hx hb dX0_goCounts_20 rfl (lv_at hl 2 rfl) ?_
        obtain ⟨σ_7, r_8, e_9, hF⟩ := obi_of hF
        refine x_cVv0 (As := [.int x2]) (rest := []) C0 hG (mtX_goCount l hst e_9) (lw_V q878 q880 qs25 q100 q881) yd_X0_goCount (x_rc0 C0 hG) ⟨by omega, by omega⟩ ⟨by omega, by omega⟩ rfl rfl hl.1 (Nat.le_of_ble_eq_true rfl) dX0_goCounts_21 (fun H locs hG => ?_)
        refine w_iinc hx hb dX0_goCounts_24 hl 2 rfl (v := 1) (by decide) (by decide) hF (fun x_10 ls hl hF => ?_)
        have hl : lv_has ls 3 [(2, .int x_10), (0, .ref L.1), (1, .int x1)] := hl
        refine lv_goto (tgt := 6) hx hb dX0_goCounts_27 (by decide) ?_
        exact ih _ _ _ H locs ls hG (lv_sub hl [1, 2, 0] rfl) hF
theorem bX_goCounts_e {N : Nat} (C0 : xCx p l s m args meth c RX0 cX0_goCounts 3 none L A) (hRo : 3 ≤ R.frames ∧ 65 ≤ R.locals) {σ' : xS} {r : Unit} (σ : xS) (a0 : Int32) (H : Heap) (locs : List Loc) (ls : Array Slot) (hG : xG A L g s σ H locs) (hl : lv_has ls 3 [(0, .ref L.1), (1, .int a0)]) (hF : fX_goCounts N σ a0 = some (σ', r)) : W p l e R s m args below meth c H locs 0 0 (xZ below L g A s args σ' none 0 0) (F0 m 0 ls []) := by
  have hx := C0.1
  have hb := C0.2.1
  have hst := C0.2.2.2.2.2.2.2.2.2.2
  unfold fX_goCounts at hF
  refine lv_aload_n hx hb dX0_goCounts_0 rfl (lv_at hl 0 rfl) ?_
  obtain ⟨σ_1, r_2, e_3, hF⟩ := obi_of hF
  refine x_cVv0 (As := []) (rest := []) C0 hG (mtX_begin l hst e_3) (lw_V q874 q876 qs24 q100 q877) yd_X0_begin (x_rc0 C0 hG) ⟨by omega, by omega⟩ ⟨by omega, by omega⟩ rfl rfl hl.1 (Nat.le_of_ble_eq_true rfl) dX0_goCounts_1 (fun H locs hG => ?_)
  refine lv_iconst (v := 0) hx hb dX0_goCounts_4 (by decide) ?_
  refine lv_istore_n (lv' := [(2, .int 0), (0, .ref L.1), (1, .int a0)]) hx hb dX0_goCounts_5 rfl hl (by decide) rfl (fun ls hl => ?_)
  exact bX_goCounts_6 C0 hRo N _ _ _ H locs ls hG (lv_sub hl [1, 2, 0] rfl) hF
theorem mtX_goCounts (l : Launch) (hst : l.stackTraces = false) {N : Nat} {L : xL} {g : xg} {σ σ' : xS} {r : Unit} {a0 : Int32} (hF : fX_goCounts N σ a0 = some (σ', r)) : xMet l yX0_goCounts cX0_goCounts 3 none (3) (65) 0 0 [.ref L.1, .int a0] L g σ none σ' := by
  refine x_head hst (by decide) rfl ?_
  intro p e s m below meth c A C0 hG
  have hl := lv_entry ([.ref L.1, .int a0]) (n := 3) (Nat.le_of_ble_eq_true rfl)
  rw [lg_entry_eq]
  generalize (lg_sl ([.ref L.1, .int a0]) ++ List.replicate (3 - (lg_sl ([.ref L.1, .int a0])).length) Slot.unset).toArray = ls at hl ⊢
  have hl : lv_has ls 3 [(0, .ref L.1), (1, .int a0)] := hl
  exact bX_goCounts_e C0 ⟨Nat.le_refl _, Nat.le_refl _⟩ _ _ _ [] ls hG hl hF
def fX_isBelow (N : Nat) (σ : xS) (a0 : Int32) : Option (xS × Int32) :=
  if a0 = 1 then (
    chb 1 (some (σ, 1)))
  else (
    if a0 = 2 then (
      chb 1 (some (σ, 1)))
    else (
      chb 0 (some (σ, 0))))
theorem bX_isBelow_e {N : Nat} (C0 : xCx p l s m args meth c RX0 cX0_isBelow 1 (some .boolean) L A) (hRo : 0 ≤ R.frames ∧ 0 ≤ R.locals) {σ' : xS} {r : Int32} (σ : xS) (a0 : Int32) (H : Heap) (locs : List Loc) (ls : Array Slot) (hG : xG A L g s σ H locs) (hl : lv_has ls 1 [(0, .int a0)]) (hF : fX_isBelow N σ a0 = some (σ', r)) : W p l e R s m args below meth c H locs 0 0 (xZ below L g A s args σ' (some (.int r)) 0 0) (F0 m 0 ls []) := by
  have hx := C0.1
  have hb := C0.2.1
  have hst := C0.2.2.2.2.2.2.2.2.2.2
  unfold fX_isBelow at hF
  refine lv_iload_n hx hb dX0_isBelow_0 rfl (lv_at hl 0 rfl) ?_
  refine lv_iconst (v := 1) hx hb dX0_isBelow_1 (by decide) ?_
  refine lv_icmp_eq (tgt := 10) hx hb dX0_isBelow_2 (by decide) (fun c_1 => ?_) (fun c_1 => ?_)
  · have hF := ifp hF c_1
    refine lv_iconst (v := 1) hx hb dX0_isBelow_10 (by decide) ?_
    refine lv_goto (tgt := 15) hx hb dX0_isBelow_11 (by decide) ?_
    exact x_zret C0 hG ⟨by omega, by omega⟩ dX0_isBelow_15 hF
  · have hF := ifn hF c_1
    refine lv_iload_n hx hb dX0_isBelow_5 rfl (lv_at hl 0 rfl) ?_
    refine lv_iconst (v := 2) hx hb dX0_isBelow_6 (by decide) ?_
    refine lv_icmp_ne (tgt := 14) hx hb dX0_isBelow_7 (by decide) (fun c_2 => ?_) (fun c_2 => ?_)
    · have hF := ifn hF c_2
      refine lv_iconst (v := 0) hx hb dX0_isBelow_14 (by decide) ?_
      exact x_zret C0 hG ⟨by omega, by omega⟩ dX0_isBelow_15 hF
    · have hF := ifp hF c_2
      refine lv_iconst (v := 1) hx hb dX0_isBelow_10 (by decide) ?_
      refine lv_goto (tgt := 15) hx hb dX0_isBelow_11 (by decide) ?_
      exact x_zret C0 hG ⟨by omega, by omega⟩ dX0_isBelow_15 hF
theorem mtX_isBelow (l : Launch) (hst : l.stackTraces = false) {N : Nat} {L : xL} {g : xg} {σ σ' : xS} {r : Int32} {a0 : Int32} (hF : fX_isBelow N σ a0 = some (σ', r)) : xMet l yX0_isBelow cX0_isBelow 1 (some .boolean) (0) (0) 0 0 [.int a0] L g σ (some (.int r)) σ' := by
  refine x_head hst (by decide) rfl ?_
  intro p e s m below meth c A C0 hG
  have hl := lv_entry ([.int a0]) (n := 1) (Nat.le_of_ble_eq_true rfl)
  rw [lg_entry_eq]
  generalize (lg_sl ([.int a0]) ++ List.replicate (1 - (lg_sl ([.int a0])).length) Slot.unset).toArray = ls at hl ⊢
  have hl : lv_has ls 1 [(0, .int a0)] := hl
  exact bX_isBelow_e C0 ⟨Nat.le_refl _, Nat.le_refl _⟩ _ _ _ [] ls hG hl hF
end XWALK2
