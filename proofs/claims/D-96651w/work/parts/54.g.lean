theorem yd_X0_addOne : (yX0_addOne).cls = RX0 ∧ (yX0_addOne).cls ≠ "java/lang/invoke/MethodHandle" ∧ (yX0_addOne).cls ≠ "java/lang/invoke/VarHandle" ∧ (parseMethodDescriptor (yX0_addOne).desc).map (fun d => d.parameters.length) = some 3 := by decide +kernel
theorem yd_X0_swimmer : (yX0_swimmer).cls = RX0 ∧ (yX0_swimmer).cls ≠ "java/lang/invoke/MethodHandle" ∧ (yX0_swimmer).cls ≠ "java/lang/invoke/VarHandle" ∧ (parseMethodDescriptor (yX0_swimmer).desc).map (fun d => d.parameters.length) = some 2 := by decide +kernel
theorem yd_X0_become : (yX0_become).cls = RX0 ∧ (yX0_become).cls ≠ "java/lang/invoke/MethodHandle" ∧ (yX0_become).cls ≠ "java/lang/invoke/VarHandle" ∧ (parseMethodDescriptor (yX0_become).desc).map (fun d => d.parameters.length) = some 4 := by decide +kernel
theorem yd_X0_mend : (yX0_mend).cls = RX0 ∧ (yX0_mend).cls ≠ "java/lang/invoke/MethodHandle" ∧ (yX0_mend).cls ≠ "java/lang/invoke/VarHandle" ∧ (parseMethodDescriptor (yX0_mend).desc).map (fun d => d.parameters.length) = some 3 := by decide +kernel
section XGWALK
variable {p : Program} {l : Launch} {e : Env} {R : Room} {s : State} {m : MethodId} {args : Array Value} {below : List Frame} {meth : Method} {c : Code} {A : Nat → Prop}
variable {L : xL} {g : xg}
def fX_addOne (N : Nat) (σ : xS) (a0 : Int32) (a1 : Int32) (a2 : Int32) : Option (xS × Nat) :=
  nmv (xI σ 1) fun x_1 =>
  chk x_1 8 <| ceq x_1.toNatClampNeg (xn σ) <| nmv (xSn σ (swI a0 a1 a2)) fun σ_7 =>
  nmv (xI σ_7 1) fun x_8 =>
  nmv (xSi σ_7 1 (x_8 + 1)) fun σ_9 =>
  nmv (xI σ_9 1) fun x_10 =>
  nmv (x_10 - 1) fun x_11 =>
  chk x_11 8 <| chl x_11.toNatClampNeg (xn σ_9) <| nmv x_11.toNatClampNeg fun u_12 =>
  some (σ_9, u_12)
theorem bX_addOne_e {N : Nat} (C0 : xCx p l s m args meth c RX0 cX0_addOne 4 (some (.object "EightLegs$Swimmer")) L A) (hRo : 2 ≤ R.frames ∧ 43 ≤ R.locals ∧ 1 ≤ R.cells ∧ 8 ≤ R.slots) {σ' : xS} {r : Nat} (σ : xS) (a0 : Int32) (a1 : Int32) (a2 : Int32) (H : Heap) (locs : List Loc) (ls : Array Slot) (cells slots : Nat) (hcs : cells + 1 ≤ 1 ∧ slots + 8 ≤ 8) (hG : xG A L g s σ H locs) (hl : lv_has ls 4 [(0, .ref L.1), (1, .int a0), (2, .int a1), (3, .int a2)]) (hF : fX_addOne N σ a0 a1 a2 = some (σ', r)) : W p l e R s m args below meth c H locs cells slots (xZg below L g A s args σ' (fun g => (some (.ref (g.1 r)))) 1 8) (F0 m 0 ls []) := by
  have hx := C0.1
  have hb := C0.2.1
  have hst := C0.2.2.2.2.2.2.2.2.2.2
  unfold fX_addOne at hF
  refine lv_aload_n hx hb dX0_addOne_0 rfl (lv_at hl 0 rfl) ?_
  refine x_geta C0 hG 0 (by decide) rfl (by decide) q174 dX0_addOne_1 ?_
  refine lv_aload_n hx hb dX0_addOne_4 rfl (lv_at hl 0 rfl) ?_
  refine x_geti C0 hG 1 (by decide) rfl q175 dX0_addOne_5 hF (fun x_1 hF => ?_)
  refine x_new C0 hG in_X3 tyX3 tyX3_ok (C0.2.2.2.2.2.1.1 3 rfl) q152 q323 q103 ⟨by omega, by omega⟩ dX0_addOne_8 (fun q_2 H hG hq_3 hO_4 => ?_)
  refine lv_dup hx hb dX0_addOne_11 rfl ?_
  refine lv_iload_n hx hb dX0_addOne_12 rfl (lv_at hl 1 rfl) ?_
  refine lv_iload_n hx hb dX0_addOne_13 rfl (lv_at hl 2 rfl) ?_
  refine lv_iload_n hx hb dX0_addOne_14 rfl (lv_at hl 3 rfl) ?_
  refine x_ctor (As := [.int a0, .int a1, .int a2]) (rest := [.ref q_2, .int x_1, .ref (L.2.1 0)]) (o := (q_2, RX3, TX3, 8, _, _)) C0 hG hq_3 hO_4 (C0.2.2.2.2.2.1.1 3 rfl) (mtC_X3_X3 l q_2 _ _ _ a0 a1 a2) q326 q103 q324 q325 rfl yd_X3_init ⟨by omega, by omega⟩ ⟨by omega, by omega⟩ rfl rfl hl.1 (Nat.le_of_ble_eq_true rfl) dX0_addOne_15 (fun H locs hG hq_5 hO_6 => ?_)
  refine x_swst C0 hG hq_5 hO_6 (sw_init a0 a1 a2) dX0_addOne_18 hF (fun g σ_7 H locs hG hF => ?_)
  refine lv_aload_n hx hb dX0_addOne_19 rfl (lv_at hl 0 rfl) ?_
  refine lv_dup hx hb dX0_addOne_20 rfl ?_
  refine x_geti C0 hG 1 (by decide) rfl q175 dX0_addOne_21 hF (fun x_8 hF => ?_)
  refine lv_iconst (v := 1) hx hb dX0_addOne_24 (by decide) ?_
  refine lv_iadd hx hb dX0_addOne_25 ?_
  refine x_puti C0 hG 1 (by decide) rfl q175 dX0_addOne_26 (Or.inl (by decide)) hF (fun σ_9 H locs hG hF => ?_)
  refine lv_aload_n hx hb dX0_addOne_29 rfl (lv_at hl 0 rfl) ?_
  refine x_geta C0 hG 0 (by decide) rfl (by decide) q174 dX0_addOne_30 ?_
  refine lv_aload_n hx hb dX0_addOne_33 rfl (lv_at hl 0 rfl) ?_
  refine x_geti C0 hG 1 (by decide) rfl q175 dX0_addOne_34 hF (fun x_10 hF => ?_)
  refine lv_iconst (v := 1) hx hb dX0_addOne_37 (by decide) ?_
  refine lv_isub hx hb dX0_addOne_38 ?_
  refine w_nm hF (fun x_11 hF => ?_)
  refine x_swld C0 hG dX0_addOne_39 hF (fun u_12 hF => ?_)
  exact x_aretsw C0 hG ⟨by omega, by omega⟩ dX0_addOne_40 hF
theorem mtX_addOne (l : Launch) (hst : l.stackTraces = false) {N : Nat} {L : xL} {g : xg} {σ σ' : xS} {r : Nat} {a0 : Int32} {a1 : Int32} {a2 : Int32} (hF : fX_addOne N σ a0 a1 a2 = some (σ', r)) : xMetg l yX0_addOne cX0_addOne 4 (some (.object "EightLegs$Swimmer")) (2) (43) 1 8 [.ref L.1, .int a0, .int a1, .int a2] L g σ (fun g => (some (.ref (g.1 r)))) σ' := by
  refine x_headg hst (by decide) rfl ?_
  intro p e s m below meth c A C0 hG
  have hl := lv_entry ([.ref L.1, .int a0, .int a1, .int a2]) (n := 4) (Nat.le_of_ble_eq_true rfl)
  rw [lg_entry_eq]
  generalize (lg_sl ([.ref L.1, .int a0, .int a1, .int a2]) ++ List.replicate (4 - (lg_sl ([.ref L.1, .int a0, .int a1, .int a2])).length) Slot.unset).toArray = ls at hl ⊢
  have hl : lv_has ls 4 [(0, .ref L.1), (1, .int a0), (2, .int a1), (3, .int a2)] := hl
  exact bX_addOne_e C0 ⟨Nat.le_refl _, Nat.le_refl _, Nat.le_refl _, Nat.le_refl _⟩ _ _ _ _ _ [] ls 0 0 ⟨Nat.le_of_ble_eq_true rfl, Nat.le_of_ble_eq_true rfl⟩ hG hl hF
def fX_swimmer (N : Nat) (σ : xS) (a0 : Int32) (a1 : Int32) : Option (xS × Int32) :=
  if a0 < 0 then (
    some (σ, (-1)))
  else (
    chz 100 <|
    obi (fX_isCell N σ (a0 / 100)) fun σ_3 r_4 =>
    if r_4 = 0 then (
      some (σ_3, (-1)))
    else (
      chz 100 <|
      obi (fX_isCell N σ_3 (a0 - a0 / 100 * 100)) fun σ_8 r_9 =>
      if r_9 = 0 then (
        some (σ_8, (-1)))
      else (
        obi (fX_in N σ_8 a1 1 9) fun σ_12 r_13 =>
        if r_13 = 0 then (
          some (σ_12, (-1)))
        else (
          nmv (xI σ_12 1) fun x_16 =>
          if x_16 = 8 then (
            some (σ_12, (-3)))
          else (
            chz 100 <|
            chz 100 <|
            obi (fX_addOne N σ_12 (a0 - a0 / 100 * 100) (a0 / 100) a1) fun σ_20 r_21 =>
            nmv (xI σ_20 1) fun x_23 =>
            some (σ_20, x_23 - 1))))))
theorem bX_swimmer_e {N : Nat} (C0 : xCx p l s m args meth c RX0 cX0_swimmer 3 (some .int) L A) (hRo : 3 ≤ R.frames ∧ 66 ≤ R.locals ∧ 1 ≤ R.cells ∧ 8 ≤ R.slots) {σ' : xS} {r : Int32} (σ : xS) (a0 : Int32) (a1 : Int32) (H : Heap) (locs : List Loc) (ls : Array Slot) (cells slots : Nat) (hcs : cells + 1 ≤ 1 ∧ slots + 8 ≤ 8) (hG : xG A L g s σ H locs) (hl : lv_has ls 3 [(0, .ref L.1), (1, .int a0), (2, .int a1)]) (hF : fX_swimmer N σ a0 a1 = some (σ', r)) : W p l e R s m args below meth c H locs cells slots (xZg below L g A s args σ' (fun g => (some (.int r))) 1 8) (F0 m 0 ls []) := by
  have hx := C0.1
  have hb := C0.2.1
  have hst := C0.2.2.2.2.2.2.2.2.2.2
  unfold fX_swimmer at hF
  refine lv_iload_n hx hb dX0_swimmer_0 rfl (lv_at hl 1 rfl) ?_
  refine lv_if_lt (tgt := 34) hx hb dX0_swimmer_1 (by decide) (fun c_1 => ?_) (fun c_1 => ?_)
  · have hF := ifp hF c_1
    refine lv_iconst (v := (-1)) hx hb dX0_swimmer_34 (by decide) ?_
    exact x_iretg C0 hG ⟨by omega, by omega⟩ dX0_swimmer_35 hF
  · have hF := ifn hF c_1
    refine lv_iload_n hx hb dX0_swimmer_4 rfl (lv_at hl 1 rfl) ?_
    refine lv_bipush (v := 100) hx hb dX0_swimmer_5 (by decide) ?_
    obtain ⟨h_2, hF⟩ := chz_of hF
    refine lv_idiv hx hb dX0_swimmer_7 h_2 ?_
    obtain ⟨σ_3, r_4, e_5, hF⟩ := obi_of hF
    refine x_cSi0 (As := [.int (a0 / 100)]) (rest := []) C0 hG (mtX_isCell l hst e_5) (lw_S q313 q314 q100 q315) yd_X0_isCell ⟨by omega, by omega⟩ ⟨by omega, by omega⟩ rfl rfl hl.1 (Nat.le_of_ble_eq_true rfl) dX0_swimmer_8 (fun H locs hG => ?_)
    refine lv_if_eq (tgt := 34) hx hb dX0_swimmer_11 (by decide) (fun c_6 => ?_) (fun c_6 => ?_)
    · have hF := ifp hF c_6
      refine lv_iconst (v := (-1)) hx hb dX0_swimmer_34 (by decide) ?_
      exact x_iretg C0 hG ⟨by omega, by omega⟩ dX0_swimmer_35 hF
    · have hF := ifn hF c_6
      refine lv_iload_n hx hb dX0_swimmer_14 rfl (lv_at hl 1 rfl) ?_
      refine lv_bipush (v := 100) hx hb dX0_swimmer_15 (by decide) ?_
      obtain ⟨h_7, hF⟩ := chz_of hF
      refine lv_irem hx hb dX0_swimmer_17 h_7 ?_
      obtain ⟨σ_8, r_9, e_10, hF⟩ := obi_of hF
      refine x_cSi0 (As := [.int (a0 - a0 / 100 * 100)]) (rest := []) C0 hG (mtX_isCell l hst e_10) (lw_S q313 q314 q100 q315) yd_X0_isCell ⟨by omega, by omega⟩ ⟨by omega, by omega⟩ rfl rfl hl.1 (Nat.le_of_ble_eq_true rfl) dX0_swimmer_18 (fun H locs hG => ?_)
      refine lv_if_eq (tgt := 34) hx hb dX0_swimmer_21 (by decide) (fun c_11 => ?_) (fun c_11 => ?_)
      · have hF := ifp hF c_11
        refine lv_iconst (v := (-1)) hx hb dX0_swimmer_34 (by decide) ?_
        exact x_iretg C0 hG ⟨by omega, by omega⟩ dX0_swimmer_35 hF
      · have hF := ifn hF c_11
        refine lv_iload_n hx hb dX0_swimmer_24 rfl (lv_at hl 2 rfl) ?_
        refine lv_iconst (v := 1) hx hb dX0_swimmer_25 (by decide) ?_
        refine lv_bipush (v := 9) hx hb dX0_swimmer_26 (by decide) ?_
        obtain ⟨σ_12, r_13, e_14, hF⟩ := obi_of hF
        refine x_cSi0 (As := [.int a1, .int 1, .int 9]) (rest := []) C0 hG (mtX_in l hst e_14) (lw_S q316 q317 q100 q318) yd_X0_in ⟨by omega, by omega⟩ ⟨by omega, by omega⟩ rfl rfl hl.1 (Nat.le_of_ble_eq_true rfl) dX0_swimmer_28 (fun H locs hG => ?_)
        refine lv_if_ne (tgt := 36) hx hb dX0_swimmer_31 (by decide) (fun c_15 => ?_) (fun c_15 => ?_)
        · have hF := ifn hF c_15
          refine lv_aload_n hx hb dX0_swimmer_36 rfl (lv_at hl 0 rfl) ?_
          refine x_geti C0 hG 1 (by decide) rfl q175 dX0_swimmer_37 hF (fun x_16 hF => ?_)
          refine lv_bipush (v := 8) hx hb dX0_swimmer_40 (by decide) ?_
          refine lv_icmp_ne (tgt := 48) hx hb dX0_swimmer_42 (by decide) (fun c_17 => ?_) (fun c_17 => ?_)
          · have hF := ifn hF c_17
            refine lv_aload_n hx hb dX0_swimmer_48 rfl (lv_at hl 0 rfl) ?_
            refine lv_iload_n hx hb dX0_swimmer_49 rfl (lv_at hl 1 rfl) ?_
            refine lv_bipush (v := 100) hx hb dX0_swimmer_50 (by decide) ?_
            obtain ⟨h_18, hF⟩ := chz_of hF
            refine lv_irem hx hb dX0_swimmer_52 h_18 ?_
            refine lv_iload_n hx hb dX0_swimmer_53 rfl (lv_at hl 1 rfl) ?_
            refine lv_bipush (v := 100) hx hb dX0_swimmer_54 (by decide) ?_
            obtain ⟨h_19, hF⟩ := chz_of hF
            refine lv_idiv hx hb dX0_swimmer_56 h_19 ?_
            refine lv_iload_n hx hb dX0_swimmer_57 rfl (lv_at hl 2 rfl) ?_
            obtain ⟨σ_20, r_21, e_22, hF⟩ := obi_of hF
            refine x_cVgs (As := [.int (a0 - a0 / 100 * 100), .int (a0 / 100), .int a1]) (rest := []) C0 hG (mtX_addOne l hst e_22) (lw_V q319 q321 qs0 q100 q322) yd_X0_addOne (x_rc0 C0 hG) ⟨by omega, by omega⟩ ⟨by omega, by omega⟩ rfl rfl hl.1 (Nat.le_of_ble_eq_true rfl) dX0_swimmer_58 (fun g H locs hG => ?_)
            refine lv_pop hx hb dX0_swimmer_61 rfl ?_
            refine lv_aload_n hx hb dX0_swimmer_62 rfl (lv_at hl 0 rfl) ?_
            refine x_geti C0 hG 1 (by decide) rfl q175 dX0_swimmer_63 hF (fun x_23 hF => ?_)
            refine lv_iconst (v := 1) hx hb dX0_swimmer_66 (by decide) ?_
            refine lv_isub hx hb dX0_swimmer_67 ?_
            exact x_iretg C0 hG ⟨by omega, by omega⟩ dX0_swimmer_68 hF
          · have hF := ifp hF c_17
            refine lv_bipush (v := (-3)) hx hb dX0_swimmer_45 (by decide) ?_
            exact x_iretg C0 hG ⟨by omega, by omega⟩ dX0_swimmer_47 hF
        · have hF := ifp hF c_15
          refine lv_iconst (v := (-1)) hx hb dX0_swimmer_34 (by decide) ?_
          exact x_iretg C0 hG ⟨by omega, by omega⟩ dX0_swimmer_35 hF
theorem mtX_swimmer (l : Launch) (hst : l.stackTraces = false) {N : Nat} {L : xL} {g : xg} {σ σ' : xS} {r : Int32} {a0 : Int32} {a1 : Int32} (hF : fX_swimmer N σ a0 a1 = some (σ', r)) : xMetg l yX0_swimmer cX0_swimmer 3 (some .int) (3) (66) 1 8 [.ref L.1, .int a0, .int a1] L g σ (fun g => (some (.int r))) σ' := by
  refine x_headg hst (by decide) rfl ?_
  intro p e s m below meth c A C0 hG
  have hl := lv_entry ([.ref L.1, .int a0, .int a1]) (n := 3) (Nat.le_of_ble_eq_true rfl)
  rw [lg_entry_eq]
  generalize (lg_sl ([.ref L.1, .int a0, .int a1]) ++ List.replicate (3 - (lg_sl ([.ref L.1, .int a0, .int a1])).length) Slot.unset).toArray = ls at hl ⊢
  have hl : lv_has ls 3 [(0, .ref L.1), (1, .int a0), (2, .int a1)] := hl
  exact bX_swimmer_e C0 ⟨Nat.le_refl _, Nat.le_refl _, Nat.le_refl _, Nat.le_refl _⟩ _ _ _ _ [] ls 0 0 ⟨Nat.le_of_ble_eq_true rfl, Nat.le_of_ble_eq_true rfl⟩ hG hl hF
def fX_become_b64 (N : Nat) (σ : xS) (x1 : Int32) (x2 : Int32) (x3 : Int32) (x4 : Int32) : Option (xS × Int32) :=
  nmv (xI σ 6) fun x_5 =>
  chk x_5 40 <| cle x_5.toNatClampNeg (xm σ) <| nmv (xSc σ x_5.toNatClampNeg (chI x1 x2 x3 x4)) fun σ_11 =>
  nmv (xI σ_11 6) fun x_12 =>
  nmv (xSi σ_11 6 (x_12 + 1)) fun σ_13 =>
  obi (fX_setTo N σ_13 x1 x2 x4) fun σ_14 r_15 =>
  some (σ_14, x3)
def fX_become_b25 (N : Nat) : Nat → xS → Int32 → Int32 → Int32 → Int32 → Int32 → Option (xS × Int32)
  | 0, _, _, _, _, _, _ => none
  | n + 1, σ, x1, x2, x3, x4, x5 =>
    if 40 ≤ x5 then (
      nmv (xI σ 6) fun x_18 =>
      nmv (xSi σ 6 (x_18 - 1)) fun σ_19 =>
      fX_become_b64 N σ_19 x1 x2 x3 x4)
    else (
      chk x5 40 <| chl x5.toNatClampNeg (xm σ) <| nmv x5.toNatClampNeg fun u_20 =>
      chl u_20 (xm σ) <| chk (x5 - 1) 40 <| cle (x5 - 1).toNatClampNeg (xm σ) <| nmv (xSc σ (x5 - 1).toNatClampNeg (xC σ u_20)) fun σ_21 =>
      nmv (x5 + 1) fun x_22 =>
      (fX_become_b25 N n) σ_21 x1 x2 x3 x4 x_22)
def fX_become (N : Nat) (σ : xS) (a0 : Int32) (a1 : Int32) (a2 : Int32) (a3 : Int32) : Option (xS × Int32) :=
  if a2 = a3 then (
    some (σ, a2))
  else (
    nmv (xSi σ 7 0) fun σ_2 =>
    nmv (xI σ_2 6) fun x_3 =>
    if x_3 = 40 then (
      fX_become_b25 N N σ_2 a0 a1 a2 a3 1)
    else (
      fX_become_b64 N σ_2 a0 a1 a2 a3))
theorem bX_become_64 {N : Nat} (C0 : xCx p l s m args meth c RX0 cX0_become 6 (some .int) L A) (hRo : 2 ≤ R.frames ∧ 44 ≤ R.locals ∧ 1 ≤ R.cells ∧ 4 ≤ R.slots) {σ' : xS} {r : Int32} (σ : xS) (x1 : Int32) (x2 : Int32) (x3 : Int32) (x4 : Int32) (g : xg) (H : Heap) (locs : List Loc) (ls : Array Slot) (cells slots : Nat) (hcs : cells + 1 ≤ 1 ∧ slots + 4 ≤ 4) (hG : xG A L g s σ H locs) (hl : lv_has ls 6 [(0, .ref L.1), (1, .int x1), (2, .int x2), (3, .int x3), (4, .int x4)]) (hF : fX_become_b64 N σ x1 x2 x3 x4 = some (σ', r)) : W p l e R s m args below meth c H locs cells slots (xZg below L g A s args σ' (fun g => (some (.int r))) 1 4) (F0 m 64 ls []) := by
  have hx := C0.1
  have hb := C0.2.1
  have hst := C0.2.2.2.2.2.2.2.2.2.2
  unfold fX_become_b64 at hF
  refine lv_aload_n hx hb dX0_become_64 rfl (lv_at hl 0 rfl) ?_
  refine x_geta C0 hG 5 (by decide) rfl (by decide) q179 dX0_become_65 ?_
  refine lv_aload_n hx hb dX0_become_68 rfl (lv_at hl 0 rfl) ?_
  refine x_geti C0 hG 6 (by decide) rfl q180 dX0_become_69 hF (fun x_5 hF => ?_)
  refine x_new C0 hG in_X4 tyX4 tyX4_ok (C0.2.2.2.2.2.1.1 4 rfl) q154 q532 q112 ⟨by omega, by omega⟩ dX0_become_72 (fun q_6 H hG hq_7 hO_8 => ?_)
  refine lv_dup hx hb dX0_become_75 rfl ?_
  refine lv_iload_n hx hb dX0_become_76 rfl (lv_at hl 1 rfl) ?_
  refine lv_iload_n hx hb dX0_become_77 rfl (lv_at hl 2 rfl) ?_
  refine lv_iload_n hx hb dX0_become_78 rfl (lv_at hl 3 rfl) ?_
  refine lv_iload hx hb dX0_become_79 (lv_at hl 4 rfl) ?_
  refine x_ctor (As := [.int x1, .int x2, .int x3, .int x4]) (rest := [.ref q_6, .int x_5, .ref (L.2.1 5)]) (o := (q_6, RX4, TX4, 4, _, _)) C0 hG hq_7 hO_8 (C0.2.2.2.2.2.1.1 4 rfl) (mtC_X4_X4 l q_6 _ _ _ x1 x2 x3 x4) q535 q112 q533 q534 rfl yd_X4_init ⟨by omega, by omega⟩ ⟨by omega, by omega⟩ rfl rfl hl.1 (Nat.le_of_ble_eq_true rfl) dX0_become_81 (fun H locs hG hq_9 hO_10 => ?_)
  refine x_chst C0 hG ⟨Or.inl hq_9.1, hq_9.2.1, hq_9.2.2.1⟩ hO_10 (ch_init x1 x2 x3 x4) dX0_become_84 hF (fun g σ_11 H locs hG hF => ?_)
  refine lv_aload_n hx hb dX0_become_85 rfl (lv_at hl 0 rfl) ?_
  refine lv_dup hx hb dX0_become_86 rfl ?_
  refine x_geti C0 hG 6 (by decide) rfl q180 dX0_become_87 hF (fun x_12 hF => ?_)
  refine lv_iconst (v := 1) hx hb dX0_become_90 (by decide) ?_
  refine lv_iadd hx hb dX0_become_91 ?_
  refine x_puti C0 hG 6 (by decide) rfl q180 dX0_become_92 (Or.inl (by decide)) hF (fun σ_13 H locs hG hF => ?_)
  refine lv_aload_n hx hb dX0_become_95 rfl (lv_at hl 0 rfl) ?_
  refine lv_iload_n hx hb dX0_become_96 rfl (lv_at hl 1 rfl) ?_
  refine lv_iload_n hx hb dX0_become_97 rfl (lv_at hl 2 rfl) ?_
  refine lv_iload hx hb dX0_become_98 (lv_at hl 4 rfl) ?_
  obtain ⟨σ_14, r_15, e_16, hF⟩ := obi_of hF
  refine x_cVv0 (As := [.int x1, .int x2, .int x4]) (rest := []) C0 hG (mtX_setTo l hst e_16) (lw_V q501 q503 qs3 q100 q504) yd_X0_setTo (x_rc0 C0 hG) ⟨by omega, by omega⟩ ⟨by omega, by omega⟩ rfl rfl hl.1 (Nat.le_of_ble_eq_true rfl) dX0_become_100 (fun H locs hG => ?_)
  refine lv_iload_n hx hb dX0_become_103 rfl (lv_at hl 3 rfl) ?_
  exact x_iretg C0 hG ⟨by omega, by omega⟩ dX0_become_104 hF
theorem bX_become_25 {N : Nat} (C0 : xCx p l s m args meth c RX0 cX0_become 6 (some .int) L A) (hRo : 2 ≤ R.frames ∧ 44 ≤ R.locals ∧ 1 ≤ R.cells ∧ 4 ≤ R.slots) {σ' : xS} {r : Int32} : ∀ (n : Nat) (σ : xS) (x1 : Int32) (x2 : Int32) (x3 : Int32) (x4 : Int32) (x5 : Int32) (g : xg) (H : Heap) (locs : List Loc) (ls : Array Slot) (cells slots : Nat), cells + 1 ≤ 1 ∧ slots + 4 ≤ 4 →  xG A L g s σ H locs → lv_has ls 6 [(0, .ref L.1), (1, .int x1), (2, .int x2), (3, .int x3), (4, .int x4), (5, .int x5)] → fX_become_b25 N n σ x1 x2 x3 x4 x5 = some (σ', r) → W p l e R s m args below meth c H locs cells slots (xZg below L g A s args σ' (fun g => (some (.int r))) 1 4) (F0 m 25 ls []) := by
  have hx := C0.1
  have hb := C0.2.1
  have hst := C0.2.2.2.2.2.2.2.2.2.2
  intro n
  induction n with
  | zero => intro σ x1 x2 x3 x4 x5 g H locs ls cells slots hcs hG hl hF; cases hF
  | succ n ih =>
    intro σ x1 x2 x3 x4 x5 g H locs ls cells slots hcs hG hl hF
    unfold fX_become_b25 at hF
    refine lv_iload hx hb dX0_become_25 (lv_at hl 5 rfl) ?_
    refine lv_bipush (v := 40) hx hb dX0_become_27 (by decide) ?_
    refine lv_icmp_ge (tgt := 54) hx hb dX0_become_29 (by decide) (fun c_17 => ?_) (fun c_17 => ?_)
    · have hF := ifp hF c_17
      refine lv_aload_n hx hb dX0_become_54 rfl (lv_at hl 0 rfl) ?_
      refine lv_dup hx hb dX0_become_55 rfl ?_
      refine x_geti C0 hG 6 (by decide) rfl q180 dX0_become_56 hF (fun x_18 hF => ?_)
      refine lv_iconst (v := 1) hx hb dX0_become_59 (by decide) ?_
      refine lv_isub hx hb dX0_become_60 ?_
      refine x_puti C0 hG 6 (by decide) rfl q180 dX0_become_61 (Or.inl (by decide)) hF (fun σ_19 H locs hG hF => ?_)
      exact bX_become_64 C0 hRo _ _ _ _ _ g H locs ls _ _ ⟨by omega, by omega⟩ hG (lv_sub hl [0, 1, 2, 3, 4] rfl) hF
    · have hF := ifn hF c_17
      refine lv_aload_n hx hb dX0_become_32 rfl (lv_at hl 0 rfl) ?_
      refine x_geta C0 hG 5 (by decide) rfl (by decide) q179 dX0_become_33 ?_
      refine lv_iload hx hb dX0_become_36 (lv_at hl 5 rfl) ?_
      refine lv_iconst (v := 1) hx hb dX0_become_38 (by decide) ?_
      refine lv_isub hx hb dX0_become_39 ?_
      refine lv_aload_n hx hb dX0_become_40 rfl (lv_at hl 0 rfl) ?_
      refine x_geta C0 hG 5 (by decide) rfl (by decide) q179 dX0_become_41 ?_
      refine lv_iload hx hb dX0_become_44 (lv_at hl 5 rfl) ?_
      refine x_chld C0 hG dX0_become_46 hF (fun u_20 hF => ?_)
      refine x_chmv C0 hG dX0_become_47 hF (fun g σ_21 H locs hG hF => ?_)
      refine w_iinc hx hb dX0_become_48 hl 5 rfl (v := 1) (by decide) (by decide) hF (fun x_22 ls hl hF => ?_)
      have hl : lv_has ls 6 [(5, .int x_22), (0, .ref L.1), (1, .int x1), (2, .int x2), (3, .int x3), (4, .int x4)] := hl
      refine lv_goto (tgt := 25) hx hb dX0_become_51 (by decide) ?_
      exact ih _ _ _ _ _ _ g H locs ls _ _ ⟨by omega, by omega⟩ hG (lv_sub hl [1, 2, 3, 4, 5, 0] rfl) hF
theorem bX_become_e {N : Nat} (C0 : xCx p l s m args meth c RX0 cX0_become 6 (some .int) L A) (hRo : 2 ≤ R.frames ∧ 44 ≤ R.locals ∧ 1 ≤ R.cells ∧ 4 ≤ R.slots) {σ' : xS} {r : Int32} (σ : xS) (a0 : Int32) (a1 : Int32) (a2 : Int32) (a3 : Int32) (H : Heap) (locs : List Loc) (ls : Array Slot) (cells slots : Nat) (hcs : cells + 1 ≤ 1 ∧ slots + 4 ≤ 4) (hG : xG A L g s σ H locs) (hl : lv_has ls 6 [(0, .ref L.1), (1, .int a0), (2, .int a1), (3, .int a2), (4, .int a3)]) (hF : fX_become N σ a0 a1 a2 a3 = some (σ', r)) : W p l e R s m args below meth c H locs cells slots (xZg below L g A s args σ' (fun g => (some (.int r))) 1 4) (F0 m 0 ls []) := by
  have hx := C0.1
  have hb := C0.2.1
  have hst := C0.2.2.2.2.2.2.2.2.2.2
  unfold fX_become at hF
  refine lv_iload_n hx hb dX0_become_0 rfl (lv_at hl 3 rfl) ?_
  refine lv_iload hx hb dX0_become_1 (lv_at hl 4 rfl) ?_
  refine lv_icmp_ne (tgt := 8) hx hb dX0_become_3 (by decide) (fun c_1 => ?_) (fun c_1 => ?_)
  · have hF := ifn hF c_1
    refine lv_aload_n hx hb dX0_become_8 rfl (lv_at hl 0 rfl) ?_
    refine lv_iconst (v := 0) hx hb dX0_become_9 (by decide) ?_
    refine x_puti C0 hG 7 (by decide) rfl q181 dX0_become_10 (Or.inl (by decide)) hF (fun σ_2 H locs hG hF => ?_)
    refine lv_aload_n hx hb dX0_become_13 rfl (lv_at hl 0 rfl) ?_
    refine x_geti C0 hG 6 (by decide) rfl q180 dX0_become_14 hF (fun x_3 hF => ?_)
    refine lv_bipush (v := 40) hx hb dX0_become_17 (by decide) ?_
    refine lv_icmp_ne (tgt := 64) hx hb dX0_become_19 (by decide) (fun c_4 => ?_) (fun c_4 => ?_)
    · have hF := ifn hF c_4
      exact bX_become_64 C0 hRo _ _ _ _ _ g H locs ls _ _ ⟨by omega, by omega⟩ hG (lv_sub hl [0, 1, 2, 3, 4] rfl) hF
    · have hF := ifp hF c_4
      refine lv_iconst (v := 1) hx hb dX0_become_22 (by decide) ?_
      refine lv_istore (lv' := [(5, .int 1), (0, .ref L.1), (1, .int a0), (2, .int a1), (3, .int a2), (4, .int a3)]) hx hb dX0_become_23 hl (by decide) rfl (fun ls hl => ?_)
      exact bX_become_25 C0 hRo N _ _ _ _ _ _ g H locs ls _ _ ⟨by omega, by omega⟩ hG (lv_sub hl [1, 2, 3, 4, 5, 0] rfl) hF
  · have hF := ifp hF c_1
    refine lv_iload_n hx hb dX0_become_6 rfl (lv_at hl 3 rfl) ?_
    exact x_iretg C0 hG ⟨by omega, by omega⟩ dX0_become_7 hF
theorem mtX_become (l : Launch) (hst : l.stackTraces = false) {N : Nat} {L : xL} {g : xg} {σ σ' : xS} {r : Int32} {a0 : Int32} {a1 : Int32} {a2 : Int32} {a3 : Int32} (hF : fX_become N σ a0 a1 a2 a3 = some (σ', r)) : xMetg l yX0_become cX0_become 6 (some .int) (2) (44) 1 4 [.ref L.1, .int a0, .int a1, .int a2, .int a3] L g σ (fun g => (some (.int r))) σ' := by
  refine x_headg hst (by decide) rfl ?_
  intro p e s m below meth c A C0 hG
  have hl := lv_entry ([.ref L.1, .int a0, .int a1, .int a2, .int a3]) (n := 6) (Nat.le_of_ble_eq_true rfl)
  rw [lg_entry_eq]
  generalize (lg_sl ([.ref L.1, .int a0, .int a1, .int a2, .int a3]) ++ List.replicate (6 - (lg_sl ([.ref L.1, .int a0, .int a1, .int a2, .int a3])).length) Slot.unset).toArray = ls at hl ⊢
  have hl : lv_has ls 6 [(0, .ref L.1), (1, .int a0), (2, .int a1), (3, .int a2), (4, .int a3)] := hl
  exact bX_become_e C0 ⟨Nat.le_refl _, Nat.le_refl _, Nat.le_refl _, Nat.le_refl _⟩ _ _ _ _ _ _ [] ls 0 0 ⟨Nat.le_of_ble_eq_true rfl, Nat.le_of_ble_eq_true rfl⟩ hG hl hF
def fX_mend (N : Nat) (σ : xS) (a0 : Int32) (a1 : Int32) (a2 : Int32) : Option (xS × Int32) :=
  obi (fX_isOf N σ a0 a1) fun σ_1 r_2 =>
  if r_2 = 0 then (
    some (σ_1, (-2000000000)))
  else (
    obi (fX_mayBe N σ_1 a1 a2) fun σ_5 r_6 =>
    if r_6 = 0 then (
      some (σ_5, (-2000000000)))
    else (
      obi (fX_valueOf N σ_5 a0 a1) fun σ_9 r_10 =>
      obi (fX_become N σ_9 a1 a0 r_10 a2) fun σ_12 r_13 =>
      some (σ_12, r_13)))
theorem bX_mend_e {N : Nat} (C0 : xCx p l s m args meth c RX0 cX0_mend 4 (some .int) L A) (hRo : 3 ≤ R.frames ∧ 69 ≤ R.locals ∧ 1 ≤ R.cells ∧ 4 ≤ R.slots) {σ' : xS} {r : Int32} (σ : xS) (a0 : Int32) (a1 : Int32) (a2 : Int32) (H : Heap) (locs : List Loc) (ls : Array Slot) (cells slots : Nat) (hcs : cells + 1 ≤ 1 ∧ slots + 4 ≤ 4) (hG : xG A L g s σ H locs) (hl : lv_has ls 4 [(0, .ref L.1), (1, .int a0), (2, .int a1), (3, .int a2)]) (hF : fX_mend N σ a0 a1 a2 = some (σ', r)) : W p l e R s m args below meth c H locs cells slots (xZg below L g A s args σ' (fun g => (some (.int r))) 1 4) (F0 m 0 ls []) := by
  have hx := C0.1
  have hb := C0.2.1
  have hst := C0.2.2.2.2.2.2.2.2.2.2
  unfold fX_mend at hF
  refine lv_aload_n hx hb dX0_mend_0 rfl (lv_at hl 0 rfl) ?_
  refine lv_iload_n hx hb dX0_mend_1 rfl (lv_at hl 1 rfl) ?_
  refine lv_iload_n hx hb dX0_mend_2 rfl (lv_at hl 2 rfl) ?_
  obtain ⟨σ_1, r_2, e_3, hF⟩ := obi_of hF
  refine x_cVi0 (As := [.int a0, .int a1]) (rest := []) C0 hG (mtX_isOf l hst e_3) (lw_V q513 q515 qs4 q100 q516) yd_X0_isOf (x_rc0 C0 hG) ⟨by omega, by omega⟩ ⟨by omega, by omega⟩ rfl rfl hl.1 (Nat.le_of_ble_eq_true rfl) dX0_mend_3 (fun H locs hG => ?_)
  refine lv_if_eq (tgt := 33) hx hb dX0_mend_6 (by decide) (fun c_4 => ?_) (fun c_4 => ?_)
  · have hF := ifp hF c_4
    refine lv_ldc (v := (-2000000000)) hx hb C0.2.2.2.1 (C0.2.2.2.2.1 _ q554) dX0_mend_33 ?_
    exact x_iretg C0 hG ⟨by omega, by omega⟩ dX0_mend_35 hF
  · have hF := ifn hF c_4
    refine lv_iload_n hx hb dX0_mend_9 rfl (lv_at hl 2 rfl) ?_
    refine lv_iload_n hx hb dX0_mend_10 rfl (lv_at hl 3 rfl) ?_
    obtain ⟨σ_5, r_6, e_7, hF⟩ := obi_of hF
    refine x_cSi0 (As := [.int a1, .int a2]) (rest := []) C0 hG (mtX_mayBe l hst e_7) (lw_S q521 q522 q100 q523) yd_X0_mayBe ⟨by omega, by omega⟩ ⟨by omega, by omega⟩ rfl rfl hl.1 (Nat.le_of_ble_eq_true rfl) dX0_mend_11 (fun H locs hG => ?_)
    refine lv_if_eq (tgt := 33) hx hb dX0_mend_14 (by decide) (fun c_8 => ?_) (fun c_8 => ?_)
    · have hF := ifp hF c_8
      refine lv_ldc (v := (-2000000000)) hx hb C0.2.2.2.1 (C0.2.2.2.2.1 _ q554) dX0_mend_33 ?_
      exact x_iretg C0 hG ⟨by omega, by omega⟩ dX0_mend_35 hF
    · have hF := ifn hF c_8
      refine lv_aload_n hx hb dX0_mend_17 rfl (lv_at hl 0 rfl) ?_
      refine lv_iload_n hx hb dX0_mend_18 rfl (lv_at hl 2 rfl) ?_
      refine lv_iload_n hx hb dX0_mend_19 rfl (lv_at hl 1 rfl) ?_
      refine lv_aload_n hx hb dX0_mend_20 rfl (lv_at hl 0 rfl) ?_
      refine lv_iload_n hx hb dX0_mend_21 rfl (lv_at hl 1 rfl) ?_
      refine lv_iload_n hx hb dX0_mend_22 rfl (lv_at hl 2 rfl) ?_
      obtain ⟨σ_9, r_10, e_11, hF⟩ := obi_of hF
      refine x_cVi0 (As := [.int a0, .int a1]) (rest := [.int a0, .int a1, .ref L.1]) C0 hG (mtX_valueOf l hst e_11) (lw_V q524 q526 qs6 q100 q527) yd_X0_valueOf (x_rc0 C0 hG) ⟨by omega, by omega⟩ ⟨by omega, by omega⟩ rfl rfl hl.1 (Nat.le_of_ble_eq_true rfl) dX0_mend_23 (fun H locs hG => ?_)
      refine lv_iload_n hx hb dX0_mend_26 rfl (lv_at hl 3 rfl) ?_
      obtain ⟨σ_12, r_13, e_14, hF⟩ := obi_of hF
      refine x_cVgi (As := [.int a1, .int a0, .int r_10, .int a2]) (rest := []) C0 hG (mtX_become l hst e_14) (lw_V q528 q530 qs7 q100 q531) yd_X0_become (x_rc0 C0 hG) ⟨by omega, by omega⟩ ⟨by omega, by omega⟩ rfl rfl hl.1 (Nat.le_of_ble_eq_true rfl) dX0_mend_27 (fun g H locs hG => ?_)
      refine lv_goto (tgt := 35) hx hb dX0_mend_30 (by decide) ?_
      exact x_iretg C0 hG ⟨by omega, by omega⟩ dX0_mend_35 hF
theorem mtX_mend (l : Launch) (hst : l.stackTraces = false) {N : Nat} {L : xL} {g : xg} {σ σ' : xS} {r : Int32} {a0 : Int32} {a1 : Int32} {a2 : Int32} (hF : fX_mend N σ a0 a1 a2 = some (σ', r)) : xMetg l yX0_mend cX0_mend 4 (some .int) (3) (69) 1 4 [.ref L.1, .int a0, .int a1, .int a2] L g σ (fun g => (some (.int r))) σ' := by
  refine x_headg hst (by decide) rfl ?_
  intro p e s m below meth c A C0 hG
  have hl := lv_entry ([.ref L.1, .int a0, .int a1, .int a2]) (n := 4) (Nat.le_of_ble_eq_true rfl)
  rw [lg_entry_eq]
  generalize (lg_sl ([.ref L.1, .int a0, .int a1, .int a2]) ++ List.replicate (4 - (lg_sl ([.ref L.1, .int a0, .int a1, .int a2])).length) Slot.unset).toArray = ls at hl ⊢
  have hl : lv_has ls 4 [(0, .ref L.1), (1, .int a0), (2, .int a1), (3, .int a2)] := hl
  exact bX_mend_e C0 ⟨Nat.le_refl _, Nat.le_refl _, Nat.le_refl _, Nat.le_refl _⟩ _ _ _ _ _ [] ls 0 0 ⟨Nat.le_of_ble_eq_true rfl, Nat.le_of_ble_eq_true rfl⟩ hG hl hF
end XGWALK
