section XWALK5
variable {p : Program} {l : Launch} {e : Env} {R : Room} {s : State} {m : MethodId} {args : Array Value} {below : List Frame} {meth : Method} {c : Code} {A : Nat → Prop}
variable {L : xL} {g : xg}
def fX_isMirrored_b14 (N : Nat) (k2 : xS → Int32 → Option (xS × Int32)) : Nat → xS → Int32 → Int32 → Int32 → Option (xS × Int32)
  | 0, _, _, _, _ => none
  | n + 1, σ, x1, x2, x3 =>
    nmv (xI σ 1) fun x_3 =>
    if x_3 ≤ x3 then (
      if x2 = 0 then (
        chb 0 (some (σ, 0)))
      else (
        nmv (x1 + 1) fun x_6 =>
        k2 σ x_6))
    else (
      chk x3 8 <| chl x3.toNatClampNeg (xn σ) <| nmv x3.toNatClampNeg fun u_7 =>
      chk x1 8 <| chl x1.toNatClampNeg (xn σ) <| nmv x1.toNatClampNeg fun u_8 =>
      chl u_8 (xn σ) <| nmv (xE σ u_8 0) fun x_9 =>
      chk x1 8 <| chl x1.toNatClampNeg (xn σ) <| nmv x1.toNatClampNeg fun u_10 =>
      chl u_10 (xn σ) <| nmv (xE σ u_10 1) fun x_11 =>
      chl u_7 (xn σ) <|
      obi (fX_Swimmer_isOn N σ u_7 ((15 : Int32) - x_9) x_11) fun σ_12 r_13 =>
      nmv (x2 ||| r_13) fun x_16 =>
      nmv (x3 + 1) fun x_17 =>
      (fX_isMirrored_b14 N k2 n) σ_12 x1 x_16 x_17)
def fX_isMirrored_b2 (N : Nat) : Nat → xS → Int32 → Option (xS × Int32)
  | 0, _, _ => none
  | n + 1, σ, x1 =>
    nmv (xI σ 1) fun x_1 =>
    if x_1 ≤ x1 then (
      chb 1 (some (σ, 1)))
    else (
      fX_isMirrored_b14 N (fX_isMirrored_b2 N n) N σ x1 0 0)
def fX_isMirrored (N : Nat) (σ : xS) : Option (xS × Int32) :=
  fX_isMirrored_b2 N N σ 0
theorem bX_isMirrored_14 {N : Nat} (C0 : xCx p l s m args meth c RX0 cX0_isMirrored 4 (some .boolean) L A) (hRo : 1 ≤ R.frames ∧ 22 ≤ R.locals) {σ' : xS} {r : Int32} {k2 : xS → Int32 → Option (xS × Int32)} (hk2 : ∀ (σ : xS) (x1 : Int32) (H : Heap) (locs : List Loc) (ls : Array Slot), xG A L g s σ H locs → lv_has ls 4 [(0, .ref L.1), (1, .int x1)] → k2 σ x1 = some (σ', r) → W p l e R s m args below meth c H locs 0 0 (xZ below L g A s args σ' (some (.int r)) 0 0) (F0 m 2 ls [])) : ∀ (n : Nat) (σ : xS) (x1 : Int32) (x2 : Int32) (x3 : Int32) (H : Heap) (locs : List Loc) (ls : Array Slot), xG A L g s σ H locs → lv_has ls 4 [(0, .ref L.1), (1, .int x1), (2, .int x2), (3, .int x3)] → fX_isMirrored_b14 N k2 n σ x1 x2 x3 = some (σ', r) → W p l e R s m args below meth c H locs 0 0 (xZ below L g A s args σ' (some (.int r)) 0 0) (F0 m 14 ls []) := by
  have hx := C0.1
  have hb := C0.2.1
  have hst := C0.2.2.2.2.2.2.2.2.2.2
  intro n
  induction n with
  | zero => intro σ x1 x2 x3 H locs ls hG hl hF; cases hF
  | succ n ih =>
    intro σ x1 x2 x3 H locs ls hG hl hF
    unfold fX_isMirrored_b14 at hF
    refine lv_iload_n hx hb dX0_isMirrored_14 rfl (lv_at hl 3 rfl) ?_
    refine lv_aload_n hx hb dX0_isMirrored_15 rfl (lv_at hl 0 rfl) ?_
    refine x_geti C0 hG 1 (by decide) rfl q175 dX0_isMirrored_16 hF (fun x_3 hF => ?_)
    refine lv_icmp_ge (tgt := 61) hx hb dX0_isMirrored_19 (by decide) (fun c_4 => ?_) (fun c_4 => ?_)
    · have hF := ifp hF c_4
      refine lv_iload_n hx hb dX0_isMirrored_61 rfl (lv_at hl 2 rfl) ?_
      refine lv_if_ne (tgt := 67) hx hb dX0_isMirrored_62 (by decide) (fun c_5 => ?_) (fun c_5 => ?_)
      · have hF := ifn hF c_5
        refine w_iinc hx hb dX0_isMirrored_67 hl 1 rfl (v := 1) (by decide) (by decide) hF (fun x_6 ls hl hF => ?_)
        have hl : lv_has ls 4 [(1, .int x_6), (0, .ref L.1), (2, .int x2), (3, .int x3)] := hl
        refine lv_goto (tgt := 2) hx hb dX0_isMirrored_70 (by decide) ?_
        exact hk2 _ _ H locs ls hG (lv_sub hl [1, 0] rfl) hF
      · have hF := ifp hF c_5
        refine lv_iconst (v := 0) hx hb dX0_isMirrored_65 (by decide) ?_
        exact x_zret C0 hG ⟨by omega, by omega⟩ dX0_isMirrored_66 hF
    · have hF := ifn hF c_4
      refine lv_iload_n hx hb dX0_isMirrored_22 rfl (lv_at hl 2 rfl) ?_
      refine lv_aload_n hx hb dX0_isMirrored_23 rfl (lv_at hl 0 rfl) ?_
      refine x_geta C0 hG 0 (by decide) rfl (by decide) q174 dX0_isMirrored_24 ?_
      refine lv_iload_n hx hb dX0_isMirrored_27 rfl (lv_at hl 3 rfl) ?_
      refine x_swld C0 hG dX0_isMirrored_28 hF (fun u_7 hF => ?_)
      refine lv_bipush (v := 15) hx hb dX0_isMirrored_29 (by decide) ?_
      refine lv_aload_n hx hb dX0_isMirrored_31 rfl (lv_at hl 0 rfl) ?_
      refine x_geta C0 hG 0 (by decide) rfl (by decide) q174 dX0_isMirrored_32 ?_
      refine lv_iload_n hx hb dX0_isMirrored_35 rfl (lv_at hl 1 rfl) ?_
      refine x_swld C0 hG dX0_isMirrored_36 hF (fun u_8 hF => ?_)
      refine x_swg C0 hG 0 (by decide) q329 dX0_isMirrored_37 hF (fun x_9 hF => ?_)
      refine lv_isub hx hb dX0_isMirrored_40 ?_
      refine lv_aload_n hx hb dX0_isMirrored_41 rfl (lv_at hl 0 rfl) ?_
      refine x_geta C0 hG 0 (by decide) rfl (by decide) q174 dX0_isMirrored_42 ?_
      refine lv_iload_n hx hb dX0_isMirrored_45 rfl (lv_at hl 1 rfl) ?_
      refine x_swld C0 hG dX0_isMirrored_46 hF (fun u_10 hF => ?_)
      refine x_swg C0 hG 1 (by decide) q331 dX0_isMirrored_47 hF (fun x_11 hF => ?_)
      obtain ⟨h_15, hF⟩ := chl_of hF
      obtain ⟨σ_12, r_13, e_14, hF⟩ := obi_of hF
      refine x_cVi0 (As := [.int ((15 : Int32) - x_9), .int x_11]) (rest := [.int x2]) C0 hG (mtX_Swimmer_isOn l hst e_14) (lw_V q1021 q1022 q1023 q103 q1024) yd_X3_isOn (x_rcs C0 hG h_15) ⟨by omega, by omega⟩ ⟨by omega, by omega⟩ rfl rfl hl.1 (Nat.le_of_ble_eq_true rfl) dX0_isMirrored_50 (fun H locs hG => ?_)
      refine lv_ior hx hb dX0_isMirrored_53 ?_
      refine w_nm hF (fun x_16 hF => ?_)
      refine lv_istore_n (lv' := [(2, .int x_16), (0, .ref L.1), (1, .int x1), (3, .int x3)]) hx hb dX0_isMirrored_54 rfl hl (by decide) rfl (fun ls hl => ?_)
      refine w_iinc hx hb dX0_isMirrored_55 hl 3 rfl (v := 1) (by decide) (by decide) hF (fun x_17 ls hl hF => ?_)
      have hl : lv_has ls 4 [(3, .int x_17), (2, .int x_16), (0, .ref L.1), (1, .int x1)] := hl
      refine lv_goto (tgt := 14) hx hb dX0_isMirrored_58 (by decide) ?_
      exact ih _ _ _ _ H locs ls hG (lv_sub hl [2, 3, 1, 0] rfl) hF
theorem bX_isMirrored_2 {N : Nat} (C0 : xCx p l s m args meth c RX0 cX0_isMirrored 4 (some .boolean) L A) (hRo : 1 ≤ R.frames ∧ 22 ≤ R.locals) {σ' : xS} {r : Int32} : ∀ (n : Nat) (σ : xS) (x1 : Int32) (H : Heap) (locs : List Loc) (ls : Array Slot), xG A L g s σ H locs → lv_has ls 4 [(0, .ref L.1), (1, .int x1)] → fX_isMirrored_b2 N n σ x1 = some (σ', r) → W p l e R s m args below meth c H locs 0 0 (xZ below L g A s args σ' (some (.int r)) 0 0) (F0 m 2 ls []) := by
  have hx := C0.1
  have hb := C0.2.1
  have hst := C0.2.2.2.2.2.2.2.2.2.2
  intro n
  induction n with
  | zero => intro σ x1 H locs ls hG hl hF; cases hF
  | succ n ih =>
    intro σ x1 H locs ls hG hl hF
    unfold fX_isMirrored_b2 at hF
    refine lv_iload_n hx hb dX0_isMirrored_2 rfl (lv_at hl 1 rfl) ?_
    refine lv_aload_n hx hb dX0_isMirrored_3 rfl (lv_at hl 0 rfl) ?_
    refine x_geti C0 hG 1 (by decide) rfl q175 dX0_isMirrored_4 hF (fun x_1 hF => ?_)
    refine lv_icmp_ge (tgt := 73) hx hb dX0_isMirrored_7 (by decide) (fun c_2 => ?_) (fun c_2 => ?_)
    · have hF := ifp hF c_2
      refine lv_iconst (v := 1) hx hb dX0_isMirrored_73 (by decide) ?_
      exact x_zret C0 hG ⟨by omega, by omega⟩ dX0_isMirrored_74 hF
    · have hF := ifn hF c_2
      refine lv_iconst (v := 0) hx hb dX0_isMirrored_10 (by decide) ?_
      refine lv_istore_n (lv' := [(2, .int 0), (0, .ref L.1), (1, .int x1)]) hx hb dX0_isMirrored_11 rfl hl (by decide) rfl (fun ls hl => ?_)
      refine lv_iconst (v := 0) hx hb dX0_isMirrored_12 (by decide) ?_
      refine lv_istore_n (lv' := [(3, .int 0), (2, .int 0), (0, .ref L.1), (1, .int x1)]) hx hb dX0_isMirrored_13 rfl hl (by decide) rfl (fun ls hl => ?_)
      exact bX_isMirrored_14 C0 hRo ih N _ _ _ _ H locs ls hG (lv_sub hl [2, 3, 1, 0] rfl) hF
theorem bX_isMirrored_e {N : Nat} (C0 : xCx p l s m args meth c RX0 cX0_isMirrored 4 (some .boolean) L A) (hRo : 1 ≤ R.frames ∧ 22 ≤ R.locals) {σ' : xS} {r : Int32} (σ : xS) (H : Heap) (locs : List Loc) (ls : Array Slot) (hG : xG A L g s σ H locs) (hl : lv_has ls 4 [(0, .ref L.1)]) (hF : fX_isMirrored N σ = some (σ', r)) : W p l e R s m args below meth c H locs 0 0 (xZ below L g A s args σ' (some (.int r)) 0 0) (F0 m 0 ls []) := by
  have hx := C0.1
  have hb := C0.2.1
  have hst := C0.2.2.2.2.2.2.2.2.2.2
  unfold fX_isMirrored at hF
  refine lv_iconst (v := 0) hx hb dX0_isMirrored_0 (by decide) ?_
  refine lv_istore_n (lv' := [(1, .int 0), (0, .ref L.1)]) hx hb dX0_isMirrored_1 rfl hl (by decide) rfl (fun ls hl => ?_)
  exact bX_isMirrored_2 C0 hRo N _ _ H locs ls hG (lv_sub hl [1, 0] rfl) hF
theorem mtX_isMirrored (l : Launch) (hst : l.stackTraces = false) {N : Nat} {L : xL} {g : xg} {σ σ' : xS} {r : Int32} (hF : fX_isMirrored N σ = some (σ', r)) : xMet l yX0_isMirrored cX0_isMirrored 4 (some .boolean) (1) (22) 0 0 [.ref L.1] L g σ (some (.int r)) σ' := by
  refine x_head hst (by decide) rfl ?_
  intro p e s m below meth c A C0 hG
  have hl := lv_entry ([.ref L.1]) (n := 4) (Nat.le_of_ble_eq_true rfl)
  rw [lg_entry_eq]
  generalize (lg_sl ([.ref L.1]) ++ List.replicate (4 - (lg_sl ([.ref L.1])).length) Slot.unset).toArray = ls at hl ⊢
  have hl : lv_has ls 4 [(0, .ref L.1)] := hl
  exact bX_isMirrored_e C0 ⟨Nat.le_refl _, Nat.le_refl _⟩ _ _ [] ls hG hl hF
def fX_star (N : Nat) (σ : xS) (a0 : Int32) : Option (xS × Int32) :=
  if a0 = 0 then (
    obi (fX_sideOf N σ 1) fun σ_2 r_3 =>
    obi (fX_sideOf N σ_2 0) fun σ_5 r_6 =>
    nmv (if r_3 < r_6 then r_6 else r_3) fun x_8 =>
    some (σ_5, x_8))
  else (
  if a0 = 1 then (
    obi (fX_onOne N σ) fun σ_10 r_11 =>
    some (σ_10, r_11))
  else (
  if a0 = 2 then (
    obi (fX_isMirrored N σ) fun σ_14 r_15 =>
    if r_15 = 0 then (
      some (σ_14, 0))
    else (
      some (σ_14, 1)))
  else (
    some (σ, (-1)))))
theorem bX_star_e {N : Nat} (C0 : xCx p l s m args meth c RX0 cX0_star 2 (some .int) L A) (hRo : 2 ≤ R.frames ∧ 46 ≤ R.locals) {σ' : xS} {r : Int32} (σ : xS) (a0 : Int32) (H : Heap) (locs : List Loc) (ls : Array Slot) (hG : xG A L g s σ H locs) (hl : lv_has ls 2 [(0, .ref L.1), (1, .int a0)]) (hF : fX_star N σ a0 = some (σ', r)) : W p l e R s m args below meth c H locs 0 0 (xZ below L g A s args σ' (some (.int r)) 0 0) (F0 m 0 ls []) := by
  have hx := C0.1
  have hb := C0.2.1
  have hst := C0.2.2.2.2.2.2.2.2.2.2
  unfold fX_star at hF
  refine lv_iload_n hx hb dX0_star_0 rfl (lv_at hl 1 rfl) ?_
  by_cases c_1 : a0 = 0
  · have hF := ifp hF c_1
    refine lv_tableIn (off := 27) (tgt := 28) hx hb dX0_star_1 (by rw [c_1]; decide) (by rw [c_1]; decide) (by rw [c_1]; rfl) (by decide) ?_
    refine lv_aload_n hx hb dX0_star_28 rfl (lv_at hl 0 rfl) ?_
    refine lv_iconst (v := 1) hx hb dX0_star_29 (by decide) ?_
    obtain ⟨σ_2, r_3, e_4, hF⟩ := obi_of hF
    refine x_cVi0 (As := [.int 1]) (rest := []) C0 hG (mtX_sideOf l hst e_4) (lw_V q1013 q1015 qs42 q100 q1016) yd_X0_sideOf (x_rc0 C0 hG) ⟨by omega, by omega⟩ ⟨by omega, by omega⟩ rfl rfl hl.1 (Nat.le_of_ble_eq_true rfl) dX0_star_30 (fun H locs hG => ?_)
    refine lv_aload_n hx hb dX0_star_33 rfl (lv_at hl 0 rfl) ?_
    refine lv_iconst (v := 0) hx hb dX0_star_34 (by decide) ?_
    obtain ⟨σ_5, r_6, e_7, hF⟩ := obi_of hF
    refine x_cVi0 (As := [.int 0]) (rest := [.int r_3]) C0 hG (mtX_sideOf l hst e_7) (lw_V q1013 q1015 qs42 q100 q1016) yd_X0_sideOf (x_rc0 C0 hG) ⟨by omega, by omega⟩ ⟨by omega, by omega⟩ rfl rfl hl.1 (Nat.le_of_ble_eq_true rfl) dX0_star_35 (fun H locs hG => ?_)
    refine x_max C0 hl.1 q857 q676 q116 q677 ⟨by omega, by omega⟩ ⟨by omega, by omega⟩ (Nat.le_of_ble_eq_true rfl) dX0_star_38 hF (fun x_8 hF => ?_)
    exact x_iret C0 hG ⟨by omega, by omega⟩ dX0_star_41 hF
  have hF := ifn hF c_1
  by_cases c_9 : a0 = 1
  · have hF := ifp hF c_9
    refine lv_tableIn (off := 41) (tgt := 42) hx hb dX0_star_1 (by rw [c_9]; decide) (by rw [c_9]; decide) (by rw [c_9]; rfl) (by decide) ?_
    refine lv_aload_n hx hb dX0_star_42 rfl (lv_at hl 0 rfl) ?_
    obtain ⟨σ_10, r_11, e_12, hF⟩ := obi_of hF
    refine x_cVi0 (As := []) (rest := []) C0 hG (mtX_onOne l hst e_12) (lw_V q1017 q1019 qs43 q100 q1020) yd_X0_onOne (x_rc0 C0 hG) ⟨by omega, by omega⟩ ⟨by omega, by omega⟩ rfl rfl hl.1 (Nat.le_of_ble_eq_true rfl) dX0_star_43 (fun H locs hG => ?_)
    exact x_iret C0 hG ⟨by omega, by omega⟩ dX0_star_46 hF
  have hF := ifn hF c_9
  by_cases c_13 : a0 = 2
  · have hF := ifp hF c_13
    refine lv_tableIn (off := 46) (tgt := 47) hx hb dX0_star_1 (by rw [c_13]; decide) (by rw [c_13]; decide) (by rw [c_13]; rfl) (by decide) ?_
    refine lv_aload_n hx hb dX0_star_47 rfl (lv_at hl 0 rfl) ?_
    obtain ⟨σ_14, r_15, e_16, hF⟩ := obi_of hF
    refine x_cVi0 (As := []) (rest := []) C0 hG (mtX_isMirrored l hst e_16) (lw_V q1025 q1027 qs44 q100 q1028) yd_X0_isMirrored (x_rc0 C0 hG) ⟨by omega, by omega⟩ ⟨by omega, by omega⟩ rfl rfl hl.1 (Nat.le_of_ble_eq_true rfl) dX0_star_48 (fun H locs hG => ?_)
    refine lv_if_eq (tgt := 58) hx hb dX0_star_51 (by decide) (fun c_17 => ?_) (fun c_17 => ?_)
    · have hF := ifp hF c_17
      refine lv_iconst (v := 0) hx hb dX0_star_58 (by decide) ?_
      exact x_iret C0 hG ⟨by omega, by omega⟩ dX0_star_59 hF
    · have hF := ifn hF c_17
      refine lv_iconst (v := 1) hx hb dX0_star_54 (by decide) ?_
      refine lv_goto (tgt := 59) hx hb dX0_star_55 (by decide) ?_
      exact x_iret C0 hG ⟨by omega, by omega⟩ dX0_star_59 hF
  have hF := ifn hF c_13
  refine lv_tableOut (tgt := 60) hx hb dX0_star_1 (sw_out (fun q_ => by
      have zc_1 := lv_neT c_1 (show ((0 : Int32)).toInt = 0 from by decide)
      have zc_9 := lv_neT c_9 (show ((1 : Int32)).toInt = 1 from by decide)
      have zc_13 := lv_neT c_13 (show ((2 : Int32)).toInt = 2 from by decide)
      omega)) (by decide) ?_
  refine lv_iconst (v := (-1)) hx hb dX0_star_60 (by decide) ?_
  exact x_iret C0 hG ⟨by omega, by omega⟩ dX0_star_61 hF
theorem mtX_star (l : Launch) (hst : l.stackTraces = false) {N : Nat} {L : xL} {g : xg} {σ σ' : xS} {r : Int32} {a0 : Int32} (hF : fX_star N σ a0 = some (σ', r)) : xMet l yX0_star cX0_star 2 (some .int) (2) (46) 0 0 [.ref L.1, .int a0] L g σ (some (.int r)) σ' := by
  refine x_head hst (by decide) rfl ?_
  intro p e s m below meth c A C0 hG
  have hl := lv_entry ([.ref L.1, .int a0]) (n := 2) (Nat.le_of_ble_eq_true rfl)
  rw [lg_entry_eq]
  generalize (lg_sl ([.ref L.1, .int a0]) ++ List.replicate (2 - (lg_sl ([.ref L.1, .int a0])).length) Slot.unset).toArray = ls at hl ⊢
  have hl : lv_has ls 2 [(0, .ref L.1), (1, .int a0)] := hl
  exact bX_star_e C0 ⟨Nat.le_refl _, Nat.le_refl _⟩ _ _ _ [] ls hG hl hF
def fX_areShelves (N : Nat) (σ : xS) (a0 : Int32) : Option (xS × Int32) :=
  if a0 < 0 then (
    chb 0 (some (σ, 0)))
  else (
    chz 10 <|
    obi (fX_isShelf N σ (a0 / 10)) fun σ_3 r_4 =>
    if r_4 = 0 then (
      chb 0 (some (σ_3, 0)))
    else (
      chz 10 <|
      obi (fX_isShelf N σ_3 (a0 - a0 / 10 * 10)) fun σ_8 r_9 =>
      if r_9 = 0 then (
        chb 0 (some (σ_8, 0)))
      else (
        chb 1 (some (σ_8, 1)))))
theorem bX_areShelves_e {N : Nat} (C0 : xCx p l s m args meth c RX0 cX0_areShelves 1 (some .boolean) L A) (hRo : 2 ≤ R.frames ∧ 42 ≤ R.locals) {σ' : xS} {r : Int32} (σ : xS) (a0 : Int32) (H : Heap) (locs : List Loc) (ls : Array Slot) (hG : xG A L g s σ H locs) (hl : lv_has ls 1 [(0, .int a0)]) (hF : fX_areShelves N σ a0 = some (σ', r)) : W p l e R s m args below meth c H locs 0 0 (xZ below L g A s args σ' (some (.int r)) 0 0) (F0 m 0 ls []) := by
  have hx := C0.1
  have hb := C0.2.1
  have hst := C0.2.2.2.2.2.2.2.2.2.2
  unfold fX_areShelves at hF
  refine lv_iload_n hx hb dX0_areShelves_0 rfl (lv_at hl 0 rfl) ?_
  refine lv_if_lt (tgt := 28) hx hb dX0_areShelves_1 (by decide) (fun c_1 => ?_) (fun c_1 => ?_)
  · have hF := ifp hF c_1
    refine lv_iconst (v := 0) hx hb dX0_areShelves_28 (by decide) ?_
    exact x_zret C0 hG ⟨by omega, by omega⟩ dX0_areShelves_29 hF
  · have hF := ifn hF c_1
    refine lv_iload_n hx hb dX0_areShelves_4 rfl (lv_at hl 0 rfl) ?_
    refine lv_bipush (v := 10) hx hb dX0_areShelves_5 (by decide) ?_
    obtain ⟨h_2, hF⟩ := chz_of hF
    refine lv_idiv hx hb dX0_areShelves_7 h_2 ?_
    obtain ⟨σ_3, r_4, e_5, hF⟩ := obi_of hF
    refine x_cSi0 (As := [.int (a0 / 10)]) (rest := []) C0 hG (mtX_isShelf l hst e_5) (lw_S q489 q490 q100 q491) yd_X0_isShelf ⟨by omega, by omega⟩ ⟨by omega, by omega⟩ rfl rfl hl.1 (Nat.le_of_ble_eq_true rfl) dX0_areShelves_8 (fun H locs hG => ?_)
    refine lv_if_eq (tgt := 28) hx hb dX0_areShelves_11 (by decide) (fun c_6 => ?_) (fun c_6 => ?_)
    · have hF := ifp hF c_6
      refine lv_iconst (v := 0) hx hb dX0_areShelves_28 (by decide) ?_
      exact x_zret C0 hG ⟨by omega, by omega⟩ dX0_areShelves_29 hF
    · have hF := ifn hF c_6
      refine lv_iload_n hx hb dX0_areShelves_14 rfl (lv_at hl 0 rfl) ?_
      refine lv_bipush (v := 10) hx hb dX0_areShelves_15 (by decide) ?_
      obtain ⟨h_7, hF⟩ := chz_of hF
      refine lv_irem hx hb dX0_areShelves_17 h_7 ?_
      obtain ⟨σ_8, r_9, e_10, hF⟩ := obi_of hF
      refine x_cSi0 (As := [.int (a0 - a0 / 10 * 10)]) (rest := []) C0 hG (mtX_isShelf l hst e_10) (lw_S q489 q490 q100 q491) yd_X0_isShelf ⟨by omega, by omega⟩ ⟨by omega, by omega⟩ rfl rfl hl.1 (Nat.le_of_ble_eq_true rfl) dX0_areShelves_18 (fun H locs hG => ?_)
      refine lv_if_eq (tgt := 28) hx hb dX0_areShelves_21 (by decide) (fun c_11 => ?_) (fun c_11 => ?_)
      · have hF := ifp hF c_11
        refine lv_iconst (v := 0) hx hb dX0_areShelves_28 (by decide) ?_
        exact x_zret C0 hG ⟨by omega, by omega⟩ dX0_areShelves_29 hF
      · have hF := ifn hF c_11
        refine lv_iconst (v := 1) hx hb dX0_areShelves_24 (by decide) ?_
        refine lv_goto (tgt := 29) hx hb dX0_areShelves_25 (by decide) ?_
        exact x_zret C0 hG ⟨by omega, by omega⟩ dX0_areShelves_29 hF
theorem mtX_areShelves (l : Launch) (hst : l.stackTraces = false) {N : Nat} {L : xL} {g : xg} {σ σ' : xS} {r : Int32} {a0 : Int32} (hF : fX_areShelves N σ a0 = some (σ', r)) : xMet l yX0_areShelves cX0_areShelves 1 (some .boolean) (2) (42) 0 0 [.int a0] L g σ (some (.int r)) σ' := by
  refine x_head hst (by decide) rfl ?_
  intro p e s m below meth c A C0 hG
  have hl := lv_entry ([.int a0]) (n := 1) (Nat.le_of_ble_eq_true rfl)
  rw [lg_entry_eq]
  generalize (lg_sl ([.int a0]) ++ List.replicate (1 - (lg_sl ([.int a0])).length) Slot.unset).toArray = ls at hl ⊢
  have hl : lv_has ls 1 [(0, .int a0)] := hl
  exact bX_areShelves_e C0 ⟨Nat.le_refl _, Nat.le_refl _⟩ _ _ _ [] ls hG hl hF
def fX_wrongAt_b6 (N : Nat) : Nat → xS → Int32 → Option (xS × Int32)
  | 0, _, _ => none
  | n + 1, σ, x1 =>
    nmv (xI σ 15) fun x_4 =>
    if x_4 ≤ x1 then (
      some (σ, (-2)))
    else (
      nmv (xI σ 25) fun x_6 =>
      if x_6 ≤ x1 then (
        some (σ, (-2)))
      else (
        obi (fX_goCount N σ x1) fun σ_8 r_9 =>
        obi (fX_apartNow N σ_8) fun σ_11 r_12 =>
        chk x1 60 <| nmv (xJ σ_11 24 x1.toNatClampNeg) fun x_14 =>
        if r_12 = x_14 then (
          nmv (x1 + 1) fun x_16 =>
          (fX_wrongAt_b6 N n) σ_11 x_16)
        else (
          some (σ_11, x1))))
def fX_wrongAt (N : Nat) (σ : xS) : Option (xS × Int32) :=
  obi (fX_begin N σ) fun σ_1 r_2 =>
  fX_wrongAt_b6 N N σ_1 0
theorem bX_wrongAt_6 {N : Nat} (C0 : xCx p l s m args meth c RX0 cX0_wrongAt 2 (some .int) L A) (hRo : 3 ≤ R.frames ∧ 66 ≤ R.locals) {σ' : xS} {r : Int32} : ∀ (n : Nat) (σ : xS) (x1 : Int32) (H : Heap) (locs : List Loc) (ls : Array Slot), xG A L g s σ H locs → lv_has ls 2 [(0, .ref L.1), (1, .int x1)] → fX_wrongAt_b6 N n σ x1 = some (σ', r) → W p l e R s m args below meth c H locs 0 0 (xZ below L g A s args σ' (some (.int r)) 0 0) (F0 m 6 ls []) := by
  have hx := C0.1
  have hb := C0.2.1
  have hst := C0.2.2.2.2.2.2.2.2.2.2
  intro n
  induction n with
  | zero => intro σ x1 H locs ls hG hl hF; cases hF
  | succ n ih =>
    intro σ x1 H locs ls hG hl hF
    unfold fX_wrongAt_b6 at hF
    refine lv_iload_n hx hb dX0_wrongAt_6 rfl (lv_at hl 1 rfl) ?_
    refine lv_aload_n hx hb dX0_wrongAt_7 rfl (lv_at hl 0 rfl) ?_
    refine x_geti C0 hG 15 (by decide) rfl q191 dX0_wrongAt_8 hF (fun x_4 hF => ?_)
    refine lv_icmp_ge (tgt := 48) hx hb dX0_wrongAt_11 (by decide) (fun c_5 => ?_) (fun c_5 => ?_)
    · have hF := ifp hF c_5
      refine lv_bipush (v := (-2)) hx hb dX0_wrongAt_48 (by decide) ?_
      exact x_iret C0 hG ⟨by omega, by omega⟩ dX0_wrongAt_50 hF
    · have hF := ifn hF c_5
      refine lv_iload_n hx hb dX0_wrongAt_14 rfl (lv_at hl 1 rfl) ?_
      refine lv_aload_n hx hb dX0_wrongAt_15 rfl (lv_at hl 0 rfl) ?_
      refine x_geti C0 hG 25 (by decide) rfl q201 dX0_wrongAt_16 hF (fun x_6 hF => ?_)
      refine lv_icmp_ge (tgt := 48) hx hb dX0_wrongAt_19 (by decide) (fun c_7 => ?_) (fun c_7 => ?_)
      · have hF := ifp hF c_7
        refine lv_bipush (v := (-2)) hx hb dX0_wrongAt_48 (by decide) ?_
        exact x_iret C0 hG ⟨by omega, by omega⟩ dX0_wrongAt_50 hF
      · have hF := ifn hF c_7
        refine lv_aload_n hx hb dX0_wrongAt_22 rfl (lv_at hl 0 rfl) ?_
        refine lv_iload_n hx hb dX0_wrongAt_23 rfl (lv_at hl 1 rfl) ?_
        obtain ⟨σ_8, r_9, e_10, hF⟩ := obi_of hF
        refine x_cVv0 (As := [.int x1]) (rest := []) C0 hG (mtX_goCount l hst e_10) (lw_V q878 q880 qs25 q100 q881) yd_X0_goCount (x_rc0 C0 hG) ⟨by omega, by omega⟩ ⟨by omega, by omega⟩ rfl rfl hl.1 (Nat.le_of_ble_eq_true rfl) dX0_wrongAt_24 (fun H locs hG => ?_)
        refine lv_aload_n hx hb dX0_wrongAt_27 rfl (lv_at hl 0 rfl) ?_
        obtain ⟨σ_11, r_12, e_13, hF⟩ := obi_of hF
        refine x_cVi0 (As := []) (rest := []) C0 hG (mtX_apartNow l hst e_13) (lw_V q898 q900 qs30 q100 q901) yd_X0_apartNow (x_rc0 C0 hG) ⟨by omega, by omega⟩ ⟨by omega, by omega⟩ rfl rfl hl.1 (Nat.le_of_ble_eq_true rfl) dX0_wrongAt_28 (fun H locs hG => ?_)
        refine lv_aload_n hx hb dX0_wrongAt_31 rfl (lv_at hl 0 rfl) ?_
        refine x_geta C0 hG 24 (by decide) rfl (by decide) q200 dX0_wrongAt_32 ?_
        refine lv_iload_n hx hb dX0_wrongAt_35 rfl (lv_at hl 1 rfl) ?_
        refine x_ld C0 hG 24 ⟨by decide, rfl, rfl⟩ dX0_wrongAt_36 hF (fun x_14 hF => ?_)
        refine lv_icmp_eq (tgt := 42) hx hb dX0_wrongAt_37 (by decide) (fun c_15 => ?_) (fun c_15 => ?_)
        · have hF := ifp hF c_15
          refine w_iinc hx hb dX0_wrongAt_42 hl 1 rfl (v := 1) (by decide) (by decide) hF (fun x_16 ls hl hF => ?_)
          have hl : lv_has ls 2 [(1, .int x_16), (0, .ref L.1)] := hl
          refine lv_goto (tgt := 6) hx hb dX0_wrongAt_45 (by decide) ?_
          exact ih _ _ H locs ls hG (lv_sub hl [1, 0] rfl) hF
        · have hF := ifn hF c_15
          refine lv_iload_n hx hb dX0_wrongAt_40 rfl (lv_at hl 1 rfl) ?_
          exact x_iret C0 hG ⟨by omega, by omega⟩ dX0_wrongAt_41 hF
theorem bX_wrongAt_e {N : Nat} (C0 : xCx p l s m args meth c RX0 cX0_wrongAt 2 (some .int) L A) (hRo : 3 ≤ R.frames ∧ 66 ≤ R.locals) {σ' : xS} {r : Int32} (σ : xS) (H : Heap) (locs : List Loc) (ls : Array Slot) (hG : xG A L g s σ H locs) (hl : lv_has ls 2 [(0, .ref L.1)]) (hF : fX_wrongAt N σ = some (σ', r)) : W p l e R s m args below meth c H locs 0 0 (xZ below L g A s args σ' (some (.int r)) 0 0) (F0 m 0 ls []) := by
  have hx := C0.1
  have hb := C0.2.1
  have hst := C0.2.2.2.2.2.2.2.2.2.2
  unfold fX_wrongAt at hF
  refine lv_aload_n hx hb dX0_wrongAt_0 rfl (lv_at hl 0 rfl) ?_
  obtain ⟨σ_1, r_2, e_3, hF⟩ := obi_of hF
  refine x_cVv0 (As := []) (rest := []) C0 hG (mtX_begin l hst e_3) (lw_V q874 q876 qs24 q100 q877) yd_X0_begin (x_rc0 C0 hG) ⟨by omega, by omega⟩ ⟨by omega, by omega⟩ rfl rfl hl.1 (Nat.le_of_ble_eq_true rfl) dX0_wrongAt_1 (fun H locs hG => ?_)
  refine lv_iconst (v := 0) hx hb dX0_wrongAt_4 (by decide) ?_
  refine lv_istore_n (lv' := [(1, .int 0), (0, .ref L.1)]) hx hb dX0_wrongAt_5 rfl hl (by decide) rfl (fun ls hl => ?_)
  exact bX_wrongAt_6 C0 hRo N _ _ H locs ls hG (lv_sub hl [1, 0] rfl) hF
theorem mtX_wrongAt (l : Launch) (hst : l.stackTraces = false) {N : Nat} {L : xL} {g : xg} {σ σ' : xS} {r : Int32} (hF : fX_wrongAt N σ = some (σ', r)) : xMet l yX0_wrongAt cX0_wrongAt 2 (some .int) (3) (66) 0 0 [.ref L.1] L g σ (some (.int r)) σ' := by
  refine x_head hst (by decide) rfl ?_
  intro p e s m below meth c A C0 hG
  have hl := lv_entry ([.ref L.1]) (n := 2) (Nat.le_of_ble_eq_true rfl)
  rw [lg_entry_eq]
  generalize (lg_sl ([.ref L.1]) ++ List.replicate (2 - (lg_sl ([.ref L.1])).length) Slot.unset).toArray = ls at hl ⊢
  have hl : lv_has ls 2 [(0, .ref L.1)] := hl
  exact bX_wrongAt_e C0 ⟨Nat.le_refl _, Nat.le_refl _⟩ _ _ [] ls hG hl hF
def fX_underMany_b30 (N : Nat) (k4 : xS → Int32 → Int32 → Option (xS × Int32)) (σ : xS) (y0 : Int32) (y1 : Int32) (x2 : Int32) : Option (xS × Int32) :=
  nmv (y1 + y0) fun x_8 =>
  nmv (x2 + 1) fun x_9 =>
  k4 σ x_8 x_9
def fX_underMany_b4 (N : Nat) : Nat → xS → Int32 → Int32 → Option (xS × Int32)
  | 0, _, _, _ => none
  | n + 1, σ, x1, x2 =>
    nmv (xI σ 15) fun x_1 =>
    if x_1 ≤ x2 then (
      some (σ, x1))
    else (
      chk x2 60 <| nmv (xJ σ 12 x2.toNatClampNeg) fun x_3 =>
      obi (fX_isBelow N σ x_3) fun σ_4 r_5 =>
      if r_5 = 0 then (
        fX_underMany_b30 N (fX_underMany_b4 N n) σ_4 0 x1 x2)
      else (
        fX_underMany_b30 N (fX_underMany_b4 N n) σ_4 1 x1 x2))
def fX_underMany (N : Nat) (σ : xS) : Option (xS × Int32) :=
  fX_underMany_b4 N N σ 0 0
theorem bX_underMany_30 {N : Nat} (C0 : xCx p l s m args meth c RX0 cX0_underMany 3 (some .int) L A) (hRo : 1 ≤ R.frames ∧ 20 ≤ R.locals) {σ' : xS} {r : Int32} {k4 : xS → Int32 → Int32 → Option (xS × Int32)} (hk4 : ∀ (σ : xS) (x1 : Int32) (x2 : Int32) (H : Heap) (locs : List Loc) (ls : Array Slot), xG A L g s σ H locs → lv_has ls 3 [(0, .ref L.1), (1, .int x1), (2, .int x2)] → k4 σ x1 x2 = some (σ', r) → W p l e R s m args below meth c H locs 0 0 (xZ below L g A s args σ' (some (.int r)) 0 0) (F0 m 4 ls [])) (σ : xS) (y0 : Int32) (y1 : Int32) (x2 : Int32) (H : Heap) (locs : List Loc) (ls : Array Slot) (hG : xG A L g s σ H locs) (hl : lv_has ls 3 [(0, .ref L.1), (2, .int x2)]) (hF : fX_underMany_b30 N k4 σ y0 y1 x2 = some (σ', r)) : W p l e R s m args below meth c H locs 0 0 (xZ below L g A s args σ' (some (.int r)) 0 0) (F0 m 30 ls [.int y0, .int y1]) := by
  have hx := C0.1
  have hb := C0.2.1
  have hst := C0.2.2.2.2.2.2.2.2.2.2
  unfold fX_underMany_b30 at hF
  refine lv_iadd hx hb dX0_underMany_30 ?_
  refine w_nm hF (fun x_8 hF => ?_)
  refine lv_istore_n (lv' := [(1, .int x_8), (0, .ref L.1), (2, .int x2)]) hx hb dX0_underMany_31 rfl hl (by decide) rfl (fun ls hl => ?_)
  refine w_iinc hx hb dX0_underMany_32 hl 2 rfl (v := 1) (by decide) (by decide) hF (fun x_9 ls hl hF => ?_)
  have hl : lv_has ls 3 [(2, .int x_9), (1, .int x_8), (0, .ref L.1)] := hl
  refine lv_goto (tgt := 4) hx hb dX0_underMany_35 (by decide) ?_
  exact hk4 _ _ _ H locs ls hG (lv_sub hl [2, 1, 0] rfl) hF
theorem bX_underMany_4 {N : Nat} (C0 : xCx p l s m args meth c RX0 cX0_underMany 3 (some .int) L A) (hRo : 1 ≤ R.frames ∧ 20 ≤ R.locals) {σ' : xS} {r : Int32} : ∀ (n : Nat) (σ : xS) (x1 : Int32) (x2 : Int32) (H : Heap) (locs : List Loc) (ls : Array Slot), xG A L g s σ H locs → lv_has ls 3 [(0, .ref L.1), (1, .int x1), (2, .int x2)] → fX_underMany_b4 N n σ x1 x2 = some (σ', r) → W p l e R s m args below meth c H locs 0 0 (xZ below L g A s args σ' (some (.int r)) 0 0) (F0 m 4 ls []) := by
  have hx := C0.1
  have hb := C0.2.1
  have hst := C0.2.2.2.2.2.2.2.2.2.2
  intro n
  induction n with
  | zero => intro σ x1 x2 H locs ls hG hl hF; cases hF
  | succ n ih =>
    intro σ x1 x2 H locs ls hG hl hF
    unfold fX_underMany_b4 at hF
    refine lv_iload_n hx hb dX0_underMany_4 rfl (lv_at hl 2 rfl) ?_
    refine lv_aload_n hx hb dX0_underMany_5 rfl (lv_at hl 0 rfl) ?_
    refine x_geti C0 hG 15 (by decide) rfl q191 dX0_underMany_6 hF (fun x_1 hF => ?_)
    refine lv_icmp_ge (tgt := 38) hx hb dX0_underMany_9 (by decide) (fun c_2 => ?_) (fun c_2 => ?_)
    · have hF := ifp hF c_2
      refine lv_iload_n hx hb dX0_underMany_38 rfl (lv_at hl 1 rfl) ?_
      exact x_iret C0 hG ⟨by omega, by omega⟩ dX0_underMany_39 hF
    · have hF := ifn hF c_2
      refine lv_iload_n hx hb dX0_underMany_12 rfl (lv_at hl 1 rfl) ?_
      refine lv_aload_n hx hb dX0_underMany_13 rfl (lv_at hl 0 rfl) ?_
      refine x_geta C0 hG 12 (by decide) rfl (by decide) q188 dX0_underMany_14 ?_
      refine lv_iload_n hx hb dX0_underMany_17 rfl (lv_at hl 2 rfl) ?_
      refine x_ld C0 hG 12 ⟨by decide, rfl, rfl⟩ dX0_underMany_18 hF (fun x_3 hF => ?_)
      obtain ⟨σ_4, r_5, e_6, hF⟩ := obi_of hF
      refine x_cSi0 (As := [.int x_3]) (rest := [.int x1]) C0 hG (mtX_isBelow l hst e_6) (lw_S q934 q935 q100 q936) yd_X0_isBelow ⟨by omega, by omega⟩ ⟨by omega, by omega⟩ rfl rfl hl.1 (Nat.le_of_ble_eq_true rfl) dX0_underMany_19 (fun H locs hG => ?_)
      refine lv_if_eq (tgt := 29) hx hb dX0_underMany_22 (by decide) (fun c_7 => ?_) (fun c_7 => ?_)
      · have hF := ifp hF c_7
        refine lv_iconst (v := 0) hx hb dX0_underMany_29 (by decide) ?_
        exact bX_underMany_30 C0 hRo ih _ _ _ _ H locs ls hG (lv_sub hl [0, 2] rfl) hF
      · have hF := ifn hF c_7
        refine lv_iconst (v := 1) hx hb dX0_underMany_25 (by decide) ?_
        refine lv_goto (tgt := 30) hx hb dX0_underMany_26 (by decide) ?_
        exact bX_underMany_30 C0 hRo ih _ _ _ _ H locs ls hG (lv_sub hl [0, 2] rfl) hF
theorem bX_underMany_e {N : Nat} (C0 : xCx p l s m args meth c RX0 cX0_underMany 3 (some .int) L A) (hRo : 1 ≤ R.frames ∧ 20 ≤ R.locals) {σ' : xS} {r : Int32} (σ : xS) (H : Heap) (locs : List Loc) (ls : Array Slot) (hG : xG A L g s σ H locs) (hl : lv_has ls 3 [(0, .ref L.1)]) (hF : fX_underMany N σ = some (σ', r)) : W p l e R s m args below meth c H locs 0 0 (xZ below L g A s args σ' (some (.int r)) 0 0) (F0 m 0 ls []) := by
  have hx := C0.1
  have hb := C0.2.1
  have hst := C0.2.2.2.2.2.2.2.2.2.2
  unfold fX_underMany at hF
  refine lv_iconst (v := 0) hx hb dX0_underMany_0 (by decide) ?_
  refine lv_istore_n (lv' := [(1, .int 0), (0, .ref L.1)]) hx hb dX0_underMany_1 rfl hl (by decide) rfl (fun ls hl => ?_)
  refine lv_iconst (v := 0) hx hb dX0_underMany_2 (by decide) ?_
  refine lv_istore_n (lv' := [(2, .int 0), (1, .int 0), (0, .ref L.1)]) hx hb dX0_underMany_3 rfl hl (by decide) rfl (fun ls hl => ?_)
  exact bX_underMany_4 C0 hRo N _ _ _ H locs ls hG (lv_sub hl [2, 1, 0] rfl) hF
theorem mtX_underMany (l : Launch) (hst : l.stackTraces = false) {N : Nat} {L : xL} {g : xg} {σ σ' : xS} {r : Int32} (hF : fX_underMany N σ = some (σ', r)) : xMet l yX0_underMany cX0_underMany 3 (some .int) (1) (20) 0 0 [.ref L.1] L g σ (some (.int r)) σ' := by
  refine x_head hst (by decide) rfl ?_
  intro p e s m below meth c A C0 hG
  have hl := lv_entry ([.ref L.1]) (n := 3) (Nat.le_of_ble_eq_true rfl)
  rw [lg_entry_eq]
  generalize (lg_sl ([.ref L.1]) ++ List.replicate (3 - (lg_sl ([.ref L.1])).length) Slot.unset).toArray = ls at hl ⊢
  have hl : lv_has ls 3 [(0, .ref L.1)] := hl
  exact bX_underMany_e C0 ⟨Nat.le_refl _, Nat.le_refl _⟩ _ _ [] ls hG hl hF
def fX_led (N : Nat) (σ : xS) (a0 : Int32) : Option (xS × Int32) :=
  if a0 = 0 then (
    nmv (xI σ 26) fun x_2 =>
    some (σ, x_2))
  else (
  if a0 = 1 then (
    nmv (xI σ 27) fun x_4 =>
    some (σ, x_4))
  else (
  if a0 = 2 then (
    nmv (xI σ 28) fun x_6 =>
    some (σ, x_6))
  else (
  if a0 = 3 then (
    nmv (xI σ 29) fun x_8 =>
    some (σ, x_8))
  else (
  if a0 = 4 then (
    nmv (xI σ 30) fun x_10 =>
    some (σ, x_10))
  else (
    some (σ, (-1)))))))
theorem bX_led_e {N : Nat} (C0 : xCx p l s m args meth c RX0 cX0_led 2 (some .int) L A) (hRo : 0 ≤ R.frames ∧ 0 ≤ R.locals) {σ' : xS} {r : Int32} (σ : xS) (a0 : Int32) (H : Heap) (locs : List Loc) (ls : Array Slot) (hG : xG A L g s σ H locs) (hl : lv_has ls 2 [(0, .ref L.1), (1, .int a0)]) (hF : fX_led N σ a0 = some (σ', r)) : W p l e R s m args below meth c H locs 0 0 (xZ below L g A s args σ' (some (.int r)) 0 0) (F0 m 0 ls []) := by
  have hx := C0.1
  have hb := C0.2.1
  have hst := C0.2.2.2.2.2.2.2.2.2.2
  unfold fX_led at hF
  refine lv_iload_n hx hb dX0_led_0 rfl (lv_at hl 1 rfl) ?_
  by_cases c_1 : a0 = 0
  · have hF := ifp hF c_1
    refine lv_tableIn (off := 35) (tgt := 36) hx hb dX0_led_1 (by rw [c_1]; decide) (by rw [c_1]; decide) (by rw [c_1]; rfl) (by decide) ?_
    refine lv_aload_n hx hb dX0_led_36 rfl (lv_at hl 0 rfl) ?_
    refine x_geti C0 hG 26 (by decide) rfl q202 dX0_led_37 hF (fun x_2 hF => ?_)
    exact x_iret C0 hG ⟨by omega, by omega⟩ dX0_led_40 hF
  have hF := ifn hF c_1
  by_cases c_3 : a0 = 1
  · have hF := ifp hF c_3
    refine lv_tableIn (off := 40) (tgt := 41) hx hb dX0_led_1 (by rw [c_3]; decide) (by rw [c_3]; decide) (by rw [c_3]; rfl) (by decide) ?_
    refine lv_aload_n hx hb dX0_led_41 rfl (lv_at hl 0 rfl) ?_
    refine x_geti C0 hG 27 (by decide) rfl q203 dX0_led_42 hF (fun x_4 hF => ?_)
    exact x_iret C0 hG ⟨by omega, by omega⟩ dX0_led_45 hF
  have hF := ifn hF c_3
  by_cases c_5 : a0 = 2
  · have hF := ifp hF c_5
    refine lv_tableIn (off := 45) (tgt := 46) hx hb dX0_led_1 (by rw [c_5]; decide) (by rw [c_5]; decide) (by rw [c_5]; rfl) (by decide) ?_
    refine lv_aload_n hx hb dX0_led_46 rfl (lv_at hl 0 rfl) ?_
    refine x_geti C0 hG 28 (by decide) rfl q204 dX0_led_47 hF (fun x_6 hF => ?_)
    exact x_iret C0 hG ⟨by omega, by omega⟩ dX0_led_50 hF
  have hF := ifn hF c_5
  by_cases c_7 : a0 = 3
  · have hF := ifp hF c_7
    refine lv_tableIn (off := 50) (tgt := 51) hx hb dX0_led_1 (by rw [c_7]; decide) (by rw [c_7]; decide) (by rw [c_7]; rfl) (by decide) ?_
    refine lv_aload_n hx hb dX0_led_51 rfl (lv_at hl 0 rfl) ?_
    refine x_geti C0 hG 29 (by decide) rfl q205 dX0_led_52 hF (fun x_8 hF => ?_)
    exact x_iret C0 hG ⟨by omega, by omega⟩ dX0_led_55 hF
  have hF := ifn hF c_7
  by_cases c_9 : a0 = 4
  · have hF := ifp hF c_9
    refine lv_tableIn (off := 55) (tgt := 56) hx hb dX0_led_1 (by rw [c_9]; decide) (by rw [c_9]; decide) (by rw [c_9]; rfl) (by decide) ?_
    refine lv_aload_n hx hb dX0_led_56 rfl (lv_at hl 0 rfl) ?_
    refine x_geti C0 hG 30 (by decide) rfl q206 dX0_led_57 hF (fun x_10 hF => ?_)
    exact x_iret C0 hG ⟨by omega, by omega⟩ dX0_led_60 hF
  have hF := ifn hF c_9
  refine lv_tableOut (tgt := 61) hx hb dX0_led_1 (sw_out (fun q_ => by
      have zc_1 := lv_neT c_1 (show ((0 : Int32)).toInt = 0 from by decide)
      have zc_3 := lv_neT c_3 (show ((1 : Int32)).toInt = 1 from by decide)
      have zc_5 := lv_neT c_5 (show ((2 : Int32)).toInt = 2 from by decide)
      have zc_7 := lv_neT c_7 (show ((3 : Int32)).toInt = 3 from by decide)
      have zc_9 := lv_neT c_9 (show ((4 : Int32)).toInt = 4 from by decide)
      omega)) (by decide) ?_
  refine lv_iconst (v := (-1)) hx hb dX0_led_61 (by decide) ?_
  exact x_iret C0 hG ⟨by omega, by omega⟩ dX0_led_62 hF
theorem mtX_led (l : Launch) (hst : l.stackTraces = false) {N : Nat} {L : xL} {g : xg} {σ σ' : xS} {r : Int32} {a0 : Int32} (hF : fX_led N σ a0 = some (σ', r)) : xMet l yX0_led cX0_led 2 (some .int) (0) (0) 0 0 [.ref L.1, .int a0] L g σ (some (.int r)) σ' := by
  refine x_head hst (by decide) rfl ?_
  intro p e s m below meth c A C0 hG
  have hl := lv_entry ([.ref L.1, .int a0]) (n := 2) (Nat.le_of_ble_eq_true rfl)
  rw [lg_entry_eq]
  generalize (lg_sl ([.ref L.1, .int a0]) ++ List.replicate (2 - (lg_sl ([.ref L.1, .int a0])).length) Slot.unset).toArray = ls at hl ⊢
  have hl : lv_has ls 2 [(0, .ref L.1), (1, .int a0)] := hl
  exact bX_led_e C0 ⟨Nat.le_refl _, Nat.le_refl _⟩ _ _ _ [] ls hG hl hF
def fX_image_b7 (N : Nat) : Nat → xS → Int32 → Option (xS × Int32)
  | 0, _, _ => none
  | n + 1, σ, x1 =>
    nmv (xI σ 1) fun x_2 =>
    if x_2 ≤ x1 then (
      nmv (xI σ 1) fun x_4 =>
      nmv (xSi σ 33 x_4) fun σ_5 =>
      nmv (xI σ_5 26) fun x_6 =>
      nmv (xSi σ_5 34 x_6) fun σ_7 =>
      nmv (xI σ_7 27) fun x_8 =>
      nmv (xSi σ_7 35 x_8) fun σ_9 =>
      nmv (xI σ_9 28) fun x_10 =>
      nmv (xSi σ_9 36 x_10) fun σ_11 =>
      nmv (xI σ_11 29) fun x_12 =>
      nmv (xSi σ_11 37 x_12) fun σ_13 =>
      nmv (xI σ_13 30) fun x_14 =>
      nmv (xSi σ_13 38 x_14) fun σ_15 =>
      nmv (xI σ_15 26) fun x_16 =>
      some (σ_15, x_16))
    else (
      chk x1 8 <| chl x1.toNatClampNeg (xn σ) <| nmv x1.toNatClampNeg fun u_17 =>
      chl u_17 (xn σ) <| nmv (xE σ u_17 6) fun x_18 =>
      chk ((2 : Int32) * x1) 16 <| nmv (xSj σ 32 ((2 : Int32) * x1).toNatClampNeg x_18) fun σ_19 =>
      chk x1 8 <| chl x1.toNatClampNeg (xn σ_19) <| nmv x1.toNatClampNeg fun u_20 =>
      chl u_20 (xn σ_19) <| nmv (xE σ_19 u_20 7) fun x_21 =>
      chk (((2 : Int32) * x1) + 1) 16 <| nmv (xSj σ_19 32 (((2 : Int32) * x1) + 1).toNatClampNeg x_21) fun σ_22 =>
      nmv (x1 + 1) fun x_23 =>
      (fX_image_b7 N n) σ_22 x_23)
def fX_image (N : Nat) (σ : xS) : Option (xS × Int32) :=
  nmv (xSi σ 31 1) fun σ_1 =>
  fX_image_b7 N N σ_1 0
theorem bX_image_7 {N : Nat} (C0 : xCx p l s m args meth c RX0 cX0_image 2 (some .int) L A) (hRo : 0 ≤ R.frames ∧ 0 ≤ R.locals) {σ' : xS} {r : Int32} : ∀ (n : Nat) (σ : xS) (x1 : Int32) (H : Heap) (locs : List Loc) (ls : Array Slot), xG A L g s σ H locs → lv_has ls 2 [(0, .ref L.1), (1, .int x1)] → fX_image_b7 N n σ x1 = some (σ', r) → W p l e R s m args below meth c H locs 0 0 (xZ below L g A s args σ' (some (.int r)) 0 0) (F0 m 7 ls []) := by
  have hx := C0.1
  have hb := C0.2.1
  have hst := C0.2.2.2.2.2.2.2.2.2.2
  intro n
  induction n with
  | zero => intro σ x1 H locs ls hG hl hF; cases hF
  | succ n ih =>
    intro σ x1 H locs ls hG hl hF
    unfold fX_image_b7 at hF
    refine lv_iload_n hx hb dX0_image_7 rfl (lv_at hl 1 rfl) ?_
    refine lv_aload_n hx hb dX0_image_8 rfl (lv_at hl 0 rfl) ?_
    refine x_geti C0 hG 1 (by decide) rfl q175 dX0_image_9 hF (fun x_2 hF => ?_)
    refine lv_icmp_ge (tgt := 57) hx hb dX0_image_12 (by decide) (fun c_3 => ?_) (fun c_3 => ?_)
    · have hF := ifp hF c_3
      refine lv_aload_n hx hb dX0_image_57 rfl (lv_at hl 0 rfl) ?_
      refine lv_aload_n hx hb dX0_image_58 rfl (lv_at hl 0 rfl) ?_
      refine x_geti C0 hG 1 (by decide) rfl q175 dX0_image_59 hF (fun x_4 hF => ?_)
      refine x_puti C0 hG 33 (by decide) rfl q209 dX0_image_62 (Or.inl (by decide)) hF (fun σ_5 H locs hG hF => ?_)
      refine lv_aload_n hx hb dX0_image_65 rfl (lv_at hl 0 rfl) ?_
      refine lv_aload_n hx hb dX0_image_66 rfl (lv_at hl 0 rfl) ?_
      refine x_geti C0 hG 26 (by decide) rfl q202 dX0_image_67 hF (fun x_6 hF => ?_)
      refine x_puti C0 hG 34 (by decide) rfl q210 dX0_image_70 (Or.inl (by decide)) hF (fun σ_7 H locs hG hF => ?_)
      refine lv_aload_n hx hb dX0_image_73 rfl (lv_at hl 0 rfl) ?_
      refine lv_aload_n hx hb dX0_image_74 rfl (lv_at hl 0 rfl) ?_
      refine x_geti C0 hG 27 (by decide) rfl q203 dX0_image_75 hF (fun x_8 hF => ?_)
      refine x_puti C0 hG 35 (by decide) rfl q211 dX0_image_78 (Or.inl (by decide)) hF (fun σ_9 H locs hG hF => ?_)
      refine lv_aload_n hx hb dX0_image_81 rfl (lv_at hl 0 rfl) ?_
      refine lv_aload_n hx hb dX0_image_82 rfl (lv_at hl 0 rfl) ?_
      refine x_geti C0 hG 28 (by decide) rfl q204 dX0_image_83 hF (fun x_10 hF => ?_)
      refine x_puti C0 hG 36 (by decide) rfl q212 dX0_image_86 (Or.inl (by decide)) hF (fun σ_11 H locs hG hF => ?_)
      refine lv_aload_n hx hb dX0_image_89 rfl (lv_at hl 0 rfl) ?_
      refine lv_aload_n hx hb dX0_image_90 rfl (lv_at hl 0 rfl) ?_
      refine x_geti C0 hG 29 (by decide) rfl q205 dX0_image_91 hF (fun x_12 hF => ?_)
      refine x_puti C0 hG 37 (by decide) rfl q213 dX0_image_94 (Or.inl (by decide)) hF (fun σ_13 H locs hG hF => ?_)
      refine lv_aload_n hx hb dX0_image_97 rfl (lv_at hl 0 rfl) ?_
      refine lv_aload_n hx hb dX0_image_98 rfl (lv_at hl 0 rfl) ?_
      refine x_geti C0 hG 30 (by decide) rfl q206 dX0_image_99 hF (fun x_14 hF => ?_)
      refine x_puti C0 hG 38 (by decide) rfl q214 dX0_image_102 (Or.inl (by decide)) hF (fun σ_15 H locs hG hF => ?_)
      refine lv_aload_n hx hb dX0_image_105 rfl (lv_at hl 0 rfl) ?_
      refine x_geti C0 hG 26 (by decide) rfl q202 dX0_image_106 hF (fun x_16 hF => ?_)
      exact x_iret C0 hG ⟨by omega, by omega⟩ dX0_image_109 hF
    · have hF := ifn hF c_3
      refine lv_aload_n hx hb dX0_image_15 rfl (lv_at hl 0 rfl) ?_
      refine x_geta C0 hG 32 (by decide) rfl (by decide) q208 dX0_image_16 ?_
      refine lv_iconst (v := 2) hx hb dX0_image_19 (by decide) ?_
      refine lv_iload_n hx hb dX0_image_20 rfl (lv_at hl 1 rfl) ?_
      refine lv_imul hx hb dX0_image_21 ?_
      refine lv_aload_n hx hb dX0_image_22 rfl (lv_at hl 0 rfl) ?_
      refine x_geta C0 hG 0 (by decide) rfl (by decide) q174 dX0_image_23 ?_
      refine lv_iload_n hx hb dX0_image_26 rfl (lv_at hl 1 rfl) ?_
      refine x_swld C0 hG dX0_image_27 hF (fun u_17 hF => ?_)
      refine x_swg C0 hG 6 (by decide) q338 dX0_image_28 hF (fun x_18 hF => ?_)
      refine x_st C0 hG 32 ⟨by decide, rfl, rfl⟩ dX0_image_31 hF (fun σ_19 H locs hG hF => ?_)
      refine lv_aload_n hx hb dX0_image_32 rfl (lv_at hl 0 rfl) ?_
      refine x_geta C0 hG 32 (by decide) rfl (by decide) q208 dX0_image_33 ?_
      refine lv_iconst (v := 2) hx hb dX0_image_36 (by decide) ?_
      refine lv_iload_n hx hb dX0_image_37 rfl (lv_at hl 1 rfl) ?_
      refine lv_imul hx hb dX0_image_38 ?_
      refine lv_iconst (v := 1) hx hb dX0_image_39 (by decide) ?_
      refine lv_iadd hx hb dX0_image_40 ?_
      refine lv_aload_n hx hb dX0_image_41 rfl (lv_at hl 0 rfl) ?_
      refine x_geta C0 hG 0 (by decide) rfl (by decide) q174 dX0_image_42 ?_
      refine lv_iload_n hx hb dX0_image_45 rfl (lv_at hl 1 rfl) ?_
      refine x_swld C0 hG dX0_image_46 hF (fun u_20 hF => ?_)
      refine x_swg C0 hG 7 (by decide) q339 dX0_image_47 hF (fun x_21 hF => ?_)
      refine x_st C0 hG 32 ⟨by decide, rfl, rfl⟩ dX0_image_50 hF (fun σ_22 H locs hG hF => ?_)
      refine w_iinc hx hb dX0_image_51 hl 1 rfl (v := 1) (by decide) (by decide) hF (fun x_23 ls hl hF => ?_)
      have hl : lv_has ls 2 [(1, .int x_23), (0, .ref L.1)] := hl
      refine lv_goto (tgt := 7) hx hb dX0_image_54 (by decide) ?_
      exact ih _ _ H locs ls hG (lv_sub hl [1, 0] rfl) hF
theorem bX_image_e {N : Nat} (C0 : xCx p l s m args meth c RX0 cX0_image 2 (some .int) L A) (hRo : 0 ≤ R.frames ∧ 0 ≤ R.locals) {σ' : xS} {r : Int32} (σ : xS) (H : Heap) (locs : List Loc) (ls : Array Slot) (hG : xG A L g s σ H locs) (hl : lv_has ls 2 [(0, .ref L.1)]) (hF : fX_image N σ = some (σ', r)) : W p l e R s m args below meth c H locs 0 0 (xZ below L g A s args σ' (some (.int r)) 0 0) (F0 m 0 ls []) := by
  have hx := C0.1
  have hb := C0.2.1
  have hst := C0.2.2.2.2.2.2.2.2.2.2
  unfold fX_image at hF
  refine lv_aload_n hx hb dX0_image_0 rfl (lv_at hl 0 rfl) ?_
  refine lv_iconst (v := 1) hx hb dX0_image_1 (by decide) ?_
  refine x_puti C0 hG 31 (by decide) rfl q207 dX0_image_2 (Or.inr rfl) hF (fun σ_1 H locs hG hF => ?_)
  refine lv_iconst (v := 0) hx hb dX0_image_5 (by decide) ?_
  refine lv_istore_n (lv' := [(1, .int 0), (0, .ref L.1)]) hx hb dX0_image_6 rfl hl (by decide) rfl (fun ls hl => ?_)
  exact bX_image_7 C0 hRo N _ _ H locs ls hG (lv_sub hl [1, 0] rfl) hF
theorem mtX_image (l : Launch) (hst : l.stackTraces = false) {N : Nat} {L : xL} {g : xg} {σ σ' : xS} {r : Int32} (hF : fX_image N σ = some (σ', r)) : xMet l yX0_image cX0_image 2 (some .int) (0) (0) 0 0 [.ref L.1] L g σ (some (.int r)) σ' := by
  refine x_head hst (by decide) rfl ?_
  intro p e s m below meth c A C0 hG
  have hl := lv_entry ([.ref L.1]) (n := 2) (Nat.le_of_ble_eq_true rfl)
  rw [lg_entry_eq]
  generalize (lg_sl ([.ref L.1]) ++ List.replicate (2 - (lg_sl ([.ref L.1])).length) Slot.unset).toArray = ls at hl ⊢
  have hl : lv_has ls 2 [(0, .ref L.1)] := hl
  exact bX_image_e C0 ⟨Nat.le_refl _, Nat.le_refl _⟩ _ _ [] ls hG hl hF
def fX_back_b77 (N : Nat) (k12 : xS → Int32 → Option (xS × Int32)) (σ : xS) (y0 : Int32) (y1 : Nat) (x1 : Int32) : Option (xS × Int32) :=
  chl y1 (xn σ) <| nmv (xSe σ y1 7 y0) fun σ_27 =>
  nmv (x1 + 1) fun x_28 =>
  k12 σ_27 x_28
def fX_back_b46 (N : Nat) (k12 : xS → Int32 → Option (xS × Int32)) (σ : xS) (y0 : Int32) (y1 : Nat) (x1 : Int32) : Option (xS × Int32) :=
  chl y1 (xn σ) <| nmv (xSe σ y1 6 y0) fun σ_21 =>
  chk x1 8 <| chl x1.toNatClampNeg (xn σ_21) <| nmv x1.toNatClampNeg fun u_22 =>
  nmv (xI σ_21 33) fun x_23 =>
  if x_23 ≤ x1 then (
    fX_back_b77 N k12 σ_21 0 u_22 x1)
  else (
    nmv (((2 : Int32) * x1) + 1) fun x_25 =>
    chk x_25 16 <| nmv (xJ σ_21 32 x_25.toNatClampNeg) fun x_26 =>
    fX_back_b77 N k12 σ_21 x_26 u_22 x1)
def fX_back_b12 (N : Nat) : Nat → xS → Int32 → Option (xS × Int32)
  | 0, _, _ => none
  | n + 1, σ, x1 =>
    nmv (xI σ 1) fun x_3 =>
    if x_3 ≤ x1 then (
      nmv (xI σ 34) fun x_5 =>
      nmv (xSi σ 26 x_5) fun σ_6 =>
      nmv (xI σ_6 35) fun x_7 =>
      nmv (xSi σ_6 27 x_7) fun σ_8 =>
      nmv (xI σ_8 36) fun x_9 =>
      nmv (xSi σ_8 28 x_9) fun σ_10 =>
      nmv (xI σ_10 37) fun x_11 =>
      nmv (xSi σ_10 29 x_11) fun σ_12 =>
      nmv (xI σ_12 38) fun x_13 =>
      nmv (xSi σ_12 30 x_13) fun σ_14 =>
      nmv (xI σ_14 26) fun x_15 =>
      some (σ_14, x_15))
    else (
      chk x1 8 <| chl x1.toNatClampNeg (xn σ) <| nmv x1.toNatClampNeg fun u_16 =>
      nmv (xI σ 33) fun x_17 =>
      if x_17 ≤ x1 then (
        fX_back_b46 N (fX_back_b12 N n) σ 0 u_16 x1)
      else (
        nmv ((2 : Int32) * x1) fun x_19 =>
        chk x_19 16 <| nmv (xJ σ 32 x_19.toNatClampNeg) fun x_20 =>
        fX_back_b46 N (fX_back_b12 N n) σ x_20 u_16 x1))
def fX_back (N : Nat) (σ : xS) : Option (xS × Int32) :=
  nmv (xI σ 31) fun x_1 =>
  if x_1 = 0 then (
    some (σ, (-5)))
  else (
    fX_back_b12 N N σ 0)
theorem bX_back_77 {N : Nat} (C0 : xCx p l s m args meth c RX0 cX0_back 2 (some .int) L A) (hRo : 0 ≤ R.frames ∧ 0 ≤ R.locals) {σ' : xS} {r : Int32} {k12 : xS → Int32 → Option (xS × Int32)} (hk12 : ∀ (σ : xS) (x1 : Int32) (H : Heap) (locs : List Loc) (ls : Array Slot), xG A L g s σ H locs → lv_has ls 2 [(0, .ref L.1), (1, .int x1)] → k12 σ x1 = some (σ', r) → W p l e R s m args below meth c H locs 0 0 (xZ below L g A s args σ' (some (.int r)) 0 0) (F0 m 12 ls [])) (σ : xS) (y0 : Int32) (y1 : Nat) (x1 : Int32) (H : Heap) (locs : List Loc) (ls : Array Slot) (hG : xG A L g s σ H locs) (hl : lv_has ls 2 [(0, .ref L.1), (1, .int x1)]) (hF : fX_back_b77 N k12 σ y0 y1 x1 = some (σ', r)) : W p l e R s m args below meth c H locs 0 0 (xZ below L g A s args σ' (some (.int r)) 0 0) (F0 m 77 ls [.int y0, .ref (g.1 y1)]) := by
  have hx := C0.1
  have hb := C0.2.1
  have hst := C0.2.2.2.2.2.2.2.2.2.2
  unfold fX_back_b77 at hF
  refine x_swp C0 hG 7 (by decide) q339 dX0_back_77 hF (fun σ_27 H locs hG hF => ?_)
  refine w_iinc hx hb dX0_back_80 hl 1 rfl (v := 1) (by decide) (by decide) hF (fun x_28 ls hl hF => ?_)
  have hl : lv_has ls 2 [(1, .int x_28), (0, .ref L.1)] := hl
  refine lv_goto (tgt := 12) hx hb dX0_back_83 (by decide) ?_
  exact hk12 _ _ H locs ls hG (lv_sub hl [1, 0] rfl) hF
theorem bX_back_46 {N : Nat} (C0 : xCx p l s m args meth c RX0 cX0_back 2 (some .int) L A) (hRo : 0 ≤ R.frames ∧ 0 ≤ R.locals) {σ' : xS} {r : Int32} {k12 : xS → Int32 → Option (xS × Int32)} (hk12 : ∀ (σ : xS) (x1 : Int32) (H : Heap) (locs : List Loc) (ls : Array Slot), xG A L g s σ H locs → lv_has ls 2 [(0, .ref L.1), (1, .int x1)] → k12 σ x1 = some (σ', r) → W p l e R s m args below meth c H locs 0 0 (xZ below L g A s args σ' (some (.int r)) 0 0) (F0 m 12 ls [])) (σ : xS) (y0 : Int32) (y1 : Nat) (x1 : Int32) (H : Heap) (locs : List Loc) (ls : Array Slot) (hG : xG A L g s σ H locs) (hl : lv_has ls 2 [(0, .ref L.1), (1, .int x1)]) (hF : fX_back_b46 N k12 σ y0 y1 x1 = some (σ', r)) : W p l e R s m args below meth c H locs 0 0 (xZ below L g A s args σ' (some (.int r)) 0 0) (F0 m 46 ls [.int y0, .ref (g.1 y1)]) := by
  have hx := C0.1
  have hb := C0.2.1
  have hst := C0.2.2.2.2.2.2.2.2.2.2
  unfold fX_back_b46 at hF
  refine x_swp C0 hG 6 (by decide) q338 dX0_back_46 hF (fun σ_21 H locs hG hF => ?_)
  refine lv_aload_n hx hb dX0_back_49 rfl (lv_at hl 0 rfl) ?_
  refine x_geta C0 hG 0 (by decide) rfl (by decide) q174 dX0_back_50 ?_
  refine lv_iload_n hx hb dX0_back_53 rfl (lv_at hl 1 rfl) ?_
  refine x_swld C0 hG dX0_back_54 hF (fun u_22 hF => ?_)
  refine lv_iload_n hx hb dX0_back_55 rfl (lv_at hl 1 rfl) ?_
  refine lv_aload_n hx hb dX0_back_56 rfl (lv_at hl 0 rfl) ?_
  refine x_geti C0 hG 33 (by decide) rfl q209 dX0_back_57 hF (fun x_23 hF => ?_)
  refine lv_icmp_ge (tgt := 76) hx hb dX0_back_60 (by decide) (fun c_24 => ?_) (fun c_24 => ?_)
  · have hF := ifp hF c_24
    refine lv_iconst (v := 0) hx hb dX0_back_76 (by decide) ?_
    exact bX_back_77 C0 hRo hk12 _ _ _ _ H locs ls hG (lv_sub hl [0, 1] rfl) hF
  · have hF := ifn hF c_24
    refine lv_aload_n hx hb dX0_back_63 rfl (lv_at hl 0 rfl) ?_
    refine x_geta C0 hG 32 (by decide) rfl (by decide) q208 dX0_back_64 ?_
    refine lv_iconst (v := 2) hx hb dX0_back_67 (by decide) ?_
    refine lv_iload_n hx hb dX0_back_68 rfl (lv_at hl 1 rfl) ?_
    refine lv_imul hx hb dX0_back_69 ?_
    refine lv_iconst (v := 1) hx hb dX0_back_70 (by decide) ?_
    refine lv_iadd hx hb dX0_back_71 ?_
    refine w_nm hF (fun x_25 hF => ?_)
    refine x_ld C0 hG 32 ⟨by decide, rfl, rfl⟩ dX0_back_72 hF (fun x_26 hF => ?_)
    refine lv_goto (tgt := 77) hx hb dX0_back_73 (by decide) ?_
    exact bX_back_77 C0 hRo hk12 _ _ _ _ H locs ls hG (lv_sub hl [0, 1] rfl) hF
theorem bX_back_12 {N : Nat} (C0 : xCx p l s m args meth c RX0 cX0_back 2 (some .int) L A) (hRo : 0 ≤ R.frames ∧ 0 ≤ R.locals) {σ' : xS} {r : Int32} : ∀ (n : Nat) (σ : xS) (x1 : Int32) (H : Heap) (locs : List Loc) (ls : Array Slot), xG A L g s σ H locs → lv_has ls 2 [(0, .ref L.1), (1, .int x1)] → fX_back_b12 N n σ x1 = some (σ', r) → W p l e R s m args below meth c H locs 0 0 (xZ below L g A s args σ' (some (.int r)) 0 0) (F0 m 12 ls []) := by
  have hx := C0.1
  have hb := C0.2.1
  have hst := C0.2.2.2.2.2.2.2.2.2.2
  intro n
  induction n with
  | zero => intro σ x1 H locs ls hG hl hF; cases hF
  | succ n ih =>
    intro σ x1 H locs ls hG hl hF
    unfold fX_back_b12 at hF
    refine lv_iload_n hx hb dX0_back_12 rfl (lv_at hl 1 rfl) ?_
    refine lv_aload_n hx hb dX0_back_13 rfl (lv_at hl 0 rfl) ?_
    refine x_geti C0 hG 1 (by decide) rfl q175 dX0_back_14 hF (fun x_3 hF => ?_)
    refine lv_icmp_ge (tgt := 86) hx hb dX0_back_17 (by decide) (fun c_4 => ?_) (fun c_4 => ?_)
    · have hF := ifp hF c_4
      refine lv_aload_n hx hb dX0_back_86 rfl (lv_at hl 0 rfl) ?_
      refine lv_aload_n hx hb dX0_back_87 rfl (lv_at hl 0 rfl) ?_
      refine x_geti C0 hG 34 (by decide) rfl q210 dX0_back_88 hF (fun x_5 hF => ?_)
      refine x_puti C0 hG 26 (by decide) rfl q202 dX0_back_91 (Or.inl (by decide)) hF (fun σ_6 H locs hG hF => ?_)
      refine lv_aload_n hx hb dX0_back_94 rfl (lv_at hl 0 rfl) ?_
      refine lv_aload_n hx hb dX0_back_95 rfl (lv_at hl 0 rfl) ?_
      refine x_geti C0 hG 35 (by decide) rfl q211 dX0_back_96 hF (fun x_7 hF => ?_)
      refine x_puti C0 hG 27 (by decide) rfl q203 dX0_back_99 (Or.inl (by decide)) hF (fun σ_8 H locs hG hF => ?_)
      refine lv_aload_n hx hb dX0_back_102 rfl (lv_at hl 0 rfl) ?_
      refine lv_aload_n hx hb dX0_back_103 rfl (lv_at hl 0 rfl) ?_
      refine x_geti C0 hG 36 (by decide) rfl q212 dX0_back_104 hF (fun x_9 hF => ?_)
      refine x_puti C0 hG 28 (by decide) rfl q204 dX0_back_107 (Or.inl (by decide)) hF (fun σ_10 H locs hG hF => ?_)
      refine lv_aload_n hx hb dX0_back_110 rfl (lv_at hl 0 rfl) ?_
      refine lv_aload_n hx hb dX0_back_111 rfl (lv_at hl 0 rfl) ?_
      refine x_geti C0 hG 37 (by decide) rfl q213 dX0_back_112 hF (fun x_11 hF => ?_)
      refine x_puti C0 hG 29 (by decide) rfl q205 dX0_back_115 (Or.inl (by decide)) hF (fun σ_12 H locs hG hF => ?_)
      refine lv_aload_n hx hb dX0_back_118 rfl (lv_at hl 0 rfl) ?_
      refine lv_aload_n hx hb dX0_back_119 rfl (lv_at hl 0 rfl) ?_
      refine x_geti C0 hG 38 (by decide) rfl q214 dX0_back_120 hF (fun x_13 hF => ?_)
      refine x_puti C0 hG 30 (by decide) rfl q206 dX0_back_123 (Or.inl (by decide)) hF (fun σ_14 H locs hG hF => ?_)
      refine lv_aload_n hx hb dX0_back_126 rfl (lv_at hl 0 rfl) ?_
      refine x_geti C0 hG 26 (by decide) rfl q202 dX0_back_127 hF (fun x_15 hF => ?_)
      exact x_iret C0 hG ⟨by omega, by omega⟩ dX0_back_130 hF
    · have hF := ifn hF c_4
      refine lv_aload_n hx hb dX0_back_20 rfl (lv_at hl 0 rfl) ?_
      refine x_geta C0 hG 0 (by decide) rfl (by decide) q174 dX0_back_21 ?_
      refine lv_iload_n hx hb dX0_back_24 rfl (lv_at hl 1 rfl) ?_
      refine x_swld C0 hG dX0_back_25 hF (fun u_16 hF => ?_)
      refine lv_iload_n hx hb dX0_back_26 rfl (lv_at hl 1 rfl) ?_
      refine lv_aload_n hx hb dX0_back_27 rfl (lv_at hl 0 rfl) ?_
      refine x_geti C0 hG 33 (by decide) rfl q209 dX0_back_28 hF (fun x_17 hF => ?_)
      refine lv_icmp_ge (tgt := 45) hx hb dX0_back_31 (by decide) (fun c_18 => ?_) (fun c_18 => ?_)
      · have hF := ifp hF c_18
        refine lv_iconst (v := 0) hx hb dX0_back_45 (by decide) ?_
        exact bX_back_46 C0 hRo ih _ _ _ _ H locs ls hG (lv_sub hl [0, 1] rfl) hF
      · have hF := ifn hF c_18
        refine lv_aload_n hx hb dX0_back_34 rfl (lv_at hl 0 rfl) ?_
        refine x_geta C0 hG 32 (by decide) rfl (by decide) q208 dX0_back_35 ?_
        refine lv_iconst (v := 2) hx hb dX0_back_38 (by decide) ?_
        refine lv_iload_n hx hb dX0_back_39 rfl (lv_at hl 1 rfl) ?_
        refine lv_imul hx hb dX0_back_40 ?_
        refine w_nm hF (fun x_19 hF => ?_)
        refine x_ld C0 hG 32 ⟨by decide, rfl, rfl⟩ dX0_back_41 hF (fun x_20 hF => ?_)
        refine lv_goto (tgt := 46) hx hb dX0_back_42 (by decide) ?_
        exact bX_back_46 C0 hRo ih _ _ _ _ H locs ls hG (lv_sub hl [0, 1] rfl) hF
theorem bX_back_e {N : Nat} (C0 : xCx p l s m args meth c RX0 cX0_back 2 (some .int) L A) (hRo : 0 ≤ R.frames ∧ 0 ≤ R.locals) {σ' : xS} {r : Int32} (σ : xS) (H : Heap) (locs : List Loc) (ls : Array Slot) (hG : xG A L g s σ H locs) (hl : lv_has ls 2 [(0, .ref L.1)]) (hF : fX_back N σ = some (σ', r)) : W p l e R s m args below meth c H locs 0 0 (xZ below L g A s args σ' (some (.int r)) 0 0) (F0 m 0 ls []) := by
  have hx := C0.1
  have hb := C0.2.1
  have hst := C0.2.2.2.2.2.2.2.2.2.2
  unfold fX_back at hF
  refine lv_aload_n hx hb dX0_back_0 rfl (lv_at hl 0 rfl) ?_
  refine x_geti C0 hG 31 (by decide) rfl q207 dX0_back_1 hF (fun x_1 hF => ?_)
  refine lv_if_ne (tgt := 10) hx hb dX0_back_4 (by decide) (fun c_2 => ?_) (fun c_2 => ?_)
  · have hF := ifn hF c_2
    refine lv_iconst (v := 0) hx hb dX0_back_10 (by decide) ?_
    refine lv_istore_n (lv' := [(1, .int 0), (0, .ref L.1)]) hx hb dX0_back_11 rfl hl (by decide) rfl (fun ls hl => ?_)
    exact bX_back_12 C0 hRo N _ _ H locs ls hG (lv_sub hl [1, 0] rfl) hF
  · have hF := ifp hF c_2
    refine lv_bipush (v := (-5)) hx hb dX0_back_7 (by decide) ?_
    exact x_iret C0 hG ⟨by omega, by omega⟩ dX0_back_9 hF
theorem mtX_back (l : Launch) (hst : l.stackTraces = false) {N : Nat} {L : xL} {g : xg} {σ σ' : xS} {r : Int32} (hF : fX_back N σ = some (σ', r)) : xMet l yX0_back cX0_back 2 (some .int) (0) (0) 0 0 [.ref L.1] L g σ (some (.int r)) σ' := by
  refine x_head hst (by decide) rfl ?_
  intro p e s m below meth c A C0 hG
  have hl := lv_entry ([.ref L.1]) (n := 2) (Nat.le_of_ble_eq_true rfl)
  rw [lg_entry_eq]
  generalize (lg_sl ([.ref L.1]) ++ List.replicate (2 - (lg_sl ([.ref L.1])).length) Slot.unset).toArray = ls at hl ⊢
  have hl : lv_has ls 2 [(0, .ref L.1)] := hl
  exact bX_back_e C0 ⟨Nat.le_refl _, Nat.le_refl _⟩ _ _ [] ls hG hl hF
def fX_ran_b20 (N : Nat) (σ : xS) : Option (xS × Unit) :=
  nmv (xI σ 39) fun x_5 =>
  nmv (xSi σ 39 (x_5 + 1)) fun σ_6 =>
  some (σ_6, ())
def fX_ran (N : Nat) (σ : xS) (a0 : Int32) : Option (xS × Unit) :=
  nmv (xI σ 39) fun x_1 =>
  if 24 ≤ x_1 then (
    fX_ran_b20 N σ)
  else (
    nmv (xI σ 39) fun x_3 =>
    chk x_3 24 <| nmv (xSj σ 40 x_3.toNatClampNeg (a0.toInt8.toInt32).toInt8.toInt32) fun σ_4 =>
    fX_ran_b20 N σ_4)
theorem bX_ran_20 {N : Nat} (C0 : xCx p l s m args meth c RX0 cX0_ran 2 none L A) (hRo : 0 ≤ R.frames ∧ 0 ≤ R.locals) {σ' : xS} {r : Unit} (σ : xS) (H : Heap) (locs : List Loc) (ls : Array Slot) (hG : xG A L g s σ H locs) (hl : lv_has ls 2 [(0, .ref L.1)]) (hF : fX_ran_b20 N σ = some (σ', r)) : W p l e R s m args below meth c H locs 0 0 (xZ below L g A s args σ' none 0 0) (F0 m 20 ls []) := by
  have hx := C0.1
  have hb := C0.2.1
  have hst := C0.2.2.2.2.2.2.2.2.2.2
  unfold fX_ran_b20 at hF
  refine lv_aload_n hx hb dX0_ran_20 rfl (lv_at hl 0 rfl) ?_
  refine lv_dup hx hb dX0_ran_21 rfl ?_
  refine x_geti C0 hG 39 (by decide) rfl q215 dX0_ran_22 hF (fun x_5 hF => ?_)
  refine lv_iconst (v := 1) hx hb dX0_ran_25 (by decide) ?_
  refine lv_iadd hx hb dX0_ran_26 ?_
  refine x_puti C0 hG 39 (by decide) rfl q215 dX0_ran_27 (Or.inl (by decide)) hF (fun σ_6 H locs hG hF => ?_)
  exact x_vret C0 hG ⟨by omega, by omega⟩ dX0_ran_30 hF
theorem bX_ran_e {N : Nat} (C0 : xCx p l s m args meth c RX0 cX0_ran 2 none L A) (hRo : 0 ≤ R.frames ∧ 0 ≤ R.locals) {σ' : xS} {r : Unit} (σ : xS) (a0 : Int32) (H : Heap) (locs : List Loc) (ls : Array Slot) (hG : xG A L g s σ H locs) (hl : lv_has ls 2 [(0, .ref L.1), (1, .int a0)]) (hF : fX_ran N σ a0 = some (σ', r)) : W p l e R s m args below meth c H locs 0 0 (xZ below L g A s args σ' none 0 0) (F0 m 0 ls []) := by
  have hx := C0.1
  have hb := C0.2.1
  have hst := C0.2.2.2.2.2.2.2.2.2.2
  unfold fX_ran at hF
  refine lv_aload_n hx hb dX0_ran_0 rfl (lv_at hl 0 rfl) ?_
  refine x_geti C0 hG 39 (by decide) rfl q215 dX0_ran_1 hF (fun x_1 hF => ?_)
  refine lv_bipush (v := 24) hx hb dX0_ran_4 (by decide) ?_
  refine lv_icmp_ge (tgt := 20) hx hb dX0_ran_6 (by decide) (fun c_2 => ?_) (fun c_2 => ?_)
  · have hF := ifp hF c_2
    exact bX_ran_20 C0 hRo _  H locs ls hG (lv_sub hl [0] rfl) hF
  · have hF := ifn hF c_2
    refine lv_aload_n hx hb dX0_ran_9 rfl (lv_at hl 0 rfl) ?_
    refine x_geta C0 hG 40 (by decide) rfl (by decide) q216 dX0_ran_10 ?_
    refine lv_aload_n hx hb dX0_ran_13 rfl (lv_at hl 0 rfl) ?_
    refine x_geti C0 hG 39 (by decide) rfl q215 dX0_ran_14 hF (fun x_3 hF => ?_)
    refine lv_iload_n hx hb dX0_ran_17 rfl (lv_at hl 1 rfl) ?_
    refine lv_i2b (v := a0.toInt8.toInt32) hx hb dX0_ran_18 rfl ?_
    refine x_bst C0 hG 40 ⟨by decide, rfl, rfl⟩ dX0_ran_19 hF (fun σ_4 H locs hG hF => ?_)
    exact bX_ran_20 C0 hRo _  H locs ls hG (lv_sub hl [0] rfl) hF
theorem mtX_ran (l : Launch) (hst : l.stackTraces = false) {N : Nat} {L : xL} {g : xg} {σ σ' : xS} {r : Unit} {a0 : Int32} (hF : fX_ran N σ a0 = some (σ', r)) : xMet l yX0_ran cX0_ran 2 none (0) (0) 0 0 [.ref L.1, .int a0] L g σ none σ' := by
  refine x_head hst (by decide) rfl ?_
  intro p e s m below meth c A C0 hG
  have hl := lv_entry ([.ref L.1, .int a0]) (n := 2) (Nat.le_of_ble_eq_true rfl)
  rw [lg_entry_eq]
  generalize (lg_sl ([.ref L.1, .int a0]) ++ List.replicate (2 - (lg_sl ([.ref L.1, .int a0])).length) Slot.unset).toArray = ls at hl ⊢
  have hl : lv_has ls 2 [(0, .ref L.1), (1, .int a0)] := hl
  exact bX_ran_e C0 ⟨Nat.le_refl _, Nat.le_refl _⟩ _ _ _ [] ls hG hl hF
end XWALK5
