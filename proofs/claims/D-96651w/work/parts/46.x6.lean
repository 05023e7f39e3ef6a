section XWALK6
variable {p : Program} {l : Launch} {e : Env} {R : Room} {s : State} {m : MethodId} {args : Array Value} {below : List Frame} {meth : Method} {c : Code} {A : Nat → Prop}
variable {L : xL} {g : xg}
def fX_trace (N : Nat) (σ : xS) (a0 : Int32) : Option (xS × Int32) :=
  if a0 < 0 then (
    some (σ, (-1)))
  else (
    nmv (xI σ 39) fun x_2 =>
    if x_2 ≤ a0 then (
      some (σ, (-1)))
    else (
      if 24 ≤ a0 then (
        some (σ, (-1)))
      else (
        chk a0 24 <| nmv (xJ σ 40 a0.toNatClampNeg) fun x_5 =>
        some (σ, x_5))))
theorem bX_trace_e {N : Nat} (C0 : xCx p l s m args meth c RX0 cX0_trace 2 (some .int) L A) (hRo : 0 ≤ R.frames ∧ 0 ≤ R.locals) {σ' : xS} {r : Int32} (σ : xS) (a0 : Int32) (H : Heap) (locs : List Loc) (ls : Array Slot) (hG : xG A L g s σ H locs) (hl : lv_has ls 2 [(0, .ref L.1), (1, .int a0)]) (hF : fX_trace N σ a0 = some (σ', r)) : W p l e R s m args below meth c H locs 0 0 (xZ below L g A s args σ' (some (.int r)) 0 0) (F0 m 0 ls []) := by
  have hx := C0.1
  have hb := C0.2.1
  have hst := C0.2.2.2.2.2.2.2.2.2.2
  unfold fX_trace at hF
  refine lv_iload_n hx hb dX0_trace_0 rfl (lv_at hl 1 rfl) ?_
  refine lv_if_lt (tgt := 27) hx hb dX0_trace_1 (by decide) (fun c_1 => ?_) (fun c_1 => ?_)
  · have hF := ifp hF c_1
    refine lv_iconst (v := (-1)) hx hb dX0_trace_27 (by decide) ?_
    exact x_iret C0 hG ⟨by omega, by omega⟩ dX0_trace_28 hF
  · have hF := ifn hF c_1
    refine lv_iload_n hx hb dX0_trace_4 rfl (lv_at hl 1 rfl) ?_
    refine lv_aload_n hx hb dX0_trace_5 rfl (lv_at hl 0 rfl) ?_
    refine x_geti C0 hG 39 (by decide) rfl q215 dX0_trace_6 hF (fun x_2 hF => ?_)
    refine lv_icmp_ge (tgt := 27) hx hb dX0_trace_9 (by decide) (fun c_3 => ?_) (fun c_3 => ?_)
    · have hF := ifp hF c_3
      refine lv_iconst (v := (-1)) hx hb dX0_trace_27 (by decide) ?_
      exact x_iret C0 hG ⟨by omega, by omega⟩ dX0_trace_28 hF
    · have hF := ifn hF c_3
      refine lv_iload_n hx hb dX0_trace_12 rfl (lv_at hl 1 rfl) ?_
      refine lv_bipush (v := 24) hx hb dX0_trace_13 (by decide) ?_
      refine lv_icmp_ge (tgt := 27) hx hb dX0_trace_15 (by decide) (fun c_4 => ?_) (fun c_4 => ?_)
      · have hF := ifp hF c_4
        refine lv_iconst (v := (-1)) hx hb dX0_trace_27 (by decide) ?_
        exact x_iret C0 hG ⟨by omega, by omega⟩ dX0_trace_28 hF
      · have hF := ifn hF c_4
        refine lv_aload_n hx hb dX0_trace_18 rfl (lv_at hl 0 rfl) ?_
        refine x_geta C0 hG 40 (by decide) rfl (by decide) q216 dX0_trace_19 ?_
        refine lv_iload_n hx hb dX0_trace_22 rfl (lv_at hl 1 rfl) ?_
        refine x_bld C0 hG 40 ⟨by decide, rfl, rfl⟩ dX0_trace_23 hF (fun x_5 hF => ?_)
        refine lv_goto (tgt := 28) hx hb dX0_trace_24 (by decide) ?_
        exact x_iret C0 hG ⟨by omega, by omega⟩ dX0_trace_28 hF
theorem mtX_trace (l : Launch) (hst : l.stackTraces = false) {N : Nat} {L : xL} {g : xg} {σ σ' : xS} {r : Int32} {a0 : Int32} (hF : fX_trace N σ a0 = some (σ', r)) : xMet l yX0_trace cX0_trace 2 (some .int) (0) (0) 0 0 [.ref L.1, .int a0] L g σ (some (.int r)) σ' := by
  refine x_head hst (by decide) rfl ?_
  intro p e s m below meth c A C0 hG
  have hl := lv_entry ([.ref L.1, .int a0]) (n := 2) (Nat.le_of_ble_eq_true rfl)
  rw [lg_entry_eq]
  generalize (lg_sl ([.ref L.1, .int a0]) ++ List.replicate (2 - (lg_sl ([.ref L.1, .int a0])).length) Slot.unset).toArray = ls at hl ⊢
  have hl : lv_has ls 2 [(0, .ref L.1), (1, .int a0)] := hl
  exact bX_trace_e C0 ⟨Nat.le_refl _, Nat.le_refl _⟩ _ _ _ [] ls hG hl hF
def fX_isBody (N : Nat) (σ : xS) (a0 : Int32) : Option (xS × Int32) :=
  nmv (xI σ 42) fun x_1 =>
  obi (fX_in N σ a0 0 (x_1 - 1)) fun σ_2 r_3 =>
  chb r_3 (some (σ_2, r_3))
theorem bX_isBody_e {N : Nat} (C0 : xCx p l s m args meth c RX0 cX0_isBody 2 (some .boolean) L A) (hRo : 1 ≤ R.frames ∧ 22 ≤ R.locals) {σ' : xS} {r : Int32} (σ : xS) (a0 : Int32) (H : Heap) (locs : List Loc) (ls : Array Slot) (hG : xG A L g s σ H locs) (hl : lv_has ls 2 [(0, .ref L.1), (1, .int a0)]) (hF : fX_isBody N σ a0 = some (σ', r)) : W p l e R s m args below meth c H locs 0 0 (xZ below L g A s args σ' (some (.int r)) 0 0) (F0 m 0 ls []) := by
  have hx := C0.1
  have hb := C0.2.1
  have hst := C0.2.2.2.2.2.2.2.2.2.2
  unfold fX_isBody at hF
  refine lv_iload_n hx hb dX0_isBody_0 rfl (lv_at hl 1 rfl) ?_
  refine lv_iconst (v := 0) hx hb dX0_isBody_1 (by decide) ?_
  refine lv_aload_n hx hb dX0_isBody_2 rfl (lv_at hl 0 rfl) ?_
  refine x_geti C0 hG 42 (by decide) rfl q218 dX0_isBody_3 hF (fun x_1 hF => ?_)
  refine lv_iconst (v := 1) hx hb dX0_isBody_6 (by decide) ?_
  refine lv_isub hx hb dX0_isBody_7 ?_
  obtain ⟨σ_2, r_3, e_4, hF⟩ := obi_of hF
  refine x_cSi0 (As := [.int a0, .int 0, .int (x_1 - 1)]) (rest := []) C0 hG (mtX_in l hst e_4) (lw_S q316 q317 q100 q318) yd_X0_in ⟨by omega, by omega⟩ ⟨by omega, by omega⟩ rfl rfl hl.1 (Nat.le_of_ble_eq_true rfl) dX0_isBody_8 (fun H locs hG => ?_)
  exact x_zret C0 hG ⟨by omega, by omega⟩ dX0_isBody_11 hF
theorem mtX_isBody (l : Launch) (hst : l.stackTraces = false) {N : Nat} {L : xL} {g : xg} {σ σ' : xS} {r : Int32} {a0 : Int32} (hF : fX_isBody N σ a0 = some (σ', r)) : xMet l yX0_isBody cX0_isBody 2 (some .boolean) (1) (22) 0 0 [.ref L.1, .int a0] L g σ (some (.int r)) σ' := by
  refine x_head hst (by decide) rfl ?_
  intro p e s m below meth c A C0 hG
  have hl := lv_entry ([.ref L.1, .int a0]) (n := 2) (Nat.le_of_ble_eq_true rfl)
  rw [lg_entry_eq]
  generalize (lg_sl ([.ref L.1, .int a0]) ++ List.replicate (2 - (lg_sl ([.ref L.1, .int a0])).length) Slot.unset).toArray = ls at hl ⊢
  have hl : lv_has ls 2 [(0, .ref L.1), (1, .int a0)] := hl
  exact bX_isBody_e C0 ⟨Nat.le_refl _, Nat.le_refl _⟩ _ _ _ [] ls hG hl hF
def fX_count (N : Nat) (σ : xS) (a0 : Int32) : Option (xS × Int32) :=
  if a0 = 0 then (
    nmv (xI σ 1) fun x_2 =>
    some (σ, x_2))
  else (
  if a0 = 1 then (
    nmv (xI σ 9) fun x_4 =>
    some (σ, x_4))
  else (
  if a0 = 2 then (
    nmv (xI σ 6) fun x_6 =>
    some (σ, x_6))
  else (
  if a0 = 3 then (
    nmv (xI σ 42) fun x_8 =>
    some (σ, x_8))
  else (
  if a0 = 4 then (
    nmv (xI σ 39) fun x_10 =>
    some (σ, x_10))
  else (
    some (σ, (-1)))))))
theorem bX_count_e {N : Nat} (C0 : xCx p l s m args meth c RX0 cX0_count 2 (some .int) L A) (hRo : 0 ≤ R.frames ∧ 0 ≤ R.locals) {σ' : xS} {r : Int32} (σ : xS) (a0 : Int32) (H : Heap) (locs : List Loc) (ls : Array Slot) (hG : xG A L g s σ H locs) (hl : lv_has ls 2 [(0, .ref L.1), (1, .int a0)]) (hF : fX_count N σ a0 = some (σ', r)) : W p l e R s m args below meth c H locs 0 0 (xZ below L g A s args σ' (some (.int r)) 0 0) (F0 m 0 ls []) := by
  have hx := C0.1
  have hb := C0.2.1
  have hst := C0.2.2.2.2.2.2.2.2.2.2
  unfold fX_count at hF
  refine lv_iload_n hx hb dX0_count_0 rfl (lv_at hl 1 rfl) ?_
  by_cases c_1 : a0 = 0
  · have hF := ifp hF c_1
    refine lv_tableIn (off := 35) (tgt := 36) hx hb dX0_count_1 (by rw [c_1]; decide) (by rw [c_1]; decide) (by rw [c_1]; rfl) (by decide) ?_
    refine lv_aload_n hx hb dX0_count_36 rfl (lv_at hl 0 rfl) ?_
    refine x_geti C0 hG 1 (by decide) rfl q175 dX0_count_37 hF (fun x_2 hF => ?_)
    exact x_iret C0 hG ⟨by omega, by omega⟩ dX0_count_40 hF
  have hF := ifn hF c_1
  by_cases c_3 : a0 = 1
  · have hF := ifp hF c_3
    refine lv_tableIn (off := 40) (tgt := 41) hx hb dX0_count_1 (by rw [c_3]; decide) (by rw [c_3]; decide) (by rw [c_3]; rfl) (by decide) ?_
    refine lv_aload_n hx hb dX0_count_41 rfl (lv_at hl 0 rfl) ?_
    refine x_geti C0 hG 9 (by decide) rfl q185 dX0_count_42 hF (fun x_4 hF => ?_)
    exact x_iret C0 hG ⟨by omega, by omega⟩ dX0_count_45 hF
  have hF := ifn hF c_3
  by_cases c_5 : a0 = 2
  · have hF := ifp hF c_5
    refine lv_tableIn (off := 45) (tgt := 46) hx hb dX0_count_1 (by rw [c_5]; decide) (by rw [c_5]; decide) (by rw [c_5]; rfl) (by decide) ?_
    refine lv_aload_n hx hb dX0_count_46 rfl (lv_at hl 0 rfl) ?_
    refine x_geti C0 hG 6 (by decide) rfl q180 dX0_count_47 hF (fun x_6 hF => ?_)
    exact x_iret C0 hG ⟨by omega, by omega⟩ dX0_count_50 hF
  have hF := ifn hF c_5
  by_cases c_7 : a0 = 3
  · have hF := ifp hF c_7
    refine lv_tableIn (off := 50) (tgt := 51) hx hb dX0_count_1 (by rw [c_7]; decide) (by rw [c_7]; decide) (by rw [c_7]; rfl) (by decide) ?_
    refine lv_aload_n hx hb dX0_count_51 rfl (lv_at hl 0 rfl) ?_
    refine x_geti C0 hG 42 (by decide) rfl q218 dX0_count_52 hF (fun x_8 hF => ?_)
    exact x_iret C0 hG ⟨by omega, by omega⟩ dX0_count_55 hF
  have hF := ifn hF c_7
  by_cases c_9 : a0 = 4
  · have hF := ifp hF c_9
    refine lv_tableIn (off := 55) (tgt := 56) hx hb dX0_count_1 (by rw [c_9]; decide) (by rw [c_9]; decide) (by rw [c_9]; rfl) (by decide) ?_
    refine lv_aload_n hx hb dX0_count_56 rfl (lv_at hl 0 rfl) ?_
    refine x_geti C0 hG 39 (by decide) rfl q215 dX0_count_57 hF (fun x_10 hF => ?_)
    exact x_iret C0 hG ⟨by omega, by omega⟩ dX0_count_60 hF
  have hF := ifn hF c_9
  refine lv_tableOut (tgt := 61) hx hb dX0_count_1 (sw_out (fun q_ => by
      have zc_1 := lv_neT c_1 (show ((0 : Int32)).toInt = 0 from by decide)
      have zc_3 := lv_neT c_3 (show ((1 : Int32)).toInt = 1 from by decide)
      have zc_5 := lv_neT c_5 (show ((2 : Int32)).toInt = 2 from by decide)
      have zc_7 := lv_neT c_7 (show ((3 : Int32)).toInt = 3 from by decide)
      have zc_9 := lv_neT c_9 (show ((4 : Int32)).toInt = 4 from by decide)
      omega)) (by decide) ?_
  refine lv_iconst (v := (-1)) hx hb dX0_count_61 (by decide) ?_
  exact x_iret C0 hG ⟨by omega, by omega⟩ dX0_count_62 hF
theorem mtX_count (l : Launch) (hst : l.stackTraces = false) {N : Nat} {L : xL} {g : xg} {σ σ' : xS} {r : Int32} {a0 : Int32} (hF : fX_count N σ a0 = some (σ', r)) : xMet l yX0_count cX0_count 2 (some .int) (0) (0) 0 0 [.ref L.1, .int a0] L g σ (some (.int r)) σ' := by
  refine x_head hst (by decide) rfl ?_
  intro p e s m below meth c A C0 hG
  have hl := lv_entry ([.ref L.1, .int a0]) (n := 2) (Nat.le_of_ble_eq_true rfl)
  rw [lg_entry_eq]
  generalize (lg_sl ([.ref L.1, .int a0]) ++ List.replicate (2 - (lg_sl ([.ref L.1, .int a0])).length) Slot.unset).toArray = ls at hl ⊢
  have hl : lv_has ls 2 [(0, .ref L.1), (1, .int a0)] := hl
  exact bX_count_e C0 ⟨Nat.le_refl _, Nat.le_refl _⟩ _ _ _ [] ls hG hl hF
end XWALK6
