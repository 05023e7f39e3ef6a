theorem yd_X23_size : (yX23_size).cls = RX23 ∧ (yX23_size).cls ≠ "java/lang/invoke/MethodHandle" ∧ (yX23_size).cls ≠ "java/lang/invoke/VarHandle" ∧ (parseMethodDescriptor (yX23_size).desc).map (fun d => d.parameters.length) = some 0 := by decide +kernel
theorem yd_X23_at : (yX23_at).cls = RX23 ∧ (yX23_at).cls ≠ "java/lang/invoke/MethodHandle" ∧ (yX23_at).cls ≠ "java/lang/invoke/VarHandle" ∧ (parseMethodDescriptor (yX23_at).desc).map (fun d => d.parameters.length) = some 1 := by decide +kernel
theorem yd_X23_put : (yX23_put).cls = RX23 ∧ (yX23_put).cls ≠ "java/lang/invoke/MethodHandle" ∧ (yX23_put).cls ≠ "java/lang/invoke/VarHandle" ∧ (parseMethodDescriptor (yX23_put).desc).map (fun d => d.parameters.length) = some 2 := by decide +kernel
theorem yd_X24_size : (yX24_size).cls = RX24 ∧ (yX24_size).cls ≠ "java/lang/invoke/MethodHandle" ∧ (yX24_size).cls ≠ "java/lang/invoke/VarHandle" ∧ (parseMethodDescriptor (yX24_size).desc).map (fun d => d.parameters.length) = some 0 := by decide +kernel
theorem yd_X24_at : (yX24_at).cls = RX24 ∧ (yX24_at).cls ≠ "java/lang/invoke/MethodHandle" ∧ (yX24_at).cls ≠ "java/lang/invoke/VarHandle" ∧ (parseMethodDescriptor (yX24_at).desc).map (fun d => d.parameters.length) = some 1 := by decide +kernel
theorem yd_X24_put : (yX24_put).cls = RX24 ∧ (yX24_put).cls ≠ "java/lang/invoke/MethodHandle" ∧ (yX24_put).cls ≠ "java/lang/invoke/VarHandle" ∧ (parseMethodDescriptor (yX24_put).desc).map (fun d => d.parameters.length) = some 2 := by decide +kernel
theorem yd_X25_at : (yX25_at).cls = RX25 ∧ (yX25_at).cls ≠ "java/lang/invoke/MethodHandle" ∧ (yX25_at).cls ≠ "java/lang/invoke/VarHandle" ∧ (parseMethodDescriptor (yX25_at).desc).map (fun d => d.parameters.length) = some 1 := by decide +kernel
theorem yd_X25_put : (yX25_put).cls = RX25 ∧ (yX25_put).cls ≠ "java/lang/invoke/MethodHandle" ∧ (yX25_put).cls ≠ "java/lang/invoke/VarHandle" ∧ (parseMethodDescriptor (yX25_put).desc).map (fun d => d.parameters.length) = some 2 := by decide +kernel
theorem yd_X26_at : (yX26_at).cls = RX26 ∧ (yX26_at).cls ≠ "java/lang/invoke/MethodHandle" ∧ (yX26_at).cls ≠ "java/lang/invoke/VarHandle" ∧ (parseMethodDescriptor (yX26_at).desc).map (fun d => d.parameters.length) = some 1 := by decide +kernel
theorem yd_X26_put : (yX26_put).cls = RX26 ∧ (yX26_put).cls ≠ "java/lang/invoke/MethodHandle" ∧ (yX26_put).cls ≠ "java/lang/invoke/VarHandle" ∧ (parseMethodDescriptor (yX26_put).desc).map (fun d => d.parameters.length) = some 2 := by decide +kernel
theorem yd_X27_at : (yX27_at).cls = RX27 ∧ (yX27_at).cls ≠ "java/lang/invoke/MethodHandle" ∧ (yX27_at).cls ≠ "java/lang/invoke/VarHandle" ∧ (parseMethodDescriptor (yX27_at).desc).map (fun d => d.parameters.length) = some 1 := by decide +kernel
theorem yd_X27_put : (yX27_put).cls = RX27 ∧ (yX27_put).cls ≠ "java/lang/invoke/MethodHandle" ∧ (yX27_put).cls ≠ "java/lang/invoke/VarHandle" ∧ (parseMethodDescriptor (yX27_put).desc).map (fun d => d.parameters.length) = some 2 := by decide +kernel
section XRWALK
variable {p : Program} {l : Launch} {e : Env} {R : Room} {s : State} {m : MethodId} {args : Array Value} {below : List Frame} {meth : Method} {c : Code} {A : Nat → Prop}
variable {L : xL} {g : xg}
def fX_ByteRow_size (N : Nat) (σ : xS) (j0 : Nat) : Option (xS × Int32) :=
  chR 1 j0 σ <|
  chR 1 j0 σ <|
  some (σ, nI (xH σ j0).2.1)
theorem bX_ByteRow_size_e {N : Nat} (C0 : xCx p l s m args meth c RX23 cX23_size 1 (some .int) L A) (hRo : 0 ≤ R.frames ∧ 0 ≤ R.locals) {σ' : xS} {r : Int32} (σ : xS) (j0 : Nat) (H : Heap) (locs : List Loc) (ls : Array Slot) (hG : xG A L g s σ H locs) (hl : lv_has ls 1 [(0, .ref (g.2.2.2.1 j0).1)]) (hF : fX_ByteRow_size N σ j0 = some (σ', r)) : W p l e R s m args below meth c H locs 0 0 (xZ below L g A s args σ' (some (.int r)) 0 0) (F0 m 0 ls []) := by
  have hx := C0.1
  have hb := C0.2.1
  have hst := C0.2.2.2.2.2.2.2.2.2.2
  unfold fX_ByteRow_size at hF
  refine lv_aload_n hx hb dX23_size_0 rfl (lv_at hl 0 rfl) ?_
  obtain ⟨h_1, hF⟩ := chR_of hF
  refine x_rwit (t := 1) C0 hG (by decide) (by decide) ⟨rfl, rfl, rfl⟩ q1391 dX23_size_1 h_1 ?_
  obtain ⟨h_2, hF⟩ := chR_of hF
  refine x_rwlen (t := 1) C0 hG (by decide) (by decide) dX23_size_4 h_2 ?_
  exact x_iret C0 hG ⟨by omega, by omega⟩ dX23_size_5 hF
theorem mtX_ByteRow_size (l : Launch) (hst : l.stackTraces = false) {N : Nat} {L : xL} {g : xg} {σ σ' : xS} {r : Int32} {j0 : Nat} (hF : fX_ByteRow_size N σ j0 = some (σ', r)) : xMet l yX23_size cX23_size 1 (some .int) (0) (0) 0 0 [.ref (g.2.2.2.1 j0).1] L g σ (some (.int r)) σ' := by
  refine x_head hst (by decide) rfl ?_
  intro p e s m below meth c A C0 hG
  have hl := lv_entry ([.ref (g.2.2.2.1 j0).1]) (n := 1) (Nat.le_of_ble_eq_true rfl)
  rw [lg_entry_eq]
  generalize (lg_sl ([.ref (g.2.2.2.1 j0).1]) ++ List.replicate (1 - (lg_sl ([.ref (g.2.2.2.1 j0).1])).length) Slot.unset).toArray = ls at hl ⊢
  have hl : lv_has ls 1 [(0, .ref (g.2.2.2.1 j0).1)] := hl
  exact bX_ByteRow_size_e C0 ⟨Nat.le_refl _, Nat.le_refl _⟩ _ _ _ [] ls hG hl hF
def fX_ByteRow_at (N : Nat) (σ : xS) (j0 : Nat) (a0 : Int32) : Option (xS × Int64) :=
  chR 1 j0 σ <|
  chR 1 j0 σ <|
  chk a0 (xH σ j0).2.1 <| nmv (((xH σ j0).2.2 a0.toNatClampNeg).toInt32) fun x_3 =>
  some (σ, x_3.toInt64)
theorem bX_ByteRow_at_e {N : Nat} (C0 : xCx p l s m args meth c RX23 cX23_at 2 (some .long) L A) (hRo : 0 ≤ R.frames ∧ 0 ≤ R.locals) {σ' : xS} {r : Int64} (σ : xS) (j0 : Nat) (a0 : Int32) (H : Heap) (locs : List Loc) (ls : Array Slot) (hG : xG A L g s σ H locs) (hl : lv_has ls 2 [(0, .ref (g.2.2.2.1 j0).1), (1, .int a0)]) (hF : fX_ByteRow_at N σ j0 a0 = some (σ', r)) : W p l e R s m args below meth c H locs 0 0 (xZ below L g A s args σ' (some (.long r)) 0 0) (F0 m 0 ls []) := by
  have hx := C0.1
  have hb := C0.2.1
  have hst := C0.2.2.2.2.2.2.2.2.2.2
  unfold fX_ByteRow_at at hF
  refine lv_aload_n hx hb dX23_at_0 rfl (lv_at hl 0 rfl) ?_
  obtain ⟨h_1, hF⟩ := chR_of hF
  refine x_rwit (t := 1) C0 hG (by decide) (by decide) ⟨rfl, rfl, rfl⟩ q1391 dX23_at_1 h_1 ?_
  refine lv_iload_n hx hb dX23_at_4 rfl (lv_at hl 1 rfl) ?_
  obtain ⟨h_2, hF⟩ := chR_of hF
  refine x_rwld1 C0 hG h_2 dX23_at_5 hF (fun x_3 hF => ?_)
  refine lv_i2l (v := x_3.toInt64) hx hb dX23_at_6 rfl ?_
  exact x_lret C0 hG ⟨by omega, by omega⟩ dX23_at_7 hF
theorem mtX_ByteRow_at (l : Launch) (hst : l.stackTraces = false) {N : Nat} {L : xL} {g : xg} {σ σ' : xS} {r : Int64} {j0 : Nat} {a0 : Int32} (hF : fX_ByteRow_at N σ j0 a0 = some (σ', r)) : xMet l yX23_at cX23_at 2 (some .long) (0) (0) 0 0 [.ref (g.2.2.2.1 j0).1, .int a0] L g σ (some (.long r)) σ' := by
  refine x_head hst (by decide) rfl ?_
  intro p e s m below meth c A C0 hG
  have hl := lv_entry ([.ref (g.2.2.2.1 j0).1, .int a0]) (n := 2) (Nat.le_of_ble_eq_true rfl)
  rw [lg_entry_eq]
  generalize (lg_sl ([.ref (g.2.2.2.1 j0).1, .int a0]) ++ List.replicate (2 - (lg_sl ([.ref (g.2.2.2.1 j0).1, .int a0])).length) Slot.unset).toArray = ls at hl ⊢
  have hl : lv_has ls 2 [(0, .ref (g.2.2.2.1 j0).1), (1, .int a0)] := hl
  exact bX_ByteRow_at_e C0 ⟨Nat.le_refl _, Nat.le_refl _⟩ _ _ _ _ [] ls hG hl hF
def fX_ByteRow_put (N : Nat) (σ : xS) (j0 : Nat) (a0 : Int32) (a1 : Int64) : Option (xS × Int32) :=
  chR 1 j0 σ <|
  chR 1 j0 σ <|
  chk a0 (xH σ j0).2.1 <| nmv (xSh σ j0 (1, (xH σ j0).2.1, vp_updL (xH σ j0).2.2 a0.toNatClampNeg ((((a1.toInt32).toInt8.toInt32).toInt8.toInt32).toInt64))) fun σ_3 =>
  chb 1 (some (σ_3, 1))
theorem bX_ByteRow_put_e {N : Nat} (C0 : xCx p l s m args meth c RX23 cX23_put 4 (some .boolean) L A) (hRo : 0 ≤ R.frames ∧ 0 ≤ R.locals) {σ' : xS} {r : Int32} (σ : xS) (j0 : Nat) (a0 : Int32) (a1 : Int64) (H : Heap) (locs : List Loc) (ls : Array Slot) (hG : xG A L g s σ H locs) (hl : lv_has ls 4 [(0, .ref (g.2.2.2.1 j0).1), (1, .int a0), (2, .long a1)]) (hF : fX_ByteRow_put N σ j0 a0 a1 = some (σ', r)) : W p l e R s m args below meth c H locs 0 0 (xZ below L g A s args σ' (some (.int r)) 0 0) (F0 m 0 ls []) := by
  have hx := C0.1
  have hb := C0.2.1
  have hst := C0.2.2.2.2.2.2.2.2.2.2
  unfold fX_ByteRow_put at hF
  refine lv_aload_n hx hb dX23_put_0 rfl (lv_at hl 0 rfl) ?_
  obtain ⟨h_1, hF⟩ := chR_of hF
  refine x_rwit (t := 1) C0 hG (by decide) (by decide) ⟨rfl, rfl, rfl⟩ q1391 dX23_put_1 h_1 ?_
  refine lv_iload_n hx hb dX23_put_4 rfl (lv_at hl 1 rfl) ?_
  refine lv_lload_n hx hb dX23_put_5 rfl (lv_at hl 2 rfl) ?_
  refine lv_l2i (v := a1.toInt32) hx hb dX23_put_6 rfl ?_
  refine lv_i2b (v := (a1.toInt32).toInt8.toInt32) hx hb dX23_put_7 rfl ?_
  obtain ⟨h_2, hF⟩ := chR_of hF
  refine x_rwst1 C0 hG h_2 dX23_put_8 hF (fun σ_3 H locs hG hF => ?_)
  refine lv_iconst (v := 1) hx hb dX23_put_9 (by decide) ?_
  exact x_zret C0 hG ⟨by omega, by omega⟩ dX23_put_10 hF
theorem mtX_ByteRow_put (l : Launch) (hst : l.stackTraces = false) {N : Nat} {L : xL} {g : xg} {σ σ' : xS} {r : Int32} {j0 : Nat} {a0 : Int32} {a1 : Int64} (hF : fX_ByteRow_put N σ j0 a0 a1 = some (σ', r)) : xMet l yX23_put cX23_put 4 (some .boolean) (0) (0) 0 0 [.ref (g.2.2.2.1 j0).1, .int a0, .long a1] L g σ (some (.int r)) σ' := by
  refine x_head hst (by decide) rfl ?_
  intro p e s m below meth c A C0 hG
  have hl := lv_entry ([.ref (g.2.2.2.1 j0).1, .int a0, .long a1]) (n := 4) (Nat.le_of_ble_eq_true rfl)
  rw [lg_entry_eq]
  generalize (lg_sl ([.ref (g.2.2.2.1 j0).1, .int a0, .long a1]) ++ List.replicate (4 - (lg_sl ([.ref (g.2.2.2.1 j0).1, .int a0, .long a1])).length) Slot.unset).toArray = ls at hl ⊢
  have hl : lv_has ls 4 [(0, .ref (g.2.2.2.1 j0).1), (1, .int a0), (2, .long a1)] := hl
  exact bX_ByteRow_put_e C0 ⟨Nat.le_refl _, Nat.le_refl _⟩ _ _ _ _ _ [] ls hG hl hF
def fX_ShortRow_size (N : Nat) (σ : xS) (j0 : Nat) : Option (xS × Int32) :=
  chR 2 j0 σ <|
  chR 2 j0 σ <|
  some (σ, nI (xH σ j0).2.1)
theorem bX_ShortRow_size_e {N : Nat} (C0 : xCx p l s m args meth c RX24 cX24_size 1 (some .int) L A) (hRo : 0 ≤ R.frames ∧ 0 ≤ R.locals) {σ' : xS} {r : Int32} (σ : xS) (j0 : Nat) (H : Heap) (locs : List Loc) (ls : Array Slot) (hG : xG A L g s σ H locs) (hl : lv_has ls 1 [(0, .ref (g.2.2.2.1 j0).1)]) (hF : fX_ShortRow_size N σ j0 = some (σ', r)) : W p l e R s m args below meth c H locs 0 0 (xZ below L g A s args σ' (some (.int r)) 0 0) (F0 m 0 ls []) := by
  have hx := C0.1
  have hb := C0.2.1
  have hst := C0.2.2.2.2.2.2.2.2.2.2
  unfold fX_ShortRow_size at hF
  refine lv_aload_n hx hb dX24_size_0 rfl (lv_at hl 0 rfl) ?_
  obtain ⟨h_1, hF⟩ := chR_of hF
  refine x_rwit (t := 2) C0 hG (by decide) (by decide) ⟨rfl, rfl, rfl⟩ q1400 dX24_size_1 h_1 ?_
  obtain ⟨h_2, hF⟩ := chR_of hF
  refine x_rwlen (t := 2) C0 hG (by decide) (by decide) dX24_size_4 h_2 ?_
  exact x_iret C0 hG ⟨by omega, by omega⟩ dX24_size_5 hF
theorem mtX_ShortRow_size (l : Launch) (hst : l.stackTraces = false) {N : Nat} {L : xL} {g : xg} {σ σ' : xS} {r : Int32} {j0 : Nat} (hF : fX_ShortRow_size N σ j0 = some (σ', r)) : xMet l yX24_size cX24_size 1 (some .int) (0) (0) 0 0 [.ref (g.2.2.2.1 j0).1] L g σ (some (.int r)) σ' := by
  refine x_head hst (by decide) rfl ?_
  intro p e s m below meth c A C0 hG
  have hl := lv_entry ([.ref (g.2.2.2.1 j0).1]) (n := 1) (Nat.le_of_ble_eq_true rfl)
  rw [lg_entry_eq]
  generalize (lg_sl ([.ref (g.2.2.2.1 j0).1]) ++ List.replicate (1 - (lg_sl ([.ref (g.2.2.2.1 j0).1])).length) Slot.unset).toArray = ls at hl ⊢
  have hl : lv_has ls 1 [(0, .ref (g.2.2.2.1 j0).1)] := hl
  exact bX_ShortRow_size_e C0 ⟨Nat.le_refl _, Nat.le_refl _⟩ _ _ _ [] ls hG hl hF
def fX_ShortRow_at (N : Nat) (σ : xS) (j0 : Nat) (a0 : Int32) : Option (xS × Int64) :=
  chR 2 j0 σ <|
  chR 2 j0 σ <|
  chk a0 (xH σ j0).2.1 <| nmv (((xH σ j0).2.2 a0.toNatClampNeg).toInt32) fun x_3 =>
  some (σ, x_3.toInt64)
theorem bX_ShortRow_at_e {N : Nat} (C0 : xCx p l s m args meth c RX24 cX24_at 2 (some .long) L A) (hRo : 0 ≤ R.frames ∧ 0 ≤ R.locals) {σ' : xS} {r : Int64} (σ : xS) (j0 : Nat) (a0 : Int32) (H : Heap) (locs : List Loc) (ls : Array Slot) (hG : xG A L g s σ H locs) (hl : lv_has ls 2 [(0, .ref (g.2.2.2.1 j0).1), (1, .int a0)]) (hF : fX_ShortRow_at N σ j0 a0 = some (σ', r)) : W p l e R s m args below meth c H locs 0 0 (xZ below L g A s args σ' (some (.long r)) 0 0) (F0 m 0 ls []) := by
  have hx := C0.1
  have hb := C0.2.1
  have hst := C0.2.2.2.2.2.2.2.2.2.2
  unfold fX_ShortRow_at at hF
  refine lv_aload_n hx hb dX24_at_0 rfl (lv_at hl 0 rfl) ?_
  obtain ⟨h_1, hF⟩ := chR_of hF
  refine x_rwit (t := 2) C0 hG (by decide) (by decide) ⟨rfl, rfl, rfl⟩ q1400 dX24_at_1 h_1 ?_
  refine lv_iload_n hx hb dX24_at_4 rfl (lv_at hl 1 rfl) ?_
  obtain ⟨h_2, hF⟩ := chR_of hF
  refine x_rwld2 C0 hG h_2 dX24_at_5 hF (fun x_3 hF => ?_)
  refine lv_i2l (v := x_3.toInt64) hx hb dX24_at_6 rfl ?_
  exact x_lret C0 hG ⟨by omega, by omega⟩ dX24_at_7 hF
theorem mtX_ShortRow_at (l : Launch) (hst : l.stackTraces = false) {N : Nat} {L : xL} {g : xg} {σ σ' : xS} {r : Int64} {j0 : Nat} {a0 : Int32} (hF : fX_ShortRow_at N σ j0 a0 = some (σ', r)) : xMet l yX24_at cX24_at 2 (some .long) (0) (0) 0 0 [.ref (g.2.2.2.1 j0).1, .int a0] L g σ (some (.long r)) σ' := by
  refine x_head hst (by decide) rfl ?_
  intro p e s m below meth c A C0 hG
  have hl := lv_entry ([.ref (g.2.2.2.1 j0).1, .int a0]) (n := 2) (Nat.le_of_ble_eq_true rfl)
  rw [lg_entry_eq]
  generalize (lg_sl ([.ref (g.2.2.2.1 j0).1, .int a0]) ++ List.replicate (2 - (lg_sl ([.ref (g.2.2.2.1 j0).1, .int a0])).length) Slot.unset).toArray = ls at hl ⊢
  have hl : lv_has ls 2 [(0, .ref (g.2.2.2.1 j0).1), (1, .int a0)] := hl
  exact bX_ShortRow_at_e C0 ⟨Nat.le_refl _, Nat.le_refl _⟩ _ _ _ _ [] ls hG hl hF
def fX_ShortRow_put (N : Nat) (σ : xS) (j0 : Nat) (a0 : Int32) (a1 : Int64) : Option (xS × Int32) :=
  chR 2 j0 σ <|
  chR 2 j0 σ <|
  chk a0 (xH σ j0).2.1 <| nmv (xSh σ j0 (2, (xH σ j0).2.1, vp_updL (xH σ j0).2.2 a0.toNatClampNeg ((((a1.toInt32).toInt16.toInt32).toInt16.toInt32).toInt64))) fun σ_3 =>
  chb 1 (some (σ_3, 1))
theorem bX_ShortRow_put_e {N : Nat} (C0 : xCx p l s m args meth c RX24 cX24_put 4 (some .boolean) L A) (hRo : 0 ≤ R.frames ∧ 0 ≤ R.locals) {σ' : xS} {r : Int32} (σ : xS) (j0 : Nat) (a0 : Int32) (a1 : Int64) (H : Heap) (locs : List Loc) (ls : Array Slot) (hG : xG A L g s σ H locs) (hl : lv_has ls 4 [(0, .ref (g.2.2.2.1 j0).1), (1, .int a0), (2, .long a1)]) (hF : fX_ShortRow_put N σ j0 a0 a1 = some (σ', r)) : W p l e R s m args below meth c H locs 0 0 (xZ below L g A s args σ' (some (.int r)) 0 0) (F0 m 0 ls []) := by
  have hx := C0.1
  have hb := C0.2.1
  have hst := C0.2.2.2.2.2.2.2.2.2.2
  unfold fX_ShortRow_put at hF
  refine lv_aload_n hx hb dX24_put_0 rfl (lv_at hl 0 rfl) ?_
  obtain ⟨h_1, hF⟩ := chR_of hF
  refine x_rwit (t := 2) C0 hG (by decide) (by decide) ⟨rfl, rfl, rfl⟩ q1400 dX24_put_1 h_1 ?_
  refine lv_iload_n hx hb dX24_put_4 rfl (lv_at hl 1 rfl) ?_
  refine lv_lload_n hx hb dX24_put_5 rfl (lv_at hl 2 rfl) ?_
  refine lv_l2i (v := a1.toInt32) hx hb dX24_put_6 rfl ?_
  refine lv_i2s (v := (a1.toInt32).toInt16.toInt32) hx hb dX24_put_7 rfl ?_
  obtain ⟨h_2, hF⟩ := chR_of hF
  refine x_rwst2 C0 hG h_2 dX24_put_8 hF (fun σ_3 H locs hG hF => ?_)
  refine lv_iconst (v := 1) hx hb dX24_put_9 (by decide) ?_
  exact x_zret C0 hG ⟨by omega, by omega⟩ dX24_put_10 hF
theorem mtX_ShortRow_put (l : Launch) (hst : l.stackTraces = false) {N : Nat} {L : xL} {g : xg} {σ σ' : xS} {r : Int32} {j0 : Nat} {a0 : Int32} {a1 : Int64} (hF : fX_ShortRow_put N σ j0 a0 a1 = some (σ', r)) : xMet l yX24_put cX24_put 4 (some .boolean) (0) (0) 0 0 [.ref (g.2.2.2.1 j0).1, .int a0, .long a1] L g σ (some (.int r)) σ' := by
  refine x_head hst (by decide) rfl ?_
  intro p e s m below meth c A C0 hG
  have hl := lv_entry ([.ref (g.2.2.2.1 j0).1, .int a0, .long a1]) (n := 4) (Nat.le_of_ble_eq_true rfl)
  rw [lg_entry_eq]
  generalize (lg_sl ([.ref (g.2.2.2.1 j0).1, .int a0, .long a1]) ++ List.replicate (4 - (lg_sl ([.ref (g.2.2.2.1 j0).1, .int a0, .long a1])).length) Slot.unset).toArray = ls at hl ⊢
  have hl : lv_has ls 4 [(0, .ref (g.2.2.2.1 j0).1), (1, .int a0), (2, .long a1)] := hl
  exact bX_ShortRow_put_e C0 ⟨Nat.le_refl _, Nat.le_refl _⟩ _ _ _ _ _ [] ls hG hl hF
def fX_IntRow_at (N : Nat) (σ : xS) (j0 : Nat) (a0 : Int32) : Option (xS × Int64) :=
  chR 3 j0 σ <|
  chR 3 j0 σ <|
  chk a0 (xH σ j0).2.1 <| nmv (((xH σ j0).2.2 a0.toNatClampNeg).toInt32) fun x_3 =>
  some (σ, x_3.toInt64)
theorem bX_IntRow_at_e {N : Nat} (C0 : xCx p l s m args meth c RX25 cX25_at 2 (some .long) L A) (hRo : 0 ≤ R.frames ∧ 0 ≤ R.locals) {σ' : xS} {r : Int64} (σ : xS) (j0 : Nat) (a0 : Int32) (H : Heap) (locs : List Loc) (ls : Array Slot) (hG : xG A L g s σ H locs) (hl : lv_has ls 2 [(0, .ref (g.2.2.2.1 j0).1), (1, .int a0)]) (hF : fX_IntRow_at N σ j0 a0 = some (σ', r)) : W p l e R s m args below meth c H locs 0 0 (xZ below L g A s args σ' (some (.long r)) 0 0) (F0 m 0 ls []) := by
  have hx := C0.1
  have hb := C0.2.1
  have hst := C0.2.2.2.2.2.2.2.2.2.2
  unfold fX_IntRow_at at hF
  refine lv_aload_n hx hb dX25_at_0 rfl (lv_at hl 0 rfl) ?_
  obtain ⟨h_1, hF⟩ := chR_of hF
  refine x_rwit (t := 3) C0 hG (by decide) (by decide) ⟨rfl, rfl, rfl⟩ q1411 dX25_at_1 h_1 ?_
  refine lv_iload_n hx hb dX25_at_4 rfl (lv_at hl 1 rfl) ?_
  obtain ⟨h_2, hF⟩ := chR_of hF
  refine x_rwld3 C0 hG h_2 dX25_at_5 hF (fun x_3 hF => ?_)
  refine lv_i2l (v := x_3.toInt64) hx hb dX25_at_6 rfl ?_
  exact x_lret C0 hG ⟨by omega, by omega⟩ dX25_at_7 hF
theorem mtX_IntRow_at (l : Launch) (hst : l.stackTraces = false) {N : Nat} {L : xL} {g : xg} {σ σ' : xS} {r : Int64} {j0 : Nat} {a0 : Int32} (hF : fX_IntRow_at N σ j0 a0 = some (σ', r)) : xMet l yX25_at cX25_at 2 (some .long) (0) (0) 0 0 [.ref (g.2.2.2.1 j0).1, .int a0] L g σ (some (.long r)) σ' := by
  refine x_head hst (by decide) rfl ?_
  intro p e s m below meth c A C0 hG
  have hl := lv_entry ([.ref (g.2.2.2.1 j0).1, .int a0]) (n := 2) (Nat.le_of_ble_eq_true rfl)
  rw [lg_entry_eq]
  generalize (lg_sl ([.ref (g.2.2.2.1 j0).1, .int a0]) ++ List.replicate (2 - (lg_sl ([.ref (g.2.2.2.1 j0).1, .int a0])).length) Slot.unset).toArray = ls at hl ⊢
  have hl : lv_has ls 2 [(0, .ref (g.2.2.2.1 j0).1), (1, .int a0)] := hl
  exact bX_IntRow_at_e C0 ⟨Nat.le_refl _, Nat.le_refl _⟩ _ _ _ _ [] ls hG hl hF
def fX_IntRow_put (N : Nat) (σ : xS) (j0 : Nat) (a0 : Int32) (a1 : Int64) : Option (xS × Int32) :=
  chR 3 j0 σ <|
  chR 3 j0 σ <|
  chk a0 (xH σ j0).2.1 <| nmv (xSh σ j0 (3, (xH σ j0).2.1, vp_updL (xH σ j0).2.2 a0.toNatClampNeg (((a1.toInt32)).toInt64))) fun σ_3 =>
  chb 1 (some (σ_3, 1))
theorem bX_IntRow_put_e {N : Nat} (C0 : xCx p l s m args meth c RX25 cX25_put 4 (some .boolean) L A) (hRo : 0 ≤ R.frames ∧ 0 ≤ R.locals) {σ' : xS} {r : Int32} (σ : xS) (j0 : Nat) (a0 : Int32) (a1 : Int64) (H : Heap) (locs : List Loc) (ls : Array Slot) (hG : xG A L g s σ H locs) (hl : lv_has ls 4 [(0, .ref (g.2.2.2.1 j0).1), (1, .int a0), (2, .long a1)]) (hF : fX_IntRow_put N σ j0 a0 a1 = some (σ', r)) : W p l e R s m args below meth c H locs 0 0 (xZ below L g A s args σ' (some (.int r)) 0 0) (F0 m 0 ls []) := by
  have hx := C0.1
  have hb := C0.2.1
  have hst := C0.2.2.2.2.2.2.2.2.2.2
  unfold fX_IntRow_put at hF
  refine lv_aload_n hx hb dX25_put_0 rfl (lv_at hl 0 rfl) ?_
  obtain ⟨h_1, hF⟩ := chR_of hF
  refine x_rwit (t := 3) C0 hG (by decide) (by decide) ⟨rfl, rfl, rfl⟩ q1411 dX25_put_1 h_1 ?_
  refine lv_iload_n hx hb dX25_put_4 rfl (lv_at hl 1 rfl) ?_
  refine lv_lload_n hx hb dX25_put_5 rfl (lv_at hl 2 rfl) ?_
  refine lv_l2i (v := a1.toInt32) hx hb dX25_put_6 rfl ?_
  obtain ⟨h_2, hF⟩ := chR_of hF
  refine x_rwst3 C0 hG h_2 dX25_put_7 hF (fun σ_3 H locs hG hF => ?_)
  refine lv_iconst (v := 1) hx hb dX25_put_8 (by decide) ?_
  exact x_zret C0 hG ⟨by omega, by omega⟩ dX25_put_9 hF
theorem mtX_IntRow_put (l : Launch) (hst : l.stackTraces = false) {N : Nat} {L : xL} {g : xg} {σ σ' : xS} {r : Int32} {j0 : Nat} {a0 : Int32} {a1 : Int64} (hF : fX_IntRow_put N σ j0 a0 a1 = some (σ', r)) : xMet l yX25_put cX25_put 4 (some .boolean) (0) (0) 0 0 [.ref (g.2.2.2.1 j0).1, .int a0, .long a1] L g σ (some (.int r)) σ' := by
  refine x_head hst (by decide) rfl ?_
  intro p e s m below meth c A C0 hG
  have hl := lv_entry ([.ref (g.2.2.2.1 j0).1, .int a0, .long a1]) (n := 4) (Nat.le_of_ble_eq_true rfl)
  rw [lg_entry_eq]
  generalize (lg_sl ([.ref (g.2.2.2.1 j0).1, .int a0, .long a1]) ++ List.replicate (4 - (lg_sl ([.ref (g.2.2.2.1 j0).1, .int a0, .long a1])).length) Slot.unset).toArray = ls at hl ⊢
  have hl : lv_has ls 4 [(0, .ref (g.2.2.2.1 j0).1), (1, .int a0), (2, .long a1)] := hl
  exact bX_IntRow_put_e C0 ⟨Nat.le_refl _, Nat.le_refl _⟩ _ _ _ _ _ [] ls hG hl hF
def fX_LongRow_at (N : Nat) (σ : xS) (j0 : Nat) (a0 : Int32) : Option (xS × Int64) :=
  chR 4 j0 σ <|
  chR 4 j0 σ <|
  chk a0 (xH σ j0).2.1 <| nmv ((xH σ j0).2.2 a0.toNatClampNeg) fun x_3 =>
  some (σ, x_3)
theorem bX_LongRow_at_e {N : Nat} (C0 : xCx p l s m args meth c RX26 cX26_at 2 (some .long) L A) (hRo : 0 ≤ R.frames ∧ 0 ≤ R.locals) {σ' : xS} {r : Int64} (σ : xS) (j0 : Nat) (a0 : Int32) (H : Heap) (locs : List Loc) (ls : Array Slot) (hG : xG A L g s σ H locs) (hl : lv_has ls 2 [(0, .ref (g.2.2.2.1 j0).1), (1, .int a0)]) (hF : fX_LongRow_at N σ j0 a0 = some (σ', r)) : W p l e R s m args below meth c H locs 0 0 (xZ below L g A s args σ' (some (.long r)) 0 0) (F0 m 0 ls []) := by
  have hx := C0.1
  have hb := C0.2.1
  have hst := C0.2.2.2.2.2.2.2.2.2.2
  unfold fX_LongRow_at at hF
  refine lv_aload_n hx hb dX26_at_0 rfl (lv_at hl 0 rfl) ?_
  obtain ⟨h_1, hF⟩ := chR_of hF
  refine x_rwit (t := 4) C0 hG (by decide) (by decide) ⟨rfl, rfl, rfl⟩ q1421 dX26_at_1 h_1 ?_
  refine lv_iload_n hx hb dX26_at_4 rfl (lv_at hl 1 rfl) ?_
  obtain ⟨h_2, hF⟩ := chR_of hF
  refine x_rwld4 C0 hG h_2 dX26_at_5 hF (fun x_3 hF => ?_)
  exact x_lret C0 hG ⟨by omega, by omega⟩ dX26_at_6 hF
theorem mtX_LongRow_at (l : Launch) (hst : l.stackTraces = false) {N : Nat} {L : xL} {g : xg} {σ σ' : xS} {r : Int64} {j0 : Nat} {a0 : Int32} (hF : fX_LongRow_at N σ j0 a0 = some (σ', r)) : xMet l yX26_at cX26_at 2 (some .long) (0) (0) 0 0 [.ref (g.2.2.2.1 j0).1, .int a0] L g σ (some (.long r)) σ' := by
  refine x_head hst (by decide) rfl ?_
  intro p e s m below meth c A C0 hG
  have hl := lv_entry ([.ref (g.2.2.2.1 j0).1, .int a0]) (n := 2) (Nat.le_of_ble_eq_true rfl)
  rw [lg_entry_eq]
  generalize (lg_sl ([.ref (g.2.2.2.1 j0).1, .int a0]) ++ List.replicate (2 - (lg_sl ([.ref (g.2.2.2.1 j0).1, .int a0])).length) Slot.unset).toArray = ls at hl ⊢
  have hl : lv_has ls 2 [(0, .ref (g.2.2.2.1 j0).1), (1, .int a0)] := hl
  exact bX_LongRow_at_e C0 ⟨Nat.le_refl _, Nat.le_refl _⟩ _ _ _ _ [] ls hG hl hF
def fX_LongRow_put (N : Nat) (σ : xS) (j0 : Nat) (a0 : Int32) (a1 : Int64) : Option (xS × Int32) :=
  chR 4 j0 σ <|
  chR 4 j0 σ <|
  chk a0 (xH σ j0).2.1 <| nmv (xSh σ j0 (4, (xH σ j0).2.1, vp_updL (xH σ j0).2.2 a0.toNatClampNeg a1)) fun σ_3 =>
  chb 1 (some (σ_3, 1))
theorem bX_LongRow_put_e {N : Nat} (C0 : xCx p l s m args meth c RX26 cX26_put 4 (some .boolean) L A) (hRo : 0 ≤ R.frames ∧ 0 ≤ R.locals) {σ' : xS} {r : Int32} (σ : xS) (j0 : Nat) (a0 : Int32) (a1 : Int64) (H : Heap) (locs : List Loc) (ls : Array Slot) (hG : xG A L g s σ H locs) (hl : lv_has ls 4 [(0, .ref (g.2.2.2.1 j0).1), (1, .int a0), (2, .long a1)]) (hF : fX_LongRow_put N σ j0 a0 a1 = some (σ', r)) : W p l e R s m args below meth c H locs 0 0 (xZ below L g A s args σ' (some (.int r)) 0 0) (F0 m 0 ls []) := by
  have hx := C0.1
  have hb := C0.2.1
  have hst := C0.2.2.2.2.2.2.2.2.2.2
  unfold fX_LongRow_put at hF
  refine lv_aload_n hx hb dX26_put_0 rfl (lv_at hl 0 rfl) ?_
  obtain ⟨h_1, hF⟩ := chR_of hF
  refine x_rwit (t := 4) C0 hG (by decide) (by decide) ⟨rfl, rfl, rfl⟩ q1421 dX26_put_1 h_1 ?_
  refine lv_iload_n hx hb dX26_put_4 rfl (lv_at hl 1 rfl) ?_
  refine lv_lload_n hx hb dX26_put_5 rfl (lv_at hl 2 rfl) ?_
  obtain ⟨h_2, hF⟩ := chR_of hF
  refine x_rwst4 C0 hG h_2 dX26_put_6 hF (fun σ_3 H locs hG hF => ?_)
  refine lv_iconst (v := 1) hx hb dX26_put_7 (by decide) ?_
  exact x_zret C0 hG ⟨by omega, by omega⟩ dX26_put_8 hF
theorem mtX_LongRow_put (l : Launch) (hst : l.stackTraces = false) {N : Nat} {L : xL} {g : xg} {σ σ' : xS} {r : Int32} {j0 : Nat} {a0 : Int32} {a1 : Int64} (hF : fX_LongRow_put N σ j0 a0 a1 = some (σ', r)) : xMet l yX26_put cX26_put 4 (some .boolean) (0) (0) 0 0 [.ref (g.2.2.2.1 j0).1, .int a0, .long a1] L g σ (some (.int r)) σ' := by
  refine x_head hst (by decide) rfl ?_
  intro p e s m below meth c A C0 hG
  have hl := lv_entry ([.ref (g.2.2.2.1 j0).1, .int a0, .long a1]) (n := 4) (Nat.le_of_ble_eq_true rfl)
  rw [lg_entry_eq]
  generalize (lg_sl ([.ref (g.2.2.2.1 j0).1, .int a0, .long a1]) ++ List.replicate (4 - (lg_sl ([.ref (g.2.2.2.1 j0).1, .int a0, .long a1])).length) Slot.unset).toArray = ls at hl ⊢
  have hl : lv_has ls 4 [(0, .ref (g.2.2.2.1 j0).1), (1, .int a0), (2, .long a1)] := hl
  exact bX_LongRow_put_e C0 ⟨Nat.le_refl _, Nat.le_refl _⟩ _ _ _ _ _ [] ls hG hl hF
def fX_BooleanRow_at (N : Nat) (σ : xS) (j0 : Nat) (a0 : Int32) : Option (xS × Int64) :=
  chR 5 j0 σ <|
  chR 5 j0 σ <|
  chk a0 (xH σ j0).2.1 <| nmv (((xH σ j0).2.2 a0.toNatClampNeg).toInt32) fun x_3 =>
  if x_3 = 0 then (
    some (σ, 0))
  else (
    some (σ, 1))
theorem bX_BooleanRow_at_e {N : Nat} (C0 : xCx p l s m args meth c RX27 cX27_at 2 (some .long) L A) (hRo : 0 ≤ R.frames ∧ 0 ≤ R.locals) {σ' : xS} {r : Int64} (σ : xS) (j0 : Nat) (a0 : Int32) (H : Heap) (locs : List Loc) (ls : Array Slot) (hG : xG A L g s σ H locs) (hl : lv_has ls 2 [(0, .ref (g.2.2.2.1 j0).1), (1, .int a0)]) (hF : fX_BooleanRow_at N σ j0 a0 = some (σ', r)) : W p l e R s m args below meth c H locs 0 0 (xZ below L g A s args σ' (some (.long r)) 0 0) (F0 m 0 ls []) := by
  have hx := C0.1
  have hb := C0.2.1
  have hst := C0.2.2.2.2.2.2.2.2.2.2
  unfold fX_BooleanRow_at at hF
  refine lv_aload_n hx hb dX27_at_0 rfl (lv_at hl 0 rfl) ?_
  obtain ⟨h_1, hF⟩ := chR_of hF
  refine x_rwit (t := 5) C0 hG (by decide) (by decide) ⟨rfl, rfl, rfl⟩ q1432 dX27_at_1 h_1 ?_
  refine lv_iload_n hx hb dX27_at_4 rfl (lv_at hl 1 rfl) ?_
  obtain ⟨h_2, hF⟩ := chR_of hF
  refine x_rwld5 C0 hG h_2 dX27_at_5 hF (fun x_3 hF => ?_)
  refine lv_if_eq (tgt := 13) hx hb dX27_at_6 (by decide) (fun c_4 => ?_) (fun c_4 => ?_)
  · have hF := ifp hF c_4
    refine lv_lconst (v := 0) hx hb dX27_at_13 (by decide) ?_
    exact x_lret C0 hG ⟨by omega, by omega⟩ dX27_at_14 hF
  · have hF := ifn hF c_4
    refine lv_lconst (v := 1) hx hb dX27_at_9 (by decide) ?_
    refine lv_goto (tgt := 14) hx hb dX27_at_10 (by decide) ?_
    exact x_lret C0 hG ⟨by omega, by omega⟩ dX27_at_14 hF
theorem mtX_BooleanRow_at (l : Launch) (hst : l.stackTraces = false) {N : Nat} {L : xL} {g : xg} {σ σ' : xS} {r : Int64} {j0 : Nat} {a0 : Int32} (hF : fX_BooleanRow_at N σ j0 a0 = some (σ', r)) : xMet l yX27_at cX27_at 2 (some .long) (0) (0) 0 0 [.ref (g.2.2.2.1 j0).1, .int a0] L g σ (some (.long r)) σ' := by
  refine x_head hst (by decide) rfl ?_
  intro p e s m below meth c A C0 hG
  have hl := lv_entry ([.ref (g.2.2.2.1 j0).1, .int a0]) (n := 2) (Nat.le_of_ble_eq_true rfl)
  rw [lg_entry_eq]
  generalize (lg_sl ([.ref (g.2.2.2.1 j0).1, .int a0]) ++ List.replicate (2 - (lg_sl ([.ref (g.2.2.2.1 j0).1, .int a0])).length) Slot.unset).toArray = ls at hl ⊢
  have hl : lv_has ls 2 [(0, .ref (g.2.2.2.1 j0).1), (1, .int a0)] := hl
  exact bX_BooleanRow_at_e C0 ⟨Nat.le_refl _, Nat.le_refl _⟩ _ _ _ _ [] ls hG hl hF
def fX_BooleanRow_put_b16 (N : Nat) (σ : xS) (y0 : Int32) (y1 : Int32) (y2 : Nat) : Option (xS × Int32) :=
  chR 5 y2 σ <|
  chb y0 <| chk y1 (xH σ y2).2.1 <| nmv (xSh σ y2 (5, (xH σ y2).2.1, vp_updL (xH σ y2).2.2 y1.toNatClampNeg ((y0).toInt64))) fun σ_4 =>
  chb 1 (some (σ_4, 1))
def fX_BooleanRow_put (N : Nat) (σ : xS) (j0 : Nat) (a0 : Int32) (a1 : Int64) : Option (xS × Int32) :=
  chR 5 j0 σ <|
  if (lg_cmp a1 0) = 0 then (
    fX_BooleanRow_put_b16 N σ 0 a0 j0)
  else (
    fX_BooleanRow_put_b16 N σ 1 a0 j0)
theorem bX_BooleanRow_put_16 {N : Nat} (C0 : xCx p l s m args meth c RX27 cX27_put 4 (some .boolean) L A) (hRo : 0 ≤ R.frames ∧ 0 ≤ R.locals) {σ' : xS} {r : Int32} (σ : xS) (y0 : Int32) (y1 : Int32) (y2 : Nat) (H : Heap) (locs : List Loc) (ls : Array Slot) (hG : xG A L g s σ H locs) (hl : lv_has ls 4 []) (hF : fX_BooleanRow_put_b16 N σ y0 y1 y2 = some (σ', r)) : W p l e R s m args below meth c H locs 0 0 (xZ below L g A s args σ' (some (.int r)) 0 0) (F0 m 16 ls [.int y0, .int y1, .ref (g.2.2.2.1 y2).2]) := by
  have hx := C0.1
  have hb := C0.2.1
  have hst := C0.2.2.2.2.2.2.2.2.2.2
  unfold fX_BooleanRow_put_b16 at hF
  obtain ⟨h_3, hF⟩ := chR_of hF
  refine x_rwst5 C0 hG h_3 dX27_put_16 hF (fun σ_4 H locs hG hF => ?_)
  refine lv_iconst (v := 1) hx hb dX27_put_17 (by decide) ?_
  exact x_zret C0 hG ⟨by omega, by omega⟩ dX27_put_18 hF
theorem bX_BooleanRow_put_e {N : Nat} (C0 : xCx p l s m args meth c RX27 cX27_put 4 (some .boolean) L A) (hRo : 0 ≤ R.frames ∧ 0 ≤ R.locals) {σ' : xS} {r : Int32} (σ : xS) (j0 : Nat) (a0 : Int32) (a1 : Int64) (H : Heap) (locs : List Loc) (ls : Array Slot) (hG : xG A L g s σ H locs) (hl : lv_has ls 4 [(0, .ref (g.2.2.2.1 j0).1), (1, .int a0), (2, .long a1)]) (hF : fX_BooleanRow_put N σ j0 a0 a1 = some (σ', r)) : W p l e R s m args below meth c H locs 0 0 (xZ below L g A s args σ' (some (.int r)) 0 0) (F0 m 0 ls []) := by
  have hx := C0.1
  have hb := C0.2.1
  have hst := C0.2.2.2.2.2.2.2.2.2.2
  unfold fX_BooleanRow_put at hF
  refine lv_aload_n hx hb dX27_put_0 rfl (lv_at hl 0 rfl) ?_
  obtain ⟨h_1, hF⟩ := chR_of hF
  refine x_rwit (t := 5) C0 hG (by decide) (by decide) ⟨rfl, rfl, rfl⟩ q1432 dX27_put_1 h_1 ?_
  refine lv_iload_n hx hb dX27_put_4 rfl (lv_at hl 1 rfl) ?_
  refine lv_lload_n hx hb dX27_put_5 rfl (lv_at hl 2 rfl) ?_
  refine lv_lconst (v := 0) hx hb dX27_put_6 (by decide) ?_
  refine W.lcmp hx hb dX27_put_7 ?_
  refine lv_if_eq (tgt := 15) hx hb dX27_put_8 (by decide) (fun c_2 => ?_) (fun c_2 => ?_)
  · have hF := ifp hF c_2
    refine lv_iconst (v := 0) hx hb dX27_put_15 (by decide) ?_
    exact bX_BooleanRow_put_16 C0 hRo _ _ _ _ H locs ls hG (lv_sub hl [] rfl) hF
  · have hF := ifn hF c_2
    refine lv_iconst (v := 1) hx hb dX27_put_11 (by decide) ?_
    refine lv_goto (tgt := 16) hx hb dX27_put_12 (by decide) ?_
    exact bX_BooleanRow_put_16 C0 hRo _ _ _ _ H locs ls hG (lv_sub hl [] rfl) hF
theorem mtX_BooleanRow_put (l : Launch) (hst : l.stackTraces = false) {N : Nat} {L : xL} {g : xg} {σ σ' : xS} {r : Int32} {j0 : Nat} {a0 : Int32} {a1 : Int64} (hF : fX_BooleanRow_put N σ j0 a0 a1 = some (σ', r)) : xMet l yX27_put cX27_put 4 (some .boolean) (0) (0) 0 0 [.ref (g.2.2.2.1 j0).1, .int a0, .long a1] L g σ (some (.int r)) σ' := by
  refine x_head hst (by decide) rfl ?_
  intro p e s m below meth c A C0 hG
  have hl := lv_entry ([.ref (g.2.2.2.1 j0).1, .int a0, .long a1]) (n := 4) (Nat.le_of_ble_eq_true rfl)
  rw [lg_entry_eq]
  generalize (lg_sl ([.ref (g.2.2.2.1 j0).1, .int a0, .long a1]) ++ List.replicate (4 - (lg_sl ([.ref (g.2.2.2.1 j0).1, .int a0, .long a1])).length) Slot.unset).toArray = ls at hl ⊢
  have hl : lv_has ls 4 [(0, .ref (g.2.2.2.1 j0).1), (1, .int a0), (2, .long a1)] := hl
  exact bX_BooleanRow_put_e C0 ⟨Nat.le_refl _, Nat.le_refl _⟩ _ _ _ _ _ [] ls hG hl hF
end XRWALK
