theorem nmgX3 : ∀ a, a < 8 → ∀ b, b < 8 → a ≠ b → (TX3 a).2.1 ≠ (TX3 b).2.1 ∨ ((TX3 a).2.2.2 = true ∧ (TX3 b).2.2.2 = true ∧ (TX3 a).1 ≠ (TX3 b).1) := by decide +kernel
theorem nmgX4 : ∀ a, a < 4 → ∀ b, b < 4 → a ≠ b → (TX4 a).2.1 ≠ (TX4 b).2.1 ∨ ((TX4 a).2.2.2 = true ∧ (TX4 b).2.2.2 = true ∧ (TX4 a).1 ≠ (TX4 b).1) := by decide +kernel
theorem nmgX5 : ∀ a, a < 4 → ∀ b, b < 4 → a ≠ b → (TX5 a).2.1 ≠ (TX5 b).2.1 ∨ ((TX5 a).2.2.2 = true ∧ (TX5 b).2.2.2 = true ∧ (TX5 a).1 ≠ (TX5 b).1) := by decide +kernel
theorem nmgX6 : ∀ a, a < 3 → ∀ b, b < 3 → a ≠ b → (TX6 a).2.1 ≠ (TX6 b).2.1 ∨ ((TX6 a).2.2.2 = true ∧ (TX6 b).2.2.2 = true ∧ (TX6 a).1 ≠ (TX6 b).1) := by decide +kernel
theorem nmgX8 : ∀ a, a < 1 → ∀ b, b < 1 → a ≠ b → (TX8 a).2.1 ≠ (TX8 b).2.1 ∨ ((TX8 a).2.2.2 = true ∧ (TX8 b).2.2.2 = true ∧ (TX8 a).1 ≠ (TX8 b).1) := by decide +kernel
theorem nmgX9 : ∀ a, a < 1 → ∀ b, b < 1 → a ≠ b → (TX9 a).2.1 ≠ (TX9 b).2.1 ∨ ((TX9 a).2.2.2 = true ∧ (TX9 b).2.2.2 = true ∧ (TX9 a).1 ≠ (TX9 b).1) := by decide +kernel
theorem nmgX10 : ∀ a, a < 1 → ∀ b, b < 1 → a ≠ b → (TX10 a).2.1 ≠ (TX10 b).2.1 ∨ ((TX10 a).2.2.2 = true ∧ (TX10 b).2.2.2 = true ∧ (TX10 a).1 ≠ (TX10 b).1) := by decide +kernel
theorem nmgX11 : ∀ a, a < 1 → ∀ b, b < 1 → a ≠ b → (TX11 a).2.1 ≠ (TX11 b).2.1 ∨ ((TX11 a).2.2.2 = true ∧ (TX11 b).2.2.2 = true ∧ (TX11 a).1 ≠ (TX11 b).1) := by decide +kernel
theorem nmgX12 : ∀ a, a < 3 → ∀ b, b < 3 → a ≠ b → (TX12 a).2.1 ≠ (TX12 b).2.1 ∨ ((TX12 a).2.2.2 = true ∧ (TX12 b).2.2.2 = true ∧ (TX12 a).1 ≠ (TX12 b).1) := by decide +kernel
theorem nmgX14 : ∀ a, a < 2 → ∀ b, b < 2 → a ≠ b → (TX14 a).2.1 ≠ (TX14 b).2.1 ∨ ((TX14 a).2.2.2 = true ∧ (TX14 b).2.2.2 = true ∧ (TX14 a).1 ≠ (TX14 b).1) := by decide +kernel
theorem nmgX15 : ∀ a, a < 3 → ∀ b, b < 3 → a ≠ b → (TX15 a).2.1 ≠ (TX15 b).2.1 ∨ ((TX15 a).2.2.2 = true ∧ (TX15 b).2.2.2 = true ∧ (TX15 a).1 ≠ (TX15 b).1) := by decide +kernel
theorem nmgX16 : ∀ a, a < 3 → ∀ b, b < 3 → a ≠ b → (TX16 a).2.1 ≠ (TX16 b).2.1 ∨ ((TX16 a).2.2.2 = true ∧ (TX16 b).2.2.2 = true ∧ (TX16 a).1 ≠ (TX16 b).1) := by decide +kernel
theorem nmgX17 : ∀ a, a < 4 → ∀ b, b < 4 → a ≠ b → (TX17 a).2.1 ≠ (TX17 b).2.1 ∨ ((TX17 a).2.2.2 = true ∧ (TX17 b).2.2.2 = true ∧ (TX17 a).1 ≠ (TX17 b).1) := by decide +kernel
theorem nmgX18 : ∀ a, a < 4 → ∀ b, b < 4 → a ≠ b → (TX18 a).2.1 ≠ (TX18 b).2.1 ∨ ((TX18 a).2.2.2 = true ∧ (TX18 b).2.2.2 = true ∧ (TX18 a).1 ≠ (TX18 b).1) := by decide +kernel
theorem nmgX19 : ∀ a, a < 5 → ∀ b, b < 5 → a ≠ b → (TX19 a).2.1 ≠ (TX19 b).2.1 ∨ ((TX19 a).2.2.2 = true ∧ (TX19 b).2.2.2 = true ∧ (TX19 a).1 ≠ (TX19 b).1) := by decide +kernel
theorem nmgX20 : ∀ a, a < 3 → ∀ b, b < 3 → a ≠ b → (TX20 a).2.1 ≠ (TX20 b).2.1 ∨ ((TX20 a).2.2.2 = true ∧ (TX20 b).2.2.2 = true ∧ (TX20 a).1 ≠ (TX20 b).1) := by decide +kernel
theorem nmgX21 : ∀ a, a < 5 → ∀ b, b < 5 → a ≠ b → (TX21 a).2.1 ≠ (TX21 b).2.1 ∨ ((TX21 a).2.2.2 = true ∧ (TX21 b).2.2.2 = true ∧ (TX21 a).1 ≠ (TX21 b).1) := by decide +kernel
theorem yd_X3_init : (yX3_init).cls ≠ "java/lang/invoke/MethodHandle" ∧ (yX3_init).cls ≠ "java/lang/invoke/VarHandle" ∧ (parseMethodDescriptor (yX3_init).desc).map (fun d => d.parameters.length) = some 3 := by decide +kernel
theorem yd_X4_init : (yX4_init).cls ≠ "java/lang/invoke/MethodHandle" ∧ (yX4_init).cls ≠ "java/lang/invoke/VarHandle" ∧ (parseMethodDescriptor (yX4_init).desc).map (fun d => d.parameters.length) = some 4 := by decide +kernel
theorem yd_X5_init : (yX5_init).cls ≠ "java/lang/invoke/MethodHandle" ∧ (yX5_init).cls ≠ "java/lang/invoke/VarHandle" ∧ (parseMethodDescriptor (yX5_init).desc).map (fun d => d.parameters.length) = some 1 := by decide +kernel
theorem yd_X6_init : (yX6_init).cls ≠ "java/lang/invoke/MethodHandle" ∧ (yX6_init).cls ≠ "java/lang/invoke/VarHandle" ∧ (parseMethodDescriptor (yX6_init).desc).map (fun d => d.parameters.length) = some 0 := by decide +kernel
theorem yd_X7_init : (yX7_init).cls ≠ "java/lang/invoke/MethodHandle" ∧ (yX7_init).cls ≠ "java/lang/invoke/VarHandle" ∧ (parseMethodDescriptor (yX7_init).desc).map (fun d => d.parameters.length) = some 0 := by decide +kernel
theorem yd_X8_init : (yX8_init).cls ≠ "java/lang/invoke/MethodHandle" ∧ (yX8_init).cls ≠ "java/lang/invoke/VarHandle" ∧ (parseMethodDescriptor (yX8_init).desc).map (fun d => d.parameters.length) = some 1 := by decide +kernel
theorem yd_X9_init : (yX9_init).cls ≠ "java/lang/invoke/MethodHandle" ∧ (yX9_init).cls ≠ "java/lang/invoke/VarHandle" ∧ (parseMethodDescriptor (yX9_init).desc).map (fun d => d.parameters.length) = some 1 := by decide +kernel
theorem yd_X10_init : (yX10_init).cls ≠ "java/lang/invoke/MethodHandle" ∧ (yX10_init).cls ≠ "java/lang/invoke/VarHandle" ∧ (parseMethodDescriptor (yX10_init).desc).map (fun d => d.parameters.length) = some 1 := by decide +kernel
theorem yd_X11_init : (yX11_init).cls ≠ "java/lang/invoke/MethodHandle" ∧ (yX11_init).cls ≠ "java/lang/invoke/VarHandle" ∧ (parseMethodDescriptor (yX11_init).desc).map (fun d => d.parameters.length) = some 1 := by decide +kernel
theorem yd_X12_init : (yX12_init).cls ≠ "java/lang/invoke/MethodHandle" ∧ (yX12_init).cls ≠ "java/lang/invoke/VarHandle" ∧ (parseMethodDescriptor (yX12_init).desc).map (fun d => d.parameters.length) = some 3 := by decide +kernel
theorem yd_X13_init : (yX13_init).cls ≠ "java/lang/invoke/MethodHandle" ∧ (yX13_init).cls ≠ "java/lang/invoke/VarHandle" ∧ (parseMethodDescriptor (yX13_init).desc).map (fun d => d.parameters.length) = some 0 := by decide +kernel
theorem yd_X14_init : (yX14_init).cls ≠ "java/lang/invoke/MethodHandle" ∧ (yX14_init).cls ≠ "java/lang/invoke/VarHandle" ∧ (parseMethodDescriptor (yX14_init).desc).map (fun d => d.parameters.length) = some 2 := by decide +kernel
theorem yd_X15_init : (yX15_init).cls ≠ "java/lang/invoke/MethodHandle" ∧ (yX15_init).cls ≠ "java/lang/invoke/VarHandle" ∧ (parseMethodDescriptor (yX15_init).desc).map (fun d => d.parameters.length) = some 2 := by decide +kernel
theorem yd_X16_init : (yX16_init).cls ≠ "java/lang/invoke/MethodHandle" ∧ (yX16_init).cls ≠ "java/lang/invoke/VarHandle" ∧ (parseMethodDescriptor (yX16_init).desc).map (fun d => d.parameters.length) = some 2 := by decide +kernel
theorem yd_X17_init : (yX17_init).cls ≠ "java/lang/invoke/MethodHandle" ∧ (yX17_init).cls ≠ "java/lang/invoke/VarHandle" ∧ (parseMethodDescriptor (yX17_init).desc).map (fun d => d.parameters.length) = some 2 := by decide +kernel
theorem yd_X18_init : (yX18_init).cls ≠ "java/lang/invoke/MethodHandle" ∧ (yX18_init).cls ≠ "java/lang/invoke/VarHandle" ∧ (parseMethodDescriptor (yX18_init).desc).map (fun d => d.parameters.length) = some 2 := by decide +kernel
theorem yd_X19_init : (yX19_init).cls ≠ "java/lang/invoke/MethodHandle" ∧ (yX19_init).cls ≠ "java/lang/invoke/VarHandle" ∧ (parseMethodDescriptor (yX19_init).desc).map (fun d => d.parameters.length) = some 2 := by decide +kernel
theorem yd_X20_init : (yX20_init).cls ≠ "java/lang/invoke/MethodHandle" ∧ (yX20_init).cls ≠ "java/lang/invoke/VarHandle" ∧ (parseMethodDescriptor (yX20_init).desc).map (fun d => d.parameters.length) = some 2 := by decide +kernel
theorem yd_X21_init : (yX21_init).cls ≠ "java/lang/invoke/MethodHandle" ∧ (yX21_init).cls ≠ "java/lang/invoke/VarHandle" ∧ (parseMethodDescriptor (yX21_init).desc).map (fun d => d.parameters.length) = some 2 := by decide +kernel
theorem bmtC_X3_X3 {p : Program} {l : Launch} {e : Env} {R : Room} {s : State} {m : MethodId} {args : Array Value} {below : List Frame} {meth : Method} {c : Code} {q : Nat} {cC : ClassId} {iS : Nat → Nat} {V : Nat → Value} (a0 : Int32) (a1 : Int32) (a2 : Int32) (C0 : cCx p s m args meth c RX3 cX3_init 4 ((q, RX3, TX3, 8, cC, iS) : cT)) (hRo : 1 ≤ R.frames ∧ 20 ≤ R.locals) (H : Heap) (locs : List Loc) (ls : Array Slot) (hG : cG ((q, RX3, TX3, 8, cC, iS) : cT) s V H locs) (hl : lv_has ls 4 [(0, .ref q), (1, .int a0), (2, .int a1), (3, .int a2)]) : W p l e R s m args below meth c H locs 0 0 (MQ below (cQ ((q, RX3, TX3, 8, cC, iS) : cT) (updV (updV (updV (updV V 3 (.int 12)) 0 (.int a0)) 1 (.int a1)) 2 (.int a2))) args s 0 0 (fun a => a = q)) (F0 m 0 ls []) := by
  have hx := C0.1
  have hb := C0.2.1
  have cw_X3 : cWd ((q, RX3, TX3, 8, cC, iS) : cT) tyX3 := ⟨in_X3, tyX3_ok, nmgX3⟩
  refine lv_aload_n hx hb dX3_init_0 rfl (lv_at hl 0 rfl) ?_
  refine c_objI C0 q327 q150 q151 hl.1 ⟨by omega, by omega⟩ (Nat.le_of_ble_eq_true rfl) dX3_init_1 ?_
  refine lv_aload_n hx hb dX3_init_4 rfl (lv_at hl 0 rfl) ?_
  refine lv_bipush (v := 12) hx hb dX3_init_5 (by decide) ?_
  refine c_put C0 hG cw_X3 3 (show 3 < 8 by decide) q334 rfl rfl rfl rfl dX3_init_7 (fun H locs hG => ?_)
  refine lv_aload_n hx hb dX3_init_10 rfl (lv_at hl 0 rfl) ?_
  refine lv_iload_n hx hb dX3_init_11 rfl (lv_at hl 1 rfl) ?_
  refine c_put C0 hG cw_X3 0 (show 0 < 8 by decide) q328 rfl rfl rfl rfl dX3_init_12 (fun H locs hG => ?_)
  refine lv_aload_n hx hb dX3_init_15 rfl (lv_at hl 0 rfl) ?_
  refine lv_iload_n hx hb dX3_init_16 rfl (lv_at hl 2 rfl) ?_
  refine c_put C0 hG cw_X3 1 (show 1 < 8 by decide) q330 rfl rfl rfl rfl dX3_init_17 (fun H locs hG => ?_)
  refine lv_aload_n hx hb dX3_init_20 rfl (lv_at hl 0 rfl) ?_
  refine lv_iload_n hx hb dX3_init_21 rfl (lv_at hl 3 rfl) ?_
  refine c_put C0 hG cw_X3 2 (show 2 < 8 by decide) q332 rfl rfl rfl rfl dX3_init_22 (fun H locs hG => ?_)
  exact c_ret C0 hG rfl dX3_init_25
theorem mtC_X3_X3 (l : Launch) (q : Nat) (cC : ClassId) (iS : Nat → Nat) (V : Nat → Value) (a0 : Int32) (a1 : Int32) (a2 : Int32) : cMet l yX3_init cX3_init 4 1 20 [.ref q, .int a0, .int a1, .int a2] ((q, RX3, TX3, 8, cC, iS) : cT) V (updV (updV (updV (updV V 3 (.int 12)) 0 (.int a0)) 1 (.int a1)) 2 (.int a2)) := by
  refine c_head (by decide) rfl rfl ?_
  intro p e s m below meth c C0 hG
  have hl := lv_entry ([.ref q, .int a0, .int a1, .int a2]) (n := 4) (Nat.le_of_ble_eq_true rfl)
  rw [lg_entry_eq]
  generalize (lg_sl ([.ref q, .int a0, .int a1, .int a2]) ++ List.replicate (4 - (lg_sl ([.ref q, .int a0, .int a1, .int a2])).length) Slot.unset).toArray = ls at hl ⊢
  have hl : lv_has ls 4 [(0, .ref q), (1, .int a0), (2, .int a1), (3, .int a2)] := hl
  exact bmtC_X3_X3 a0 a1 a2 C0 ⟨Nat.le_refl _, Nat.le_refl _⟩ _ [] ls hG hl
theorem bmtC_X4_X4 {p : Program} {l : Launch} {e : Env} {R : Room} {s : State} {m : MethodId} {args : Array Value} {below : List Frame} {meth : Method} {c : Code} {q : Nat} {cC : ClassId} {iS : Nat → Nat} {V : Nat → Value} (a0 : Int32) (a1 : Int32) (a2 : Int32) (a3 : Int32) (C0 : cCx p s m args meth c RX4 cX4_init 5 ((q, RX4, TX4, 4, cC, iS) : cT)) (hRo : 1 ≤ R.frames ∧ 20 ≤ R.locals) (H : Heap) (locs : List Loc) (ls : Array Slot) (hG : cG ((q, RX4, TX4, 4, cC, iS) : cT) s V H locs) (hl : lv_has ls 5 [(0, .ref q), (1, .int a0), (2, .int a1), (3, .int a2), (4, .int a3)]) : W p l e R s m args below meth c H locs 0 0 (MQ below (cQ ((q, RX4, TX4, 4, cC, iS) : cT) (updV (updV (updV (updV V 0 (.int a0)) 1 (.int a1)) 2 (.int a2)) 3 (.int a3))) args s 0 0 (fun a => a = q)) (F0 m 0 ls []) := by
  have hx := C0.1
  have hb := C0.2.1
  have cw_X4 : cWd ((q, RX4, TX4, 4, cC, iS) : cT) tyX4 := ⟨in_X4, tyX4_ok, nmgX4⟩
  refine lv_aload_n hx hb dX4_init_0 rfl (lv_at hl 0 rfl) ?_
  refine c_objI C0 q536 q150 q151 hl.1 ⟨by omega, by omega⟩ (Nat.le_of_ble_eq_true rfl) dX4_init_1 ?_
  refine lv_aload_n hx hb dX4_init_4 rfl (lv_at hl 0 rfl) ?_
  refine lv_iload_n hx hb dX4_init_5 rfl (lv_at hl 1 rfl) ?_
  refine c_putF C0 hG cw_X4 0 (show 0 < 4 by decide) q537 rfl rfl rfl rfl rfl dX4_init_6 (fun H locs hG => ?_)
  refine lv_aload_n hx hb dX4_init_9 rfl (lv_at hl 0 rfl) ?_
  refine lv_iload_n hx hb dX4_init_10 rfl (lv_at hl 2 rfl) ?_
  refine c_putF C0 hG cw_X4 1 (show 1 < 4 by decide) q539 rfl rfl rfl rfl rfl dX4_init_11 (fun H locs hG => ?_)
  refine lv_aload_n hx hb dX4_init_14 rfl (lv_at hl 0 rfl) ?_
  refine lv_iload_n hx hb dX4_init_15 rfl (lv_at hl 3 rfl) ?_
  refine c_putF C0 hG cw_X4 2 (show 2 < 4 by decide) q541 rfl rfl rfl rfl rfl dX4_init_16 (fun H locs hG => ?_)
  refine lv_aload_n hx hb dX4_init_19 rfl (lv_at hl 0 rfl) ?_
  refine lv_iload hx hb dX4_init_20 (lv_at hl 4 rfl) ?_
  refine c_putF C0 hG cw_X4 3 (show 3 < 4 by decide) q543 rfl rfl rfl rfl rfl dX4_init_22 (fun H locs hG => ?_)
  exact c_ret C0 hG rfl dX4_init_25
theorem mtC_X4_X4 (l : Launch) (q : Nat) (cC : ClassId) (iS : Nat → Nat) (V : Nat → Value) (a0 : Int32) (a1 : Int32) (a2 : Int32) (a3 : Int32) : cMet l yX4_init cX4_init 5 1 20 [.ref q, .int a0, .int a1, .int a2, .int a3] ((q, RX4, TX4, 4, cC, iS) : cT) V (updV (updV (updV (updV V 0 (.int a0)) 1 (.int a1)) 2 (.int a2)) 3 (.int a3)) := by
  refine c_head (by decide) rfl rfl ?_
  intro p e s m below meth c C0 hG
  have hl := lv_entry ([.ref q, .int a0, .int a1, .int a2, .int a3]) (n := 5) (Nat.le_of_ble_eq_true rfl)
  rw [lg_entry_eq]
  generalize (lg_sl ([.ref q, .int a0, .int a1, .int a2, .int a3]) ++ List.replicate (5 - (lg_sl ([.ref q, .int a0, .int a1, .int a2, .int a3])).length) Slot.unset).toArray = ls at hl ⊢
  have hl : lv_has ls 5 [(0, .ref q), (1, .int a0), (2, .int a1), (3, .int a2), (4, .int a3)] := hl
  exact bmtC_X4_X4 a0 a1 a2 a3 C0 ⟨Nat.le_refl _, Nat.le_refl _⟩ _ [] ls hG hl
theorem bmtC_X5_X5 {p : Program} {l : Launch} {e : Env} {R : Room} {s : State} {m : MethodId} {args : Array Value} {below : List Frame} {meth : Method} {c : Code} {q : Nat} {cC : ClassId} {iS : Nat → Nat} {V : Nat → Value} (a0 : Nat) (C0 : cCx p s m args meth c RX5 cX5_init 2 ((q, RX5, TX5, 4, cC, iS) : cT)) (hRo : 1 ≤ R.frames ∧ 20 ≤ R.locals) (H : Heap) (locs : List Loc) (ls : Array Slot) (hG : cG ((q, RX5, TX5, 4, cC, iS) : cT) s V H locs) (hl : lv_has ls 2 [(0, .ref q), (1, .ref a0)]) : W p l e R s m args below meth c H locs 0 0 (MQ below (cQ ((q, RX5, TX5, 4, cC, iS) : cT) (updV (updV V 3 (.ref a0)) 1 (.int (-1)))) args s 0 0 (fun a => a = q)) (F0 m 0 ls []) := by
  have hx := C0.1
  have hb := C0.2.1
  have cw_X5 : cWd ((q, RX5, TX5, 4, cC, iS) : cT) tyX5 := ⟨in_X5, tyX5_ok, nmgX5⟩
  refine lv_aload_n hx hb dX5_init_0 rfl (lv_at hl 0 rfl) ?_
  refine lv_aload_n hx hb dX5_init_1 rfl (lv_at hl 1 rfl) ?_
  refine c_putF C0 hG cw_X5 3 (show 3 < 4 by decide) q577 rfl rfl rfl rfl rfl dX5_init_2 (fun H locs hG => ?_)
  refine lv_aload_n hx hb dX5_init_5 rfl (lv_at hl 0 rfl) ?_
  refine c_objI C0 q572 q150 q151 hl.1 ⟨by omega, by omega⟩ (Nat.le_of_ble_eq_true rfl) dX5_init_6 ?_
  refine lv_aload_n hx hb dX5_init_9 rfl (lv_at hl 0 rfl) ?_
  refine lv_iconst (v := (-1)) hx hb dX5_init_10 (by decide) ?_
  refine c_put C0 hG cw_X5 1 (show 1 < 4 by decide) q574 rfl rfl rfl rfl dX5_init_11 (fun H locs hG => ?_)
  exact c_ret C0 hG rfl dX5_init_14
theorem mtC_X5_X5 (l : Launch) (q : Nat) (cC : ClassId) (iS : Nat → Nat) (V : Nat → Value) (a0 : Nat) : cMet l yX5_init cX5_init 2 1 20 [.ref q, .ref a0] ((q, RX5, TX5, 4, cC, iS) : cT) V (updV (updV V 3 (.ref a0)) 1 (.int (-1))) := by
  refine c_head (by decide) rfl rfl ?_
  intro p e s m below meth c C0 hG
  have hl := lv_entry ([.ref q, .ref a0]) (n := 2) (Nat.le_of_ble_eq_true rfl)
  rw [lg_entry_eq]
  generalize (lg_sl ([.ref q, .ref a0]) ++ List.replicate (2 - (lg_sl ([.ref q, .ref a0])).length) Slot.unset).toArray = ls at hl ⊢
  have hl : lv_has ls 2 [(0, .ref q), (1, .ref a0)] := hl
  exact bmtC_X5_X5 a0 C0 ⟨Nat.le_refl _, Nat.le_refl _⟩ _ [] ls hG hl
theorem bmtC_X6_X6 {p : Program} {l : Launch} {e : Env} {R : Room} {s : State} {m : MethodId} {args : Array Value} {below : List Frame} {meth : Method} {c : Code} {q : Nat} {cC : ClassId} {iS : Nat → Nat} {V : Nat → Value}  (C0 : cCx p s m args meth c RX6 cX6_init 1 ((q, RX6, TX6, 3, cC, iS) : cT)) (hRo : 1 ≤ R.frames ∧ 20 ≤ R.locals) (H : Heap) (locs : List Loc) (ls : Array Slot) (hG : cG ((q, RX6, TX6, 3, cC, iS) : cT) s V H locs) (hl : lv_has ls 1 [(0, .ref q)]) : W p l e R s m args below meth c H locs 0 0 (MQ below (cQ ((q, RX6, TX6, 3, cC, iS) : cT) V) args s 0 0 (fun a => a = q)) (F0 m 0 ls []) := by
  have hx := C0.1
  have hb := C0.2.1
  have cw_X6 : cWd ((q, RX6, TX6, 3, cC, iS) : cT) tyX6 := ⟨in_X6, tyX6_ok, nmgX6⟩
  refine lv_aload_n hx hb dX6_init_0 rfl (lv_at hl 0 rfl) ?_
  refine c_objI C0 q600 q150 q151 hl.1 ⟨by omega, by omega⟩ (Nat.le_of_ble_eq_true rfl) dX6_init_1 ?_
  exact c_ret C0 hG rfl dX6_init_4
theorem mtC_X6_X6 (l : Launch) (q : Nat) (cC : ClassId) (iS : Nat → Nat) (V : Nat → Value)  : cMet l yX6_init cX6_init 1 1 20 [.ref q] ((q, RX6, TX6, 3, cC, iS) : cT) V V := by
  refine c_head (by decide) rfl rfl ?_
  intro p e s m below meth c C0 hG
  have hl := lv_entry ([.ref q]) (n := 1) (Nat.le_of_ble_eq_true rfl)
  rw [lg_entry_eq]
  generalize (lg_sl ([.ref q]) ++ List.replicate (1 - (lg_sl ([.ref q])).length) Slot.unset).toArray = ls at hl ⊢
  have hl : lv_has ls 1 [(0, .ref q)] := hl
  exact bmtC_X6_X6 C0 ⟨Nat.le_refl _, Nat.le_refl _⟩ _ [] ls hG hl
theorem bmtC_X8_X7 {p : Program} {l : Launch} {e : Env} {R : Room} {s : State} {m : MethodId} {args : Array Value} {below : List Frame} {meth : Method} {c : Code} {q : Nat} {cC : ClassId} {iS : Nat → Nat} {V : Nat → Value}  (C0 : cCx p s m args meth c RX7 cX7_init 1 ((q, RX8, TX8, 1, cC, iS) : cT)) (hRo : 1 ≤ R.frames ∧ 20 ≤ R.locals) (H : Heap) (locs : List Loc) (ls : Array Slot) (hG : cG ((q, RX8, TX8, 1, cC, iS) : cT) s V H locs) (hl : lv_has ls 1 [(0, .ref q)]) : W p l e R s m args below meth c H locs 0 0 (MQ below (cQ ((q, RX8, TX8, 1, cC, iS) : cT) V) args s 0 0 (fun a => a = q)) (F0 m 0 ls []) := by
  have hx := C0.1
  have hb := C0.2.1
  have cw_X8 : cWd ((q, RX8, TX8, 1, cC, iS) : cT) tyX8 := ⟨in_X8, tyX8_ok, nmgX8⟩
  refine lv_aload_n hx hb dX7_init_0 rfl (lv_at hl 0 rfl) ?_
  refine c_objI C0 q741 q150 q151 hl.1 ⟨by omega, by omega⟩ (Nat.le_of_ble_eq_true rfl) dX7_init_1 ?_
  exact c_ret C0 hG rfl dX7_init_4
theorem mtC_X8_X7 (l : Launch) (q : Nat) (cC : ClassId) (iS : Nat → Nat) (V : Nat → Value)  : cMet l yX7_init cX7_init 1 1 20 [.ref q] ((q, RX8, TX8, 1, cC, iS) : cT) V V := by
  refine c_head (by decide) rfl rfl ?_
  intro p e s m below meth c C0 hG
  have hl := lv_entry ([.ref q]) (n := 1) (Nat.le_of_ble_eq_true rfl)
  rw [lg_entry_eq]
  generalize (lg_sl ([.ref q]) ++ List.replicate (1 - (lg_sl ([.ref q])).length) Slot.unset).toArray = ls at hl ⊢
  have hl : lv_has ls 1 [(0, .ref q)] := hl
  exact bmtC_X8_X7 C0 ⟨Nat.le_refl _, Nat.le_refl _⟩ _ [] ls hG hl
theorem bmtC_X8_X8 {p : Program} {l : Launch} {e : Env} {R : Room} {s : State} {m : MethodId} {args : Array Value} {below : List Frame} {meth : Method} {c : Code} {q : Nat} {cC : ClassId} {iS : Nat → Nat} {V : Nat → Value} (a0 : Int32) (C0 : cCx p s m args meth c RX8 cX8_init 2 ((q, RX8, TX8, 1, cC, iS) : cT)) (hRo : 2 ≤ R.frames ∧ 40 ≤ R.locals) (H : Heap) (locs : List Loc) (ls : Array Slot) (hG : cG ((q, RX8, TX8, 1, cC, iS) : cT) s V H locs) (hl : lv_has ls 2 [(0, .ref q), (1, .int a0)]) : W p l e R s m args below meth c H locs 0 0 (MQ below (cQ ((q, RX8, TX8, 1, cC, iS) : cT) (updV (V) 0 (.int a0))) args s 0 0 (fun a => a = q)) (F0 m 0 ls []) := by
  have hx := C0.1
  have hb := C0.2.1
  have cw_X8 : cWd ((q, RX8, TX8, 1, cC, iS) : cT) tyX8 := ⟨in_X8, tyX8_ok, nmgX8⟩
  refine lv_aload_n hx hb dX8_init_0 rfl (lv_at hl 0 rfl) ?_
  refine c_callN (As := []) (rest := []) C0.1 C0.2.1 C0.2.2.1 C0.2.2.2.1 C0.2.2.2.2.1 C0.2.2.2.2.2.1 hG.1 (mtC_X8_X7 l q cC iS V) q740 q120 q738 q739 rfl yd_X7_init ⟨by omega, by omega⟩ ⟨Nat.zero_le _, Nat.zero_le _⟩ rfl rfl hl.1 (Nat.le_of_ble_eq_true rfl) dX8_init_1 (fun H1 locs1 h1 h2 h3 h4 => ?_)
  have hG := c_sup hG h1 h2 h3 h4
  refine lv_aload_n hx hb dX8_init_4 rfl (lv_at hl 0 rfl) ?_
  refine lv_iload_n hx hb dX8_init_5 rfl (lv_at hl 1 rfl) ?_
  refine c_putF C0 hG cw_X8 0 (show 0 < 1 by decide) q742 rfl rfl rfl rfl rfl dX8_init_6 (fun H locs hG => ?_)
  exact c_ret C0 hG rfl dX8_init_9
theorem mtC_X8_X8 (l : Launch) (q : Nat) (cC : ClassId) (iS : Nat → Nat) (V : Nat → Value) (a0 : Int32) : cMet l yX8_init cX8_init 2 2 40 [.ref q, .int a0] ((q, RX8, TX8, 1, cC, iS) : cT) V (updV (V) 0 (.int a0)) := by
  refine c_head (by decide) rfl rfl ?_
  intro p e s m below meth c C0 hG
  have hl := lv_entry ([.ref q, .int a0]) (n := 2) (Nat.le_of_ble_eq_true rfl)
  rw [lg_entry_eq]
  generalize (lg_sl ([.ref q, .int a0]) ++ List.replicate (2 - (lg_sl ([.ref q, .int a0])).length) Slot.unset).toArray = ls at hl ⊢
  have hl : lv_has ls 2 [(0, .ref q), (1, .int a0)] := hl
  exact bmtC_X8_X8 a0 C0 ⟨Nat.le_refl _, Nat.le_refl _⟩ _ [] ls hG hl
theorem bmtC_X9_X7 {p : Program} {l : Launch} {e : Env} {R : Room} {s : State} {m : MethodId} {args : Array Value} {below : List Frame} {meth : Method} {c : Code} {q : Nat} {cC : ClassId} {iS : Nat → Nat} {V : Nat → Value}  (C0 : cCx p s m args meth c RX7 cX7_init 1 ((q, RX9, TX9, 1, cC, iS) : cT)) (hRo : 1 ≤ R.frames ∧ 20 ≤ R.locals) (H : Heap) (locs : List Loc) (ls : Array Slot) (hG : cG ((q, RX9, TX9, 1, cC, iS) : cT) s V H locs) (hl : lv_has ls 1 [(0, .ref q)]) : W p l e R s m args below meth c H locs 0 0 (MQ below (cQ ((q, RX9, TX9, 1, cC, iS) : cT) V) args s 0 0 (fun a => a = q)) (F0 m 0 ls []) := by
  have hx := C0.1
  have hb := C0.2.1
  have cw_X9 : cWd ((q, RX9, TX9, 1, cC, iS) : cT) tyX9 := ⟨in_X9, tyX9_ok, nmgX9⟩
  refine lv_aload_n hx hb dX7_init_0 rfl (lv_at hl 0 rfl) ?_
  refine c_objI C0 q741 q150 q151 hl.1 ⟨by omega, by omega⟩ (Nat.le_of_ble_eq_true rfl) dX7_init_1 ?_
  exact c_ret C0 hG rfl dX7_init_4
theorem mtC_X9_X7 (l : Launch) (q : Nat) (cC : ClassId) (iS : Nat → Nat) (V : Nat → Value)  : cMet l yX7_init cX7_init 1 1 20 [.ref q] ((q, RX9, TX9, 1, cC, iS) : cT) V V := by
  refine c_head (by decide) rfl rfl ?_
  intro p e s m below meth c C0 hG
  have hl := lv_entry ([.ref q]) (n := 1) (Nat.le_of_ble_eq_true rfl)
  rw [lg_entry_eq]
  generalize (lg_sl ([.ref q]) ++ List.replicate (1 - (lg_sl ([.ref q])).length) Slot.unset).toArray = ls at hl ⊢
  have hl : lv_has ls 1 [(0, .ref q)] := hl
  exact bmtC_X9_X7 C0 ⟨Nat.le_refl _, Nat.le_refl _⟩ _ [] ls hG hl
theorem bmtC_X9_X9 {p : Program} {l : Launch} {e : Env} {R : Room} {s : State} {m : MethodId} {args : Array Value} {below : List Frame} {meth : Method} {c : Code} {q : Nat} {cC : ClassId} {iS : Nat → Nat} {V : Nat → Value} (a0 : Nat) (C0 : cCx p s m args meth c RX9 cX9_init 2 ((q, RX9, TX9, 1, cC, iS) : cT)) (hRo : 2 ≤ R.frames ∧ 40 ≤ R.locals) (H : Heap) (locs : List Loc) (ls : Array Slot) (hG : cG ((q, RX9, TX9, 1, cC, iS) : cT) s V H locs) (hl : lv_has ls 2 [(0, .ref q), (1, .ref a0)]) : W p l e R s m args below meth c H locs 0 0 (MQ below (cQ ((q, RX9, TX9, 1, cC, iS) : cT) (updV (V) 0 (.ref a0))) args s 0 0 (fun a => a = q)) (F0 m 0 ls []) := by
  have hx := C0.1
  have hb := C0.2.1
  have cw_X9 : cWd ((q, RX9, TX9, 1, cC, iS) : cT) tyX9 := ⟨in_X9, tyX9_ok, nmgX9⟩
  refine lv_aload_n hx hb dX9_init_0 rfl (lv_at hl 0 rfl) ?_
  refine c_callN (As := []) (rest := []) C0.1 C0.2.1 C0.2.2.1 C0.2.2.2.1 C0.2.2.2.2.1 C0.2.2.2.2.2.1 hG.1 (mtC_X9_X7 l q cC iS V) q740 q120 q759 q739 rfl yd_X7_init ⟨by omega, by omega⟩ ⟨Nat.zero_le _, Nat.zero_le _⟩ rfl rfl hl.1 (Nat.le_of_ble_eq_true rfl) dX9_init_1 (fun H1 locs1 h1 h2 h3 h4 => ?_)
  have hG := c_sup hG h1 h2 h3 h4
  refine lv_aload_n hx hb dX9_init_4 rfl (lv_at hl 0 rfl) ?_
  refine lv_aload_n hx hb dX9_init_5 rfl (lv_at hl 1 rfl) ?_
  refine c_putF C0 hG cw_X9 0 (show 0 < 1 by decide) q760 rfl rfl rfl rfl rfl dX9_init_6 (fun H locs hG => ?_)
  exact c_ret C0 hG rfl dX9_init_9
theorem mtC_X9_X9 (l : Launch) (q : Nat) (cC : ClassId) (iS : Nat → Nat) (V : Nat → Value) (a0 : Nat) : cMet l yX9_init cX9_init 2 2 40 [.ref q, .ref a0] ((q, RX9, TX9, 1, cC, iS) : cT) V (updV (V) 0 (.ref a0)) := by
  refine c_head (by decide) rfl rfl ?_
  intro p e s m below meth c C0 hG
  have hl := lv_entry ([.ref q, .ref a0]) (n := 2) (Nat.le_of_ble_eq_true rfl)
  rw [lg_entry_eq]
  generalize (lg_sl ([.ref q, .ref a0]) ++ List.replicate (2 - (lg_sl ([.ref q, .ref a0])).length) Slot.unset).toArray = ls at hl ⊢
  have hl : lv_has ls 2 [(0, .ref q), (1, .ref a0)] := hl
  exact bmtC_X9_X9 a0 C0 ⟨Nat.le_refl _, Nat.le_refl _⟩ _ [] ls hG hl
theorem bmtC_X10_X7 {p : Program} {l : Launch} {e : Env} {R : Room} {s : State} {m : MethodId} {args : Array Value} {below : List Frame} {meth : Method} {c : Code} {q : Nat} {cC : ClassId} {iS : Nat → Nat} {V : Nat → Value}  (C0 : cCx p s m args meth c RX7 cX7_init 1 ((q, RX10, TX10, 1, cC, iS) : cT)) (hRo : 1 ≤ R.frames ∧ 20 ≤ R.locals) (H : Heap) (locs : List Loc) (ls : Array Slot) (hG : cG ((q, RX10, TX10, 1, cC, iS) : cT) s V H locs) (hl : lv_has ls 1 [(0, .ref q)]) : W p l e R s m args below meth c H locs 0 0 (MQ below (cQ ((q, RX10, TX10, 1, cC, iS) : cT) V) args s 0 0 (fun a => a = q)) (F0 m 0 ls []) := by
  have hx := C0.1
  have hb := C0.2.1
  have cw_X10 : cWd ((q, RX10, TX10, 1, cC, iS) : cT) tyX10 := ⟨in_X10, tyX10_ok, nmgX10⟩
  refine lv_aload_n hx hb dX7_init_0 rfl (lv_at hl 0 rfl) ?_
  refine c_objI C0 q741 q150 q151 hl.1 ⟨by omega, by omega⟩ (Nat.le_of_ble_eq_true rfl) dX7_init_1 ?_
  exact c_ret C0 hG rfl dX7_init_4
theorem mtC_X10_X7 (l : Launch) (q : Nat) (cC : ClassId) (iS : Nat → Nat) (V : Nat → Value)  : cMet l yX7_init cX7_init 1 1 20 [.ref q] ((q, RX10, TX10, 1, cC, iS) : cT) V V := by
  refine c_head (by decide) rfl rfl ?_
  intro p e s m below meth c C0 hG
  have hl := lv_entry ([.ref q]) (n := 1) (Nat.le_of_ble_eq_true rfl)
  rw [lg_entry_eq]
  generalize (lg_sl ([.ref q]) ++ List.replicate (1 - (lg_sl ([.ref q])).length) Slot.unset).toArray = ls at hl ⊢
  have hl : lv_has ls 1 [(0, .ref q)] := hl
  exact bmtC_X10_X7 C0 ⟨Nat.le_refl _, Nat.le_refl _⟩ _ [] ls hG hl
theorem bmtC_X10_X10 {p : Program} {l : Launch} {e : Env} {R : Room} {s : State} {m : MethodId} {args : Array Value} {below : List Frame} {meth : Method} {c : Code} {q : Nat} {cC : ClassId} {iS : Nat → Nat} {V : Nat → Value} (a0 : Nat) (C0 : cCx p s m args meth c RX10 cX10_init 2 ((q, RX10, TX10, 1, cC, iS) : cT)) (hRo : 2 ≤ R.frames ∧ 40 ≤ R.locals) (H : Heap) (locs : List Loc) (ls : Array Slot) (hG : cG ((q, RX10, TX10, 1, cC, iS) : cT) s V H locs) (hl : lv_has ls 2 [(0, .ref q), (1, .ref a0)]) : W p l e R s m args below meth c H locs 0 0 (MQ below (cQ ((q, RX10, TX10, 1, cC, iS) : cT) (updV (V) 0 (.ref a0))) args s 0 0 (fun a => a = q)) (F0 m 0 ls []) := by
  have hx := C0.1
  have hb := C0.2.1
  have cw_X10 : cWd ((q, RX10, TX10, 1, cC, iS) : cT) tyX10 := ⟨in_X10, tyX10_ok, nmgX10⟩
  refine lv_aload_n hx hb dX10_init_0 rfl (lv_at hl 0 rfl) ?_
  refine c_callN (As := []) (rest := []) C0.1 C0.2.1 C0.2.2.1 C0.2.2.2.1 C0.2.2.2.2.1 C0.2.2.2.2.2.1 hG.1 (mtC_X10_X7 l q cC iS V) q740 q120 q769 q739 rfl yd_X7_init ⟨by omega, by omega⟩ ⟨Nat.zero_le _, Nat.zero_le _⟩ rfl rfl hl.1 (Nat.le_of_ble_eq_true rfl) dX10_init_1 (fun H1 locs1 h1 h2 h3 h4 => ?_)
  have hG := c_sup hG h1 h2 h3 h4
  refine lv_aload_n hx hb dX10_init_4 rfl (lv_at hl 0 rfl) ?_
  refine lv_aload_n hx hb dX10_init_5 rfl (lv_at hl 1 rfl) ?_
  refine c_putF C0 hG cw_X10 0 (show 0 < 1 by decide) q770 rfl rfl rfl rfl rfl dX10_init_6 (fun H locs hG => ?_)
  exact c_ret C0 hG rfl dX10_init_9
theorem mtC_X10_X10 (l : Launch) (q : Nat) (cC : ClassId) (iS : Nat → Nat) (V : Nat → Value) (a0 : Nat) : cMet l yX10_init cX10_init 2 2 40 [.ref q, .ref a0] ((q, RX10, TX10, 1, cC, iS) : cT) V (updV (V) 0 (.ref a0)) := by
  refine c_head (by decide) rfl rfl ?_
  intro p e s m below meth c C0 hG
  have hl := lv_entry ([.ref q, .ref a0]) (n := 2) (Nat.le_of_ble_eq_true rfl)
  rw [lg_entry_eq]
  generalize (lg_sl ([.ref q, .ref a0]) ++ List.replicate (2 - (lg_sl ([.ref q, .ref a0])).length) Slot.unset).toArray = ls at hl ⊢
  have hl : lv_has ls 2 [(0, .ref q), (1, .ref a0)] := hl
  exact bmtC_X10_X10 a0 C0 ⟨Nat.le_refl _, Nat.le_refl _⟩ _ [] ls hG hl
theorem bmtC_X11_X7 {p : Program} {l : Launch} {e : Env} {R : Room} {s : State} {m : MethodId} {args : Array Value} {below : List Frame} {meth : Method} {c : Code} {q : Nat} {cC : ClassId} {iS : Nat → Nat} {V : Nat → Value}  (C0 : cCx p s m args meth c RX7 cX7_init 1 ((q, RX11, TX11, 1, cC, iS) : cT)) (hRo : 1 ≤ R.frames ∧ 20 ≤ R.locals) (H : Heap) (locs : List Loc) (ls : Array Slot) (hG : cG ((q, RX11, TX11, 1, cC, iS) : cT) s V H locs) (hl : lv_has ls 1 [(0, .ref q)]) : W p l e R s m args below meth c H locs 0 0 (MQ below (cQ ((q, RX11, TX11, 1, cC, iS) : cT) V) args s 0 0 (fun a => a = q)) (F0 m 0 ls []) := by
  have hx := C0.1
  have hb := C0.2.1
  have cw_X11 : cWd ((q, RX11, TX11, 1, cC, iS) : cT) tyX11 := ⟨in_X11, tyX11_ok, nmgX11⟩
  refine lv_aload_n hx hb dX7_init_0 rfl (lv_at hl 0 rfl) ?_
  refine c_objI C0 q741 q150 q151 hl.1 ⟨by omega, by omega⟩ (Nat.le_of_ble_eq_true rfl) dX7_init_1 ?_
  exact c_ret C0 hG rfl dX7_init_4
theorem mtC_X11_X7 (l : Launch) (q : Nat) (cC : ClassId) (iS : Nat → Nat) (V : Nat → Value)  : cMet l yX7_init cX7_init 1 1 20 [.ref q] ((q, RX11, TX11, 1, cC, iS) : cT) V V := by
  refine c_head (by decide) rfl rfl ?_
  intro p e s m below meth c C0 hG
  have hl := lv_entry ([.ref q]) (n := 1) (Nat.le_of_ble_eq_true rfl)
  rw [lg_entry_eq]
  generalize (lg_sl ([.ref q]) ++ List.replicate (1 - (lg_sl ([.ref q])).length) Slot.unset).toArray = ls at hl ⊢
  have hl : lv_has ls 1 [(0, .ref q)] := hl
  exact bmtC_X11_X7 C0 ⟨Nat.le_refl _, Nat.le_refl _⟩ _ [] ls hG hl
theorem bmtC_X11_X11 {p : Program} {l : Launch} {e : Env} {R : Room} {s : State} {m : MethodId} {args : Array Value} {below : List Frame} {meth : Method} {c : Code} {q : Nat} {cC : ClassId} {iS : Nat → Nat} {V : Nat → Value} (a0 : Int32) (C0 : cCx p s m args meth c RX11 cX11_init 2 ((q, RX11, TX11, 1, cC, iS) : cT)) (hRo : 2 ≤ R.frames ∧ 40 ≤ R.locals) (H : Heap) (locs : List Loc) (ls : Array Slot) (hG : cG ((q, RX11, TX11, 1, cC, iS) : cT) s V H locs) (hl : lv_has ls 2 [(0, .ref q), (1, .int a0)]) : W p l e R s m args below meth c H locs 0 0 (MQ below (cQ ((q, RX11, TX11, 1, cC, iS) : cT) (updV (V) 0 (.int a0))) args s 0 0 (fun a => a = q)) (F0 m 0 ls []) := by
  have hx := C0.1
  have hb := C0.2.1
  have cw_X11 : cWd ((q, RX11, TX11, 1, cC, iS) : cT) tyX11 := ⟨in_X11, tyX11_ok, nmgX11⟩
  refine lv_aload_n hx hb dX11_init_0 rfl (lv_at hl 0 rfl) ?_
  refine c_callN (As := []) (rest := []) C0.1 C0.2.1 C0.2.2.1 C0.2.2.2.1 C0.2.2.2.2.1 C0.2.2.2.2.2.1 hG.1 (mtC_X11_X7 l q cC iS V) q740 q120 q780 q739 rfl yd_X7_init ⟨by omega, by omega⟩ ⟨Nat.zero_le _, Nat.zero_le _⟩ rfl rfl hl.1 (Nat.le_of_ble_eq_true rfl) dX11_init_1 (fun H1 locs1 h1 h2 h3 h4 => ?_)
  have hG := c_sup hG h1 h2 h3 h4
  refine lv_aload_n hx hb dX11_init_4 rfl (lv_at hl 0 rfl) ?_
  refine lv_iload_n hx hb dX11_init_5 rfl (lv_at hl 1 rfl) ?_
  refine c_putF C0 hG cw_X11 0 (show 0 < 1 by decide) q781 rfl rfl rfl rfl rfl dX11_init_6 (fun H locs hG => ?_)
  exact c_ret C0 hG rfl dX11_init_9
theorem mtC_X11_X11 (l : Launch) (q : Nat) (cC : ClassId) (iS : Nat → Nat) (V : Nat → Value) (a0 : Int32) : cMet l yX11_init cX11_init 2 2 40 [.ref q, .int a0] ((q, RX11, TX11, 1, cC, iS) : cT) V (updV (V) 0 (.int a0)) := by
  refine c_head (by decide) rfl rfl ?_
  intro p e s m below meth c C0 hG
  have hl := lv_entry ([.ref q, .int a0]) (n := 2) (Nat.le_of_ble_eq_true rfl)
  rw [lg_entry_eq]
  generalize (lg_sl ([.ref q, .int a0]) ++ List.replicate (2 - (lg_sl ([.ref q, .int a0])).length) Slot.unset).toArray = ls at hl ⊢
  have hl : lv_has ls 2 [(0, .ref q), (1, .int a0)] := hl
  exact bmtC_X11_X11 a0 C0 ⟨Nat.le_refl _, Nat.le_refl _⟩ _ [] ls hG hl
theorem bmtC_X12_X7 {p : Program} {l : Launch} {e : Env} {R : Room} {s : State} {m : MethodId} {args : Array Value} {below : List Frame} {meth : Method} {c : Code} {q : Nat} {cC : ClassId} {iS : Nat → Nat} {V : Nat → Value}  (C0 : cCx p s m args meth c RX7 cX7_init 1 ((q, RX12, TX12, 3, cC, iS) : cT)) (hRo : 1 ≤ R.frames ∧ 20 ≤ R.locals) (H : Heap) (locs : List Loc) (ls : Array Slot) (hG : cG ((q, RX12, TX12, 3, cC, iS) : cT) s V H locs) (hl : lv_has ls 1 [(0, .ref q)]) : W p l e R s m args below meth c H locs 0 0 (MQ below (cQ ((q, RX12, TX12, 3, cC, iS) : cT) V) args s 0 0 (fun a => a = q)) (F0 m 0 ls []) := by
  have hx := C0.1
  have hb := C0.2.1
  have cw_X12 : cWd ((q, RX12, TX12, 3, cC, iS) : cT) tyX12 := ⟨in_X12, tyX12_ok, nmgX12⟩
  refine lv_aload_n hx hb dX7_init_0 rfl (lv_at hl 0 rfl) ?_
  refine c_objI C0 q741 q150 q151 hl.1 ⟨by omega, by omega⟩ (Nat.le_of_ble_eq_true rfl) dX7_init_1 ?_
  exact c_ret C0 hG rfl dX7_init_4
theorem mtC_X12_X7 (l : Launch) (q : Nat) (cC : ClassId) (iS : Nat → Nat) (V : Nat → Value)  : cMet l yX7_init cX7_init 1 1 20 [.ref q] ((q, RX12, TX12, 3, cC, iS) : cT) V V := by
  refine c_head (by decide) rfl rfl ?_
  intro p e s m below meth c C0 hG
  have hl := lv_entry ([.ref q]) (n := 1) (Nat.le_of_ble_eq_true rfl)
  rw [lg_entry_eq]
  generalize (lg_sl ([.ref q]) ++ List.replicate (1 - (lg_sl ([.ref q])).length) Slot.unset).toArray = ls at hl ⊢
  have hl : lv_has ls 1 [(0, .ref q)] := hl
  exact bmtC_X12_X7 C0 ⟨Nat.le_refl _, Nat.le_refl _⟩ _ [] ls hG hl
theorem bmtC_X12_X12 {p : Program} {l : Launch} {e : Env} {R : Room} {s : State} {m : MethodId} {args : Array Value} {below : List Frame} {meth : Method} {c : Code} {q : Nat} {cC : ClassId} {iS : Nat → Nat} {V : Nat → Value} (a0 : Int32) (a1 : Nat) (a2 : Nat) (C0 : cCx p s m args meth c RX12 cX12_init 4 ((q, RX12, TX12, 3, cC, iS) : cT)) (hRo : 2 ≤ R.frames ∧ 40 ≤ R.locals) (H : Heap) (locs : List Loc) (ls : Array Slot) (hG : cG ((q, RX12, TX12, 3, cC, iS) : cT) s V H locs) (hl : lv_has ls 4 [(0, .ref q), (1, .int a0), (2, .ref a1), (3, .ref a2)]) : W p l e R s m args below meth c H locs 0 0 (MQ below (cQ ((q, RX12, TX12, 3, cC, iS) : cT) (updV (updV (updV (V) 0 (.int a0)) 1 (.ref a1)) 2 (.ref a2))) args s 0 0 (fun a => a = q)) (F0 m 0 ls []) := by
  have hx := C0.1
  have hb := C0.2.1
  have cw_X12 : cWd ((q, RX12, TX12, 3, cC, iS) : cT) tyX12 := ⟨in_X12, tyX12_ok, nmgX12⟩
  refine lv_aload_n hx hb dX12_init_0 rfl (lv_at hl 0 rfl) ?_
  refine c_callN (As := []) (rest := []) C0.1 C0.2.1 C0.2.2.1 C0.2.2.2.1 C0.2.2.2.2.1 C0.2.2.2.2.2.1 hG.1 (mtC_X12_X7 l q cC iS V) q740 q120 q795 q739 rfl yd_X7_init ⟨by omega, by omega⟩ ⟨Nat.zero_le _, Nat.zero_le _⟩ rfl rfl hl.1 (Nat.le_of_ble_eq_true rfl) dX12_init_1 (fun H1 locs1 h1 h2 h3 h4 => ?_)
  have hG := c_sup hG h1 h2 h3 h4
  refine lv_aload_n hx hb dX12_init_4 rfl (lv_at hl 0 rfl) ?_
  refine lv_iload_n hx hb dX12_init_5 rfl (lv_at hl 1 rfl) ?_
  refine c_putF C0 hG cw_X12 0 (show 0 < 3 by decide) q796 rfl rfl rfl rfl rfl dX12_init_6 (fun H locs hG => ?_)
  refine lv_aload_n hx hb dX12_init_9 rfl (lv_at hl 0 rfl) ?_
  refine lv_aload_n hx hb dX12_init_10 rfl (lv_at hl 2 rfl) ?_
  refine c_putF C0 hG cw_X12 1 (show 1 < 3 by decide) q797 rfl rfl rfl rfl rfl dX12_init_11 (fun H locs hG => ?_)
  refine lv_aload_n hx hb dX12_init_14 rfl (lv_at hl 0 rfl) ?_
  refine lv_aload_n hx hb dX12_init_15 rfl (lv_at hl 3 rfl) ?_
  refine c_putF C0 hG cw_X12 2 (show 2 < 3 by decide) q798 rfl rfl rfl rfl rfl dX12_init_16 (fun H locs hG => ?_)
  exact c_ret C0 hG rfl dX12_init_19
theorem mtC_X12_X12 (l : Launch) (q : Nat) (cC : ClassId) (iS : Nat → Nat) (V : Nat → Value) (a0 : Int32) (a1 : Nat) (a2 : Nat) : cMet l yX12_init cX12_init 4 2 40 [.ref q, .int a0, .ref a1, .ref a2] ((q, RX12, TX12, 3, cC, iS) : cT) V (updV (updV (updV (V) 0 (.int a0)) 1 (.ref a1)) 2 (.ref a2)) := by
  refine c_head (by decide) rfl rfl ?_
  intro p e s m below meth c C0 hG
  have hl := lv_entry ([.ref q, .int a0, .ref a1, .ref a2]) (n := 4) (Nat.le_of_ble_eq_true rfl)
  rw [lg_entry_eq]
  generalize (lg_sl ([.ref q, .int a0, .ref a1, .ref a2]) ++ List.replicate (4 - (lg_sl ([.ref q, .int a0, .ref a1, .ref a2])).length) Slot.unset).toArray = ls at hl ⊢
  have hl : lv_has ls 4 [(0, .ref q), (1, .int a0), (2, .ref a1), (3, .ref a2)] := hl
  exact bmtC_X12_X12 a0 a1 a2 C0 ⟨Nat.le_refl _, Nat.le_refl _⟩ _ [] ls hG hl
theorem bmtC_X14_X13 {p : Program} {l : Launch} {e : Env} {R : Room} {s : State} {m : MethodId} {args : Array Value} {below : List Frame} {meth : Method} {c : Code} {q : Nat} {cC : ClassId} {iS : Nat → Nat} {V : Nat → Value}  (C0 : cCx p s m args meth c RX13 cX13_init 1 ((q, RX14, TX14, 2, cC, iS) : cT)) (hRo : 1 ≤ R.frames ∧ 20 ≤ R.locals) (H : Heap) (locs : List Loc) (ls : Array Slot) (hG : cG ((q, RX14, TX14, 2, cC, iS) : cT) s V H locs) (hl : lv_has ls 1 [(0, .ref q)]) : W p l e R s m args below meth c H locs 0 0 (MQ below (cQ ((q, RX14, TX14, 2, cC, iS) : cT) V) args s 0 0 (fun a => a = q)) (F0 m 0 ls []) := by
  have hx := C0.1
  have hb := C0.2.1
  have cw_X14 : cWd ((q, RX14, TX14, 2, cC, iS) : cT) tyX14 := ⟨in_X14, tyX14_ok, nmgX14⟩
  refine lv_aload_n hx hb dX13_init_0 rfl (lv_at hl 0 rfl) ?_
  refine c_objI C0 q1113 q150 q151 hl.1 ⟨by omega, by omega⟩ (Nat.le_of_ble_eq_true rfl) dX13_init_1 ?_
  exact c_ret C0 hG rfl dX13_init_4
theorem mtC_X14_X13 (l : Launch) (q : Nat) (cC : ClassId) (iS : Nat → Nat) (V : Nat → Value)  : cMet l yX13_init cX13_init 1 1 20 [.ref q] ((q, RX14, TX14, 2, cC, iS) : cT) V V := by
  refine c_head (by decide) rfl rfl ?_
  intro p e s m below meth c C0 hG
  have hl := lv_entry ([.ref q]) (n := 1) (Nat.le_of_ble_eq_true rfl)
  rw [lg_entry_eq]
  generalize (lg_sl ([.ref q]) ++ List.replicate (1 - (lg_sl ([.ref q])).length) Slot.unset).toArray = ls at hl ⊢
  have hl : lv_has ls 1 [(0, .ref q)] := hl
  exact bmtC_X14_X13 C0 ⟨Nat.le_refl _, Nat.le_refl _⟩ _ [] ls hG hl
theorem bmtC_X14_X14 {p : Program} {l : Launch} {e : Env} {R : Room} {s : State} {m : MethodId} {args : Array Value} {below : List Frame} {meth : Method} {c : Code} {q : Nat} {cC : ClassId} {iS : Nat → Nat} {V : Nat → Value} (a0 : Nat) (a1 : Int32) (C0 : cCx p s m args meth c RX14 cX14_init 3 ((q, RX14, TX14, 2, cC, iS) : cT)) (hRo : 2 ≤ R.frames ∧ 40 ≤ R.locals) (H : Heap) (locs : List Loc) (ls : Array Slot) (hG : cG ((q, RX14, TX14, 2, cC, iS) : cT) s V H locs) (hl : lv_has ls 3 [(0, .ref q), (1, .ref a0), (2, .int a1)]) : W p l e R s m args below meth c H locs 0 0 (MQ below (cQ ((q, RX14, TX14, 2, cC, iS) : cT) (updV ((updV V 1 (.ref a0))) 0 (.int a1))) args s 0 0 (fun a => a = q)) (F0 m 0 ls []) := by
  have hx := C0.1
  have hb := C0.2.1
  have cw_X14 : cWd ((q, RX14, TX14, 2, cC, iS) : cT) tyX14 := ⟨in_X14, tyX14_ok, nmgX14⟩
  refine lv_aload_n hx hb dX14_init_0 rfl (lv_at hl 0 rfl) ?_
  refine lv_aload_n hx hb dX14_init_1 rfl (lv_at hl 1 rfl) ?_
  refine c_putF C0 hG cw_X14 1 (show 1 < 2 by decide) q1116 rfl rfl rfl rfl rfl dX14_init_2 (fun H locs hG => ?_)
  refine lv_aload_n hx hb dX14_init_5 rfl (lv_at hl 0 rfl) ?_
  refine c_callN (As := []) (rest := []) C0.1 C0.2.1 C0.2.2.1 C0.2.2.2.1 C0.2.2.2.2.1 C0.2.2.2.2.2.1 hG.1 (mtC_X14_X13 l q cC iS (updV V 1 (.ref a0))) q1112 q127 q1110 q1111 rfl yd_X13_init ⟨by omega, by omega⟩ ⟨Nat.zero_le _, Nat.zero_le _⟩ rfl rfl hl.1 (Nat.le_of_ble_eq_true rfl) dX14_init_6 (fun H1 locs1 h1 h2 h3 h4 => ?_)
  have hG := c_sup hG h1 h2 h3 h4
  refine lv_aload_n hx hb dX14_init_9 rfl (lv_at hl 0 rfl) ?_
  refine lv_iload_n hx hb dX14_init_10 rfl (lv_at hl 2 rfl) ?_
  refine c_putF C0 hG cw_X14 0 (show 0 < 2 by decide) q1115 rfl rfl rfl rfl rfl dX14_init_11 (fun H locs hG => ?_)
  exact c_ret C0 hG rfl dX14_init_14
theorem mtC_X14_X14 (l : Launch) (q : Nat) (cC : ClassId) (iS : Nat → Nat) (V : Nat → Value) (a0 : Nat) (a1 : Int32) : cMet l yX14_init cX14_init 3 2 40 [.ref q, .ref a0, .int a1] ((q, RX14, TX14, 2, cC, iS) : cT) V (updV ((updV V 1 (.ref a0))) 0 (.int a1)) := by
  refine c_head (by decide) rfl rfl ?_
  intro p e s m below meth c C0 hG
  have hl := lv_entry ([.ref q, .ref a0, .int a1]) (n := 3) (Nat.le_of_ble_eq_true rfl)
  rw [lg_entry_eq]
  generalize (lg_sl ([.ref q, .ref a0, .int a1]) ++ List.replicate (3 - (lg_sl ([.ref q, .ref a0, .int a1])).length) Slot.unset).toArray = ls at hl ⊢
  have hl : lv_has ls 3 [(0, .ref q), (1, .ref a0), (2, .int a1)] := hl
  exact bmtC_X14_X14 a0 a1 C0 ⟨Nat.le_refl _, Nat.le_refl _⟩ _ [] ls hG hl
theorem bmtC_X15_X13 {p : Program} {l : Launch} {e : Env} {R : Room} {s : State} {m : MethodId} {args : Array Value} {below : List Frame} {meth : Method} {c : Code} {q : Nat} {cC : ClassId} {iS : Nat → Nat} {V : Nat → Value}  (C0 : cCx p s m args meth c RX13 cX13_init 1 ((q, RX15, TX15, 3, cC, iS) : cT)) (hRo : 1 ≤ R.frames ∧ 20 ≤ R.locals) (H : Heap) (locs : List Loc) (ls : Array Slot) (hG : cG ((q, RX15, TX15, 3, cC, iS) : cT) s V H locs) (hl : lv_has ls 1 [(0, .ref q)]) : W p l e R s m args below meth c H locs 0 0 (MQ below (cQ ((q, RX15, TX15, 3, cC, iS) : cT) V) args s 0 0 (fun a => a = q)) (F0 m 0 ls []) := by
  have hx := C0.1
  have hb := C0.2.1
  have cw_X15 : cWd ((q, RX15, TX15, 3, cC, iS) : cT) tyX15 := ⟨in_X15, tyX15_ok, nmgX15⟩
  refine lv_aload_n hx hb dX13_init_0 rfl (lv_at hl 0 rfl) ?_
  refine c_objI C0 q1113 q150 q151 hl.1 ⟨by omega, by omega⟩ (Nat.le_of_ble_eq_true rfl) dX13_init_1 ?_
  exact c_ret C0 hG rfl dX13_init_4
theorem mtC_X15_X13 (l : Launch) (q : Nat) (cC : ClassId) (iS : Nat → Nat) (V : Nat → Value)  : cMet l yX13_init cX13_init 1 1 20 [.ref q] ((q, RX15, TX15, 3, cC, iS) : cT) V V := by
  refine c_head (by decide) rfl rfl ?_
  intro p e s m below meth c C0 hG
  have hl := lv_entry ([.ref q]) (n := 1) (Nat.le_of_ble_eq_true rfl)
  rw [lg_entry_eq]
  generalize (lg_sl ([.ref q]) ++ List.replicate (1 - (lg_sl ([.ref q])).length) Slot.unset).toArray = ls at hl ⊢
  have hl : lv_has ls 1 [(0, .ref q)] := hl
  exact bmtC_X15_X13 C0 ⟨Nat.le_refl _, Nat.le_refl _⟩ _ [] ls hG hl
theorem bmtC_X15_X14 {p : Program} {l : Launch} {e : Env} {R : Room} {s : State} {m : MethodId} {args : Array Value} {below : List Frame} {meth : Method} {c : Code} {q : Nat} {cC : ClassId} {iS : Nat → Nat} {V : Nat → Value} (a0 : Nat) (a1 : Int32) (C0 : cCx p s m args meth c RX14 cX14_init 3 ((q, RX15, TX15, 3, cC, iS) : cT)) (hRo : 2 ≤ R.frames ∧ 40 ≤ R.locals) (H : Heap) (locs : List Loc) (ls : Array Slot) (hG : cG ((q, RX15, TX15, 3, cC, iS) : cT) s V H locs) (hl : lv_has ls 3 [(0, .ref q), (1, .ref a0), (2, .int a1)]) : W p l e R s m args below meth c H locs 0 0 (MQ below (cQ ((q, RX15, TX15, 3, cC, iS) : cT) (updV ((updV V 1 (.ref a0))) 0 (.int a1))) args s 0 0 (fun a => a = q)) (F0 m 0 ls []) := by
  have hx := C0.1
  have hb := C0.2.1
  have cw_X15 : cWd ((q, RX15, TX15, 3, cC, iS) : cT) tyX15 := ⟨in_X15, tyX15_ok, nmgX15⟩
  refine lv_aload_n hx hb dX14_init_0 rfl (lv_at hl 0 rfl) ?_
  refine lv_aload_n hx hb dX14_init_1 rfl (lv_at hl 1 rfl) ?_
  refine c_putF C0 hG cw_X15 1 (show 1 < 3 by decide) q1116 rfl rfl rfl rfl rfl dX14_init_2 (fun H locs hG => ?_)
  refine lv_aload_n hx hb dX14_init_5 rfl (lv_at hl 0 rfl) ?_
  refine c_callN (As := []) (rest := []) C0.1 C0.2.1 C0.2.2.1 C0.2.2.2.1 C0.2.2.2.2.1 C0.2.2.2.2.2.1 hG.1 (mtC_X15_X13 l q cC iS (updV V 1 (.ref a0))) q1112 q127 q1110 q1111 rfl yd_X13_init ⟨by omega, by omega⟩ ⟨Nat.zero_le _, Nat.zero_le _⟩ rfl rfl hl.1 (Nat.le_of_ble_eq_true rfl) dX14_init_6 (fun H1 locs1 h1 h2 h3 h4 => ?_)
  have hG := c_sup hG h1 h2 h3 h4
  refine lv_aload_n hx hb dX14_init_9 rfl (lv_at hl 0 rfl) ?_
  refine lv_iload_n hx hb dX14_init_10 rfl (lv_at hl 2 rfl) ?_
  refine c_putF C0 hG cw_X15 0 (show 0 < 3 by decide) q1115 rfl rfl rfl rfl rfl dX14_init_11 (fun H locs hG => ?_)
  exact c_ret C0 hG rfl dX14_init_14
theorem mtC_X15_X14 (l : Launch) (q : Nat) (cC : ClassId) (iS : Nat → Nat) (V : Nat → Value) (a0 : Nat) (a1 : Int32) : cMet l yX14_init cX14_init 3 2 40 [.ref q, .ref a0, .int a1] ((q, RX15, TX15, 3, cC, iS) : cT) V (updV ((updV V 1 (.ref a0))) 0 (.int a1)) := by
  refine c_head (by decide) rfl rfl ?_
  intro p e s m below meth c C0 hG
  have hl := lv_entry ([.ref q, .ref a0, .int a1]) (n := 3) (Nat.le_of_ble_eq_true rfl)
  rw [lg_entry_eq]
  generalize (lg_sl ([.ref q, .ref a0, .int a1]) ++ List.replicate (3 - (lg_sl ([.ref q, .ref a0, .int a1])).length) Slot.unset).toArray = ls at hl ⊢
  have hl : lv_has ls 3 [(0, .ref q), (1, .ref a0), (2, .int a1)] := hl
  exact bmtC_X15_X14 a0 a1 C0 ⟨Nat.le_refl _, Nat.le_refl _⟩ _ [] ls hG hl
theorem bmtC_X15_X15 {p : Program} {l : Launch} {e : Env} {R : Room} {s : State} {m : MethodId} {args : Array Value} {below : List Frame} {meth : Method} {c : Code} {q : Nat} {cC : ClassId} {iS : Nat → Nat} {V : Nat → Value} (a0 : Nat) (a1 : Int32) (C0 : cCx p s m args meth c RX15 cX15_init 3 ((q, RX15, TX15, 3, cC, iS) : cT)) (hRo : 3 ≤ R.frames ∧ 62 ≤ R.locals) (H : Heap) (locs : List Loc) (ls : Array Slot) (hG : cG ((q, RX15, TX15, 3, cC, iS) : cT) s V H locs) (hl : lv_has ls 3 [(0, .ref q), (1, .ref a0), (2, .int a1)]) : W p l e R s m args below meth c H locs 0 0 (MQ below (cQ ((q, RX15, TX15, 3, cC, iS) : cT) ((updV ((updV (updV V 2 (.ref a0)) 1 (.ref a0))) 0 (.int a1)))) args s 0 0 (fun a => a = q)) (F0 m 0 ls []) := by
  have hx := C0.1
  have hb := C0.2.1
  have cw_X15 : cWd ((q, RX15, TX15, 3, cC, iS) : cT) tyX15 := ⟨in_X15, tyX15_ok, nmgX15⟩
  refine lv_aload_n hx hb dX15_init_0 rfl (lv_at hl 0 rfl) ?_
  refine lv_aload_n hx hb dX15_init_1 rfl (lv_at hl 1 rfl) ?_
  refine c_putF C0 hG cw_X15 2 (show 2 < 3 by decide) q1114 rfl rfl rfl rfl rfl dX15_init_2 (fun H locs hG => ?_)
  refine lv_aload_n hx hb dX15_init_5 rfl (lv_at hl 0 rfl) ?_
  refine lv_aload_n hx hb dX15_init_6 rfl (lv_at hl 1 rfl) ?_
  refine lv_iload_n hx hb dX15_init_7 rfl (lv_at hl 2 rfl) ?_
  refine c_call (As := [.ref a0, .int a1]) (rest := []) C0.1 C0.2.1 C0.2.2.1 C0.2.2.2.1 C0.2.2.2.2.1 C0.2.2.2.2.2.1 hG.1 (mtC_X15_X14 l q cC iS (updV V 2 (.ref a0)) a0 a1) q1109 q128 q1107 q1108 rfl yd_X14_init ⟨by omega, by omega⟩ ⟨Nat.zero_le _, Nat.zero_le _⟩ rfl rfl hl.1 (Nat.le_of_ble_eq_true rfl) dX15_init_8 (fun H1 locs1 h1 h2 h3 h4 => ?_)
  have hG := c_sup hG h1 h2 h3 h4
  exact c_ret C0 hG rfl dX15_init_11
theorem mtC_X15_X15 (l : Launch) (q : Nat) (cC : ClassId) (iS : Nat → Nat) (V : Nat → Value) (a0 : Nat) (a1 : Int32) : cMet l yX15_init cX15_init 3 3 62 [.ref q, .ref a0, .int a1] ((q, RX15, TX15, 3, cC, iS) : cT) V ((updV ((updV (updV V 2 (.ref a0)) 1 (.ref a0))) 0 (.int a1))) := by
  refine c_head (by decide) rfl rfl ?_
  intro p e s m below meth c C0 hG
  have hl := lv_entry ([.ref q, .ref a0, .int a1]) (n := 3) (Nat.le_of_ble_eq_true rfl)
  rw [lg_entry_eq]
  generalize (lg_sl ([.ref q, .ref a0, .int a1]) ++ List.replicate (3 - (lg_sl ([.ref q, .ref a0, .int a1])).length) Slot.unset).toArray = ls at hl ⊢
  have hl : lv_has ls 3 [(0, .ref q), (1, .ref a0), (2, .int a1)] := hl
  exact bmtC_X15_X15 a0 a1 C0 ⟨Nat.le_refl _, Nat.le_refl _⟩ _ [] ls hG hl
theorem bmtC_X16_X13 {p : Program} {l : Launch} {e : Env} {R : Room} {s : State} {m : MethodId} {args : Array Value} {below : List Frame} {meth : Method} {c : Code} {q : Nat} {cC : ClassId} {iS : Nat → Nat} {V : Nat → Value}  (C0 : cCx p s m args meth c RX13 cX13_init 1 ((q, RX16, TX16, 3, cC, iS) : cT)) (hRo : 1 ≤ R.frames ∧ 20 ≤ R.locals) (H : Heap) (locs : List Loc) (ls : Array Slot) (hG : cG ((q, RX16, TX16, 3, cC, iS) : cT) s V H locs) (hl : lv_has ls 1 [(0, .ref q)]) : W p l e R s m args below meth c H locs 0 0 (MQ below (cQ ((q, RX16, TX16, 3, cC, iS) : cT) V) args s 0 0 (fun a => a = q)) (F0 m 0 ls []) := by
  have hx := C0.1
  have hb := C0.2.1
  have cw_X16 : cWd ((q, RX16, TX16, 3, cC, iS) : cT) tyX16 := ⟨in_X16, tyX16_ok, nmgX16⟩
  refine lv_aload_n hx hb dX13_init_0 rfl (lv_at hl 0 rfl) ?_
  refine c_objI C0 q1113 q150 q151 hl.1 ⟨by omega, by omega⟩ (Nat.le_of_ble_eq_true rfl) dX13_init_1 ?_
  exact c_ret C0 hG rfl dX13_init_4
theorem mtC_X16_X13 (l : Launch) (q : Nat) (cC : ClassId) (iS : Nat → Nat) (V : Nat → Value)  : cMet l yX13_init cX13_init 1 1 20 [.ref q] ((q, RX16, TX16, 3, cC, iS) : cT) V V := by
  refine c_head (by decide) rfl rfl ?_
  intro p e s m below meth c C0 hG
  have hl := lv_entry ([.ref q]) (n := 1) (Nat.le_of_ble_eq_true rfl)
  rw [lg_entry_eq]
  generalize (lg_sl ([.ref q]) ++ List.replicate (1 - (lg_sl ([.ref q])).length) Slot.unset).toArray = ls at hl ⊢
  have hl : lv_has ls 1 [(0, .ref q)] := hl
  exact bmtC_X16_X13 C0 ⟨Nat.le_refl _, Nat.le_refl _⟩ _ [] ls hG hl
theorem bmtC_X16_X14 {p : Program} {l : Launch} {e : Env} {R : Room} {s : State} {m : MethodId} {args : Array Value} {below : List Frame} {meth : Method} {c : Code} {q : Nat} {cC : ClassId} {iS : Nat → Nat} {V : Nat → Value} (a0 : Nat) (a1 : Int32) (C0 : cCx p s m args meth c RX14 cX14_init 3 ((q, RX16, TX16, 3, cC, iS) : cT)) (hRo : 2 ≤ R.frames ∧ 40 ≤ R.locals) (H : Heap) (locs : List Loc) (ls : Array Slot) (hG : cG ((q, RX16, TX16, 3, cC, iS) : cT) s V H locs) (hl : lv_has ls 3 [(0, .ref q), (1, .ref a0), (2, .int a1)]) : W p l e R s m args below meth c H locs 0 0 (MQ below (cQ ((q, RX16, TX16, 3, cC, iS) : cT) (updV ((updV V 1 (.ref a0))) 0 (.int a1))) args s 0 0 (fun a => a = q)) (F0 m 0 ls []) := by
  have hx := C0.1
  have hb := C0.2.1
  have cw_X16 : cWd ((q, RX16, TX16, 3, cC, iS) : cT) tyX16 := ⟨in_X16, tyX16_ok, nmgX16⟩
  refine lv_aload_n hx hb dX14_init_0 rfl (lv_at hl 0 rfl) ?_
  refine lv_aload_n hx hb dX14_init_1 rfl (lv_at hl 1 rfl) ?_
  refine c_putF C0 hG cw_X16 1 (show 1 < 3 by decide) q1116 rfl rfl rfl rfl rfl dX14_init_2 (fun H locs hG => ?_)
  refine lv_aload_n hx hb dX14_init_5 rfl (lv_at hl 0 rfl) ?_
  refine c_callN (As := []) (rest := []) C0.1 C0.2.1 C0.2.2.1 C0.2.2.2.1 C0.2.2.2.2.1 C0.2.2.2.2.2.1 hG.1 (mtC_X16_X13 l q cC iS (updV V 1 (.ref a0))) q1112 q127 q1110 q1111 rfl yd_X13_init ⟨by omega, by omega⟩ ⟨Nat.zero_le _, Nat.zero_le _⟩ rfl rfl hl.1 (Nat.le_of_ble_eq_true rfl) dX14_init_6 (fun H1 locs1 h1 h2 h3 h4 => ?_)
  have hG := c_sup hG h1 h2 h3 h4
  refine lv_aload_n hx hb dX14_init_9 rfl (lv_at hl 0 rfl) ?_
  refine lv_iload_n hx hb dX14_init_10 rfl (lv_at hl 2 rfl) ?_
  refine c_putF C0 hG cw_X16 0 (show 0 < 3 by decide) q1115 rfl rfl rfl rfl rfl dX14_init_11 (fun H locs hG => ?_)
  exact c_ret C0 hG rfl dX14_init_14
theorem mtC_X16_X14 (l : Launch) (q : Nat) (cC : ClassId) (iS : Nat → Nat) (V : Nat → Value) (a0 : Nat) (a1 : Int32) : cMet l yX14_init cX14_init 3 2 40 [.ref q, .ref a0, .int a1] ((q, RX16, TX16, 3, cC, iS) : cT) V (updV ((updV V 1 (.ref a0))) 0 (.int a1)) := by
  refine c_head (by decide) rfl rfl ?_
  intro p e s m below meth c C0 hG
  have hl := lv_entry ([.ref q, .ref a0, .int a1]) (n := 3) (Nat.le_of_ble_eq_true rfl)
  rw [lg_entry_eq]
  generalize (lg_sl ([.ref q, .ref a0, .int a1]) ++ List.replicate (3 - (lg_sl ([.ref q, .ref a0, .int a1])).length) Slot.unset).toArray = ls at hl ⊢
  have hl : lv_has ls 3 [(0, .ref q), (1, .ref a0), (2, .int a1)] := hl
  exact bmtC_X16_X14 a0 a1 C0 ⟨Nat.le_refl _, Nat.le_refl _⟩ _ [] ls hG hl
theorem bmtC_X16_X16 {p : Program} {l : Launch} {e : Env} {R : Room} {s : State} {m : MethodId} {args : Array Value} {below : List Frame} {meth : Method} {c : Code} {q : Nat} {cC : ClassId} {iS : Nat → Nat} {V : Nat → Value} (a0 : Nat) (a1 : Int32) (C0 : cCx p s m args meth c RX16 cX16_init 3 ((q, RX16, TX16, 3, cC, iS) : cT)) (hRo : 3 ≤ R.frames ∧ 62 ≤ R.locals) (H : Heap) (locs : List Loc) (ls : Array Slot) (hG : cG ((q, RX16, TX16, 3, cC, iS) : cT) s V H locs) (hl : lv_has ls 3 [(0, .ref q), (1, .ref a0), (2, .int a1)]) : W p l e R s m args below meth c H locs 0 0 (MQ below (cQ ((q, RX16, TX16, 3, cC, iS) : cT) ((updV ((updV (updV V 2 (.ref a0)) 1 (.ref a0))) 0 (.int a1)))) args s 0 0 (fun a => a = q)) (F0 m 0 ls []) := by
  have hx := C0.1
  have hb := C0.2.1
  have cw_X16 : cWd ((q, RX16, TX16, 3, cC, iS) : cT) tyX16 := ⟨in_X16, tyX16_ok, nmgX16⟩
  refine lv_aload_n hx hb dX16_init_0 rfl (lv_at hl 0 rfl) ?_
  refine lv_aload_n hx hb dX16_init_1 rfl (lv_at hl 1 rfl) ?_
  refine c_putF C0 hG cw_X16 2 (show 2 < 3 by decide) q1130 rfl rfl rfl rfl rfl dX16_init_2 (fun H locs hG => ?_)
  refine lv_aload_n hx hb dX16_init_5 rfl (lv_at hl 0 rfl) ?_
  refine lv_aload_n hx hb dX16_init_6 rfl (lv_at hl 1 rfl) ?_
  refine lv_iload_n hx hb dX16_init_7 rfl (lv_at hl 2 rfl) ?_
  refine c_call (As := [.ref a0, .int a1]) (rest := []) C0.1 C0.2.1 C0.2.2.1 C0.2.2.2.1 C0.2.2.2.2.1 C0.2.2.2.2.2.1 hG.1 (mtC_X16_X14 l q cC iS (updV V 2 (.ref a0)) a0 a1) q1109 q128 q1129 q1108 rfl yd_X14_init ⟨by omega, by omega⟩ ⟨Nat.zero_le _, Nat.zero_le _⟩ rfl rfl hl.1 (Nat.le_of_ble_eq_true rfl) dX16_init_8 (fun H1 locs1 h1 h2 h3 h4 => ?_)
  have hG := c_sup hG h1 h2 h3 h4
  exact c_ret C0 hG rfl dX16_init_11
theorem mtC_X16_X16 (l : Launch) (q : Nat) (cC : ClassId) (iS : Nat → Nat) (V : Nat → Value) (a0 : Nat) (a1 : Int32) : cMet l yX16_init cX16_init 3 3 62 [.ref q, .ref a0, .int a1] ((q, RX16, TX16, 3, cC, iS) : cT) V ((updV ((updV (updV V 2 (.ref a0)) 1 (.ref a0))) 0 (.int a1))) := by
  refine c_head (by decide) rfl rfl ?_
  intro p e s m below meth c C0 hG
  have hl := lv_entry ([.ref q, .ref a0, .int a1]) (n := 3) (Nat.le_of_ble_eq_true rfl)
  rw [lg_entry_eq]
  generalize (lg_sl ([.ref q, .ref a0, .int a1]) ++ List.replicate (3 - (lg_sl ([.ref q, .ref a0, .int a1])).length) Slot.unset).toArray = ls at hl ⊢
  have hl : lv_has ls 3 [(0, .ref q), (1, .ref a0), (2, .int a1)] := hl
  exact bmtC_X16_X16 a0 a1 C0 ⟨Nat.le_refl _, Nat.le_refl _⟩ _ [] ls hG hl
theorem bmtC_X17_X13 {p : Program} {l : Launch} {e : Env} {R : Room} {s : State} {m : MethodId} {args : Array Value} {below : List Frame} {meth : Method} {c : Code} {q : Nat} {cC : ClassId} {iS : Nat → Nat} {V : Nat → Value}  (C0 : cCx p s m args meth c RX13 cX13_init 1 ((q, RX17, TX17, 4, cC, iS) : cT)) (hRo : 1 ≤ R.frames ∧ 20 ≤ R.locals) (H : Heap) (locs : List Loc) (ls : Array Slot) (hG : cG ((q, RX17, TX17, 4, cC, iS) : cT) s V H locs) (hl : lv_has ls 1 [(0, .ref q)]) : W p l e R s m args below meth c H locs 0 0 (MQ below (cQ ((q, RX17, TX17, 4, cC, iS) : cT) V) args s 0 0 (fun a => a = q)) (F0 m 0 ls []) := by
  have hx := C0.1
  have hb := C0.2.1
  have cw_X17 : cWd ((q, RX17, TX17, 4, cC, iS) : cT) tyX17 := ⟨in_X17, tyX17_ok, nmgX17⟩
  refine lv_aload_n hx hb dX13_init_0 rfl (lv_at hl 0 rfl) ?_
  refine c_objI C0 q1113 q150 q151 hl.1 ⟨by omega, by omega⟩ (Nat.le_of_ble_eq_true rfl) dX13_init_1 ?_
  exact c_ret C0 hG rfl dX13_init_4
theorem mtC_X17_X13 (l : Launch) (q : Nat) (cC : ClassId) (iS : Nat → Nat) (V : Nat → Value)  : cMet l yX13_init cX13_init 1 1 20 [.ref q] ((q, RX17, TX17, 4, cC, iS) : cT) V V := by
  refine c_head (by decide) rfl rfl ?_
  intro p e s m below meth c C0 hG
  have hl := lv_entry ([.ref q]) (n := 1) (Nat.le_of_ble_eq_true rfl)
  rw [lg_entry_eq]
  generalize (lg_sl ([.ref q]) ++ List.replicate (1 - (lg_sl ([.ref q])).length) Slot.unset).toArray = ls at hl ⊢
  have hl : lv_has ls 1 [(0, .ref q)] := hl
  exact bmtC_X17_X13 C0 ⟨Nat.le_refl _, Nat.le_refl _⟩ _ [] ls hG hl
theorem bmtC_X17_X14 {p : Program} {l : Launch} {e : Env} {R : Room} {s : State} {m : MethodId} {args : Array Value} {below : List Frame} {meth : Method} {c : Code} {q : Nat} {cC : ClassId} {iS : Nat → Nat} {V : Nat → Value} (a0 : Nat) (a1 : Int32) (C0 : cCx p s m args meth c RX14 cX14_init 3 ((q, RX17, TX17, 4, cC, iS) : cT)) (hRo : 2 ≤ R.frames ∧ 40 ≤ R.locals) (H : Heap) (locs : List Loc) (ls : Array Slot) (hG : cG ((q, RX17, TX17, 4, cC, iS) : cT) s V H locs) (hl : lv_has ls 3 [(0, .ref q), (1, .ref a0), (2, .int a1)]) : W p l e R s m args below meth c H locs 0 0 (MQ below (cQ ((q, RX17, TX17, 4, cC, iS) : cT) (updV ((updV V 1 (.ref a0))) 0 (.int a1))) args s 0 0 (fun a => a = q)) (F0 m 0 ls []) := by
  have hx := C0.1
  have hb := C0.2.1
  have cw_X17 : cWd ((q, RX17, TX17, 4, cC, iS) : cT) tyX17 := ⟨in_X17, tyX17_ok, nmgX17⟩
  refine lv_aload_n hx hb dX14_init_0 rfl (lv_at hl 0 rfl) ?_
  refine lv_aload_n hx hb dX14_init_1 rfl (lv_at hl 1 rfl) ?_
  refine c_putF C0 hG cw_X17 1 (show 1 < 4 by decide) q1116 rfl rfl rfl rfl rfl dX14_init_2 (fun H locs hG => ?_)
  refine lv_aload_n hx hb dX14_init_5 rfl (lv_at hl 0 rfl) ?_
  refine c_callN (As := []) (rest := []) C0.1 C0.2.1 C0.2.2.1 C0.2.2.2.1 C0.2.2.2.2.1 C0.2.2.2.2.2.1 hG.1 (mtC_X17_X13 l q cC iS (updV V 1 (.ref a0))) q1112 q127 q1110 q1111 rfl yd_X13_init ⟨by omega, by omega⟩ ⟨Nat.zero_le _, Nat.zero_le _⟩ rfl rfl hl.1 (Nat.le_of_ble_eq_true rfl) dX14_init_6 (fun H1 locs1 h1 h2 h3 h4 => ?_)
  have hG := c_sup hG h1 h2 h3 h4
  refine lv_aload_n hx hb dX14_init_9 rfl (lv_at hl 0 rfl) ?_
  refine lv_iload_n hx hb dX14_init_10 rfl (lv_at hl 2 rfl) ?_
  refine c_putF C0 hG cw_X17 0 (show 0 < 4 by decide) q1115 rfl rfl rfl rfl rfl dX14_init_11 (fun H locs hG => ?_)
  exact c_ret C0 hG rfl dX14_init_14
theorem mtC_X17_X14 (l : Launch) (q : Nat) (cC : ClassId) (iS : Nat → Nat) (V : Nat → Value) (a0 : Nat) (a1 : Int32) : cMet l yX14_init cX14_init 3 2 40 [.ref q, .ref a0, .int a1] ((q, RX17, TX17, 4, cC, iS) : cT) V (updV ((updV V 1 (.ref a0))) 0 (.int a1)) := by
  refine c_head (by decide) rfl rfl ?_
  intro p e s m below meth c C0 hG
  have hl := lv_entry ([.ref q, .ref a0, .int a1]) (n := 3) (Nat.le_of_ble_eq_true rfl)
  rw [lg_entry_eq]
  generalize (lg_sl ([.ref q, .ref a0, .int a1]) ++ List.replicate (3 - (lg_sl ([.ref q, .ref a0, .int a1])).length) Slot.unset).toArray = ls at hl ⊢
  have hl : lv_has ls 3 [(0, .ref q), (1, .ref a0), (2, .int a1)] := hl
  exact bmtC_X17_X14 a0 a1 C0 ⟨Nat.le_refl _, Nat.le_refl _⟩ _ [] ls hG hl
theorem bmtC_X17_X16 {p : Program} {l : Launch} {e : Env} {R : Room} {s : State} {m : MethodId} {args : Array Value} {below : List Frame} {meth : Method} {c : Code} {q : Nat} {cC : ClassId} {iS : Nat → Nat} {V : Nat → Value} (a0 : Nat) (a1 : Int32) (C0 : cCx p s m args meth c RX16 cX16_init 3 ((q, RX17, TX17, 4, cC, iS) : cT)) (hRo : 3 ≤ R.frames ∧ 62 ≤ R.locals) (H : Heap) (locs : List Loc) (ls : Array Slot) (hG : cG ((q, RX17, TX17, 4, cC, iS) : cT) s V H locs) (hl : lv_has ls 3 [(0, .ref q), (1, .ref a0), (2, .int a1)]) : W p l e R s m args below meth c H locs 0 0 (MQ below (cQ ((q, RX17, TX17, 4, cC, iS) : cT) ((updV ((updV (updV V 2 (.ref a0)) 1 (.ref a0))) 0 (.int a1)))) args s 0 0 (fun a => a = q)) (F0 m 0 ls []) := by
  have hx := C0.1
  have hb := C0.2.1
  have cw_X17 : cWd ((q, RX17, TX17, 4, cC, iS) : cT) tyX17 := ⟨in_X17, tyX17_ok, nmgX17⟩
  refine lv_aload_n hx hb dX16_init_0 rfl (lv_at hl 0 rfl) ?_
  refine lv_aload_n hx hb dX16_init_1 rfl (lv_at hl 1 rfl) ?_
  refine c_putF C0 hG cw_X17 2 (show 2 < 4 by decide) q1130 rfl rfl rfl rfl rfl dX16_init_2 (fun H locs hG => ?_)
  refine lv_aload_n hx hb dX16_init_5 rfl (lv_at hl 0 rfl) ?_
  refine lv_aload_n hx hb dX16_init_6 rfl (lv_at hl 1 rfl) ?_
  refine lv_iload_n hx hb dX16_init_7 rfl (lv_at hl 2 rfl) ?_
  refine c_call (As := [.ref a0, .int a1]) (rest := []) C0.1 C0.2.1 C0.2.2.1 C0.2.2.2.1 C0.2.2.2.2.1 C0.2.2.2.2.2.1 hG.1 (mtC_X17_X14 l q cC iS (updV V 2 (.ref a0)) a0 a1) q1109 q128 q1129 q1108 rfl yd_X14_init ⟨by omega, by omega⟩ ⟨Nat.zero_le _, Nat.zero_le _⟩ rfl rfl hl.1 (Nat.le_of_ble_eq_true rfl) dX16_init_8 (fun H1 locs1 h1 h2 h3 h4 => ?_)
  have hG := c_sup hG h1 h2 h3 h4
  exact c_ret C0 hG rfl dX16_init_11
theorem mtC_X17_X16 (l : Launch) (q : Nat) (cC : ClassId) (iS : Nat → Nat) (V : Nat → Value) (a0 : Nat) (a1 : Int32) : cMet l yX16_init cX16_init 3 3 62 [.ref q, .ref a0, .int a1] ((q, RX17, TX17, 4, cC, iS) : cT) V ((updV ((updV (updV V 2 (.ref a0)) 1 (.ref a0))) 0 (.int a1))) := by
  refine c_head (by decide) rfl rfl ?_
  intro p e s m below meth c C0 hG
  have hl := lv_entry ([.ref q, .ref a0, .int a1]) (n := 3) (Nat.le_of_ble_eq_true rfl)
  rw [lg_entry_eq]
  generalize (lg_sl ([.ref q, .ref a0, .int a1]) ++ List.replicate (3 - (lg_sl ([.ref q, .ref a0, .int a1])).length) Slot.unset).toArray = ls at hl ⊢
  have hl : lv_has ls 3 [(0, .ref q), (1, .ref a0), (2, .int a1)] := hl
  exact bmtC_X17_X16 a0 a1 C0 ⟨Nat.le_refl _, Nat.le_refl _⟩ _ [] ls hG hl
theorem bmtC_X17_X17 {p : Program} {l : Launch} {e : Env} {R : Room} {s : State} {m : MethodId} {args : Array Value} {below : List Frame} {meth : Method} {c : Code} {q : Nat} {cC : ClassId} {iS : Nat → Nat} {V : Nat → Value} (a0 : Nat) (a1 : Int32) (C0 : cCx p s m args meth c RX17 cX17_init 3 ((q, RX17, TX17, 4, cC, iS) : cT)) (hRo : 4 ≤ R.frames ∧ 84 ≤ R.locals) (H : Heap) (locs : List Loc) (ls : Array Slot) (hG : cG ((q, RX17, TX17, 4, cC, iS) : cT) s V H locs) (hl : lv_has ls 3 [(0, .ref q), (1, .ref a0), (2, .int a1)]) : W p l e R s m args below meth c H locs 0 0 (MQ below (cQ ((q, RX17, TX17, 4, cC, iS) : cT) (((updV ((updV (updV (updV V 3 (.ref a0)) 2 (.ref a0)) 1 (.ref a0))) 0 (.int a1))))) args s 0 0 (fun a => a = q)) (F0 m 0 ls []) := by
  have hx := C0.1
  have hb := C0.2.1
  have cw_X17 : cWd ((q, RX17, TX17, 4, cC, iS) : cT) tyX17 := ⟨in_X17, tyX17_ok, nmgX17⟩
  refine lv_aload_n hx hb dX17_init_0 rfl (lv_at hl 0 rfl) ?_
  refine lv_aload_n hx hb dX17_init_1 rfl (lv_at hl 1 rfl) ?_
  refine c_putF C0 hG cw_X17 3 (show 3 < 4 by decide) q1142 rfl rfl rfl rfl rfl dX17_init_2 (fun H locs hG => ?_)
  refine lv_aload_n hx hb dX17_init_5 rfl (lv_at hl 0 rfl) ?_
  refine lv_aload_n hx hb dX17_init_6 rfl (lv_at hl 1 rfl) ?_
  refine lv_iload_n hx hb dX17_init_7 rfl (lv_at hl 2 rfl) ?_
  refine c_call (As := [.ref a0, .int a1]) (rest := []) C0.1 C0.2.1 C0.2.2.1 C0.2.2.2.1 C0.2.2.2.2.1 C0.2.2.2.2.2.1 hG.1 (mtC_X17_X16 l q cC iS (updV V 3 (.ref a0)) a0 a1) q1128 q130 q1141 q1127 rfl yd_X16_init ⟨by omega, by omega⟩ ⟨Nat.zero_le _, Nat.zero_le _⟩ rfl rfl hl.1 (Nat.le_of_ble_eq_true rfl) dX17_init_8 (fun H1 locs1 h1 h2 h3 h4 => ?_)
  have hG := c_sup hG h1 h2 h3 h4
  exact c_ret C0 hG rfl dX17_init_11
theorem mtC_X17_X17 (l : Launch) (q : Nat) (cC : ClassId) (iS : Nat → Nat) (V : Nat → Value) (a0 : Nat) (a1 : Int32) : cMet l yX17_init cX17_init 3 4 84 [.ref q, .ref a0, .int a1] ((q, RX17, TX17, 4, cC, iS) : cT) V (((updV ((updV (updV (updV V 3 (.ref a0)) 2 (.ref a0)) 1 (.ref a0))) 0 (.int a1)))) := by
  refine c_head (by decide) rfl rfl ?_
  intro p e s m below meth c C0 hG
  have hl := lv_entry ([.ref q, .ref a0, .int a1]) (n := 3) (Nat.le_of_ble_eq_true rfl)
  rw [lg_entry_eq]
  generalize (lg_sl ([.ref q, .ref a0, .int a1]) ++ List.replicate (3 - (lg_sl ([.ref q, .ref a0, .int a1])).length) Slot.unset).toArray = ls at hl ⊢
  have hl : lv_has ls 3 [(0, .ref q), (1, .ref a0), (2, .int a1)] := hl
  exact bmtC_X17_X17 a0 a1 C0 ⟨Nat.le_refl _, Nat.le_refl _⟩ _ [] ls hG hl
theorem bmtC_X18_X13 {p : Program} {l : Launch} {e : Env} {R : Room} {s : State} {m : MethodId} {args : Array Value} {below : List Frame} {meth : Method} {c : Code} {q : Nat} {cC : ClassId} {iS : Nat → Nat} {V : Nat → Value}  (C0 : cCx p s m args meth c RX13 cX13_init 1 ((q, RX18, TX18, 4, cC, iS) : cT)) (hRo : 1 ≤ R.frames ∧ 20 ≤ R.locals) (H : Heap) (locs : List Loc) (ls : Array Slot) (hG : cG ((q, RX18, TX18, 4, cC, iS) : cT) s V H locs) (hl : lv_has ls 1 [(0, .ref q)]) : W p l e R s m args below meth c H locs 0 0 (MQ below (cQ ((q, RX18, TX18, 4, cC, iS) : cT) V) args s 0 0 (fun a => a = q)) (F0 m 0 ls []) := by
  have hx := C0.1
  have hb := C0.2.1
  have cw_X18 : cWd ((q, RX18, TX18, 4, cC, iS) : cT) tyX18 := ⟨in_X18, tyX18_ok, nmgX18⟩
  refine lv_aload_n hx hb dX13_init_0 rfl (lv_at hl 0 rfl) ?_
  refine c_objI C0 q1113 q150 q151 hl.1 ⟨by omega, by omega⟩ (Nat.le_of_ble_eq_true rfl) dX13_init_1 ?_
  exact c_ret C0 hG rfl dX13_init_4
theorem mtC_X18_X13 (l : Launch) (q : Nat) (cC : ClassId) (iS : Nat → Nat) (V : Nat → Value)  : cMet l yX13_init cX13_init 1 1 20 [.ref q] ((q, RX18, TX18, 4, cC, iS) : cT) V V := by
  refine c_head (by decide) rfl rfl ?_
  intro p e s m below meth c C0 hG
  have hl := lv_entry ([.ref q]) (n := 1) (Nat.le_of_ble_eq_true rfl)
  rw [lg_entry_eq]
  generalize (lg_sl ([.ref q]) ++ List.replicate (1 - (lg_sl ([.ref q])).length) Slot.unset).toArray = ls at hl ⊢
  have hl : lv_has ls 1 [(0, .ref q)] := hl
  exact bmtC_X18_X13 C0 ⟨Nat.le_refl _, Nat.le_refl _⟩ _ [] ls hG hl
theorem bmtC_X18_X14 {p : Program} {l : Launch} {e : Env} {R : Room} {s : State} {m : MethodId} {args : Array Value} {below : List Frame} {meth : Method} {c : Code} {q : Nat} {cC : ClassId} {iS : Nat → Nat} {V : Nat → Value} (a0 : Nat) (a1 : Int32) (C0 : cCx p s m args meth c RX14 cX14_init 3 ((q, RX18, TX18, 4, cC, iS) : cT)) (hRo : 2 ≤ R.frames ∧ 40 ≤ R.locals) (H : Heap) (locs : List Loc) (ls : Array Slot) (hG : cG ((q, RX18, TX18, 4, cC, iS) : cT) s V H locs) (hl : lv_has ls 3 [(0, .ref q), (1, .ref a0), (2, .int a1)]) : W p l e R s m args below meth c H locs 0 0 (MQ below (cQ ((q, RX18, TX18, 4, cC, iS) : cT) (updV ((updV V 1 (.ref a0))) 0 (.int a1))) args s 0 0 (fun a => a = q)) (F0 m 0 ls []) := by
  have hx := C0.1
  have hb := C0.2.1
  have cw_X18 : cWd ((q, RX18, TX18, 4, cC, iS) : cT) tyX18 := ⟨in_X18, tyX18_ok, nmgX18⟩
  refine lv_aload_n hx hb dX14_init_0 rfl (lv_at hl 0 rfl) ?_
  refine lv_aload_n hx hb dX14_init_1 rfl (lv_at hl 1 rfl) ?_
  refine c_putF C0 hG cw_X18 1 (show 1 < 4 by decide) q1116 rfl rfl rfl rfl rfl dX14_init_2 (fun H locs hG => ?_)
  refine lv_aload_n hx hb dX14_init_5 rfl (lv_at hl 0 rfl) ?_
  refine c_callN (As := []) (rest := []) C0.1 C0.2.1 C0.2.2.1 C0.2.2.2.1 C0.2.2.2.2.1 C0.2.2.2.2.2.1 hG.1 (mtC_X18_X13 l q cC iS (updV V 1 (.ref a0))) q1112 q127 q1110 q1111 rfl yd_X13_init ⟨by omega, by omega⟩ ⟨Nat.zero_le _, Nat.zero_le _⟩ rfl rfl hl.1 (Nat.le_of_ble_eq_true rfl) dX14_init_6 (fun H1 locs1 h1 h2 h3 h4 => ?_)
  have hG := c_sup hG h1 h2 h3 h4
  refine lv_aload_n hx hb dX14_init_9 rfl (lv_at hl 0 rfl) ?_
  refine lv_iload_n hx hb dX14_init_10 rfl (lv_at hl 2 rfl) ?_
  refine c_putF C0 hG cw_X18 0 (show 0 < 4 by decide) q1115 rfl rfl rfl rfl rfl dX14_init_11 (fun H locs hG => ?_)
  exact c_ret C0 hG rfl dX14_init_14
theorem mtC_X18_X14 (l : Launch) (q : Nat) (cC : ClassId) (iS : Nat → Nat) (V : Nat → Value) (a0 : Nat) (a1 : Int32) : cMet l yX14_init cX14_init 3 2 40 [.ref q, .ref a0, .int a1] ((q, RX18, TX18, 4, cC, iS) : cT) V (updV ((updV V 1 (.ref a0))) 0 (.int a1)) := by
  refine c_head (by decide) rfl rfl ?_
  intro p e s m below meth c C0 hG
  have hl := lv_entry ([.ref q, .ref a0, .int a1]) (n := 3) (Nat.le_of_ble_eq_true rfl)
  rw [lg_entry_eq]
  generalize (lg_sl ([.ref q, .ref a0, .int a1]) ++ List.replicate (3 - (lg_sl ([.ref q, .ref a0, .int a1])).length) Slot.unset).toArray = ls at hl ⊢
  have hl : lv_has ls 3 [(0, .ref q), (1, .ref a0), (2, .int a1)] := hl
  exact bmtC_X18_X14 a0 a1 C0 ⟨Nat.le_refl _, Nat.le_refl _⟩ _ [] ls hG hl
theorem bmtC_X18_X15 {p : Program} {l : Launch} {e : Env} {R : Room} {s : State} {m : MethodId} {args : Array Value} {below : List Frame} {meth : Method} {c : Code} {q : Nat} {cC : ClassId} {iS : Nat → Nat} {V : Nat → Value} (a0 : Nat) (a1 : Int32) (C0 : cCx p s m args meth c RX15 cX15_init 3 ((q, RX18, TX18, 4, cC, iS) : cT)) (hRo : 3 ≤ R.frames ∧ 62 ≤ R.locals) (H : Heap) (locs : List Loc) (ls : Array Slot) (hG : cG ((q, RX18, TX18, 4, cC, iS) : cT) s V H locs) (hl : lv_has ls 3 [(0, .ref q), (1, .ref a0), (2, .int a1)]) : W p l e R s m args below meth c H locs 0 0 (MQ below (cQ ((q, RX18, TX18, 4, cC, iS) : cT) ((updV ((updV (updV V 2 (.ref a0)) 1 (.ref a0))) 0 (.int a1)))) args s 0 0 (fun a => a = q)) (F0 m 0 ls []) := by
  have hx := C0.1
  have hb := C0.2.1
  have cw_X18 : cWd ((q, RX18, TX18, 4, cC, iS) : cT) tyX18 := ⟨in_X18, tyX18_ok, nmgX18⟩
  refine lv_aload_n hx hb dX15_init_0 rfl (lv_at hl 0 rfl) ?_
  refine lv_aload_n hx hb dX15_init_1 rfl (lv_at hl 1 rfl) ?_
  refine c_putF C0 hG cw_X18 2 (show 2 < 4 by decide) q1114 rfl rfl rfl rfl rfl dX15_init_2 (fun H locs hG => ?_)
  refine lv_aload_n hx hb dX15_init_5 rfl (lv_at hl 0 rfl) ?_
  refine lv_aload_n hx hb dX15_init_6 rfl (lv_at hl 1 rfl) ?_
  refine lv_iload_n hx hb dX15_init_7 rfl (lv_at hl 2 rfl) ?_
  refine c_call (As := [.ref a0, .int a1]) (rest := []) C0.1 C0.2.1 C0.2.2.1 C0.2.2.2.1 C0.2.2.2.2.1 C0.2.2.2.2.2.1 hG.1 (mtC_X18_X14 l q cC iS (updV V 2 (.ref a0)) a0 a1) q1109 q128 q1107 q1108 rfl yd_X14_init ⟨by omega, by omega⟩ ⟨Nat.zero_le _, Nat.zero_le _⟩ rfl rfl hl.1 (Nat.le_of_ble_eq_true rfl) dX15_init_8 (fun H1 locs1 h1 h2 h3 h4 => ?_)
  have hG := c_sup hG h1 h2 h3 h4
  exact c_ret C0 hG rfl dX15_init_11
theorem mtC_X18_X15 (l : Launch) (q : Nat) (cC : ClassId) (iS : Nat → Nat) (V : Nat → Value) (a0 : Nat) (a1 : Int32) : cMet l yX15_init cX15_init 3 3 62 [.ref q, .ref a0, .int a1] ((q, RX18, TX18, 4, cC, iS) : cT) V ((updV ((updV (updV V 2 (.ref a0)) 1 (.ref a0))) 0 (.int a1))) := by
  refine c_head (by decide) rfl rfl ?_
  intro p e s m below meth c C0 hG
  have hl := lv_entry ([.ref q, .ref a0, .int a1]) (n := 3) (Nat.le_of_ble_eq_true rfl)
  rw [lg_entry_eq]
  generalize (lg_sl ([.ref q, .ref a0, .int a1]) ++ List.replicate (3 - (lg_sl ([.ref q, .ref a0, .int a1])).length) Slot.unset).toArray = ls at hl ⊢
  have hl : lv_has ls 3 [(0, .ref q), (1, .ref a0), (2, .int a1)] := hl
  exact bmtC_X18_X15 a0 a1 C0 ⟨Nat.le_refl _, Nat.le_refl _⟩ _ [] ls hG hl
theorem bmtC_X18_X18 {p : Program} {l : Launch} {e : Env} {R : Room} {s : State} {m : MethodId} {args : Array Value} {below : List Frame} {meth : Method} {c : Code} {q : Nat} {cC : ClassId} {iS : Nat → Nat} {V : Nat → Value} (a0 : Nat) (a1 : Int32) (C0 : cCx p s m args meth c RX18 cX18_init 3 ((q, RX18, TX18, 4, cC, iS) : cT)) (hRo : 4 ≤ R.frames ∧ 84 ≤ R.locals) (H : Heap) (locs : List Loc) (ls : Array Slot) (hG : cG ((q, RX18, TX18, 4, cC, iS) : cT) s V H locs) (hl : lv_has ls 3 [(0, .ref q), (1, .ref a0), (2, .int a1)]) : W p l e R s m args below meth c H locs 0 0 (MQ below (cQ ((q, RX18, TX18, 4, cC, iS) : cT) (((updV ((updV (updV (updV V 3 (.ref a0)) 2 (.ref a0)) 1 (.ref a0))) 0 (.int a1))))) args s 0 0 (fun a => a = q)) (F0 m 0 ls []) := by
  have hx := C0.1
  have hb := C0.2.1
  have cw_X18 : cWd ((q, RX18, TX18, 4, cC, iS) : cT) tyX18 := ⟨in_X18, tyX18_ok, nmgX18⟩
  refine lv_aload_n hx hb dX18_init_0 rfl (lv_at hl 0 rfl) ?_
  refine lv_aload_n hx hb dX18_init_1 rfl (lv_at hl 1 rfl) ?_
  refine c_putF C0 hG cw_X18 3 (show 3 < 4 by decide) q1155 rfl rfl rfl rfl rfl dX18_init_2 (fun H locs hG => ?_)
  refine lv_aload_n hx hb dX18_init_5 rfl (lv_at hl 0 rfl) ?_
  refine lv_aload_n hx hb dX18_init_6 rfl (lv_at hl 1 rfl) ?_
  refine lv_iload_n hx hb dX18_init_7 rfl (lv_at hl 2 rfl) ?_
  refine c_call (As := [.ref a0, .int a1]) (rest := []) C0.1 C0.2.1 C0.2.2.1 C0.2.2.2.1 C0.2.2.2.2.1 C0.2.2.2.2.2.1 hG.1 (mtC_X18_X15 l q cC iS (updV V 3 (.ref a0)) a0 a1) q1106 q129 q1154 q1105 rfl yd_X15_init ⟨by omega, by omega⟩ ⟨Nat.zero_le _, Nat.zero_le _⟩ rfl rfl hl.1 (Nat.le_of_ble_eq_true rfl) dX18_init_8 (fun H1 locs1 h1 h2 h3 h4 => ?_)
  have hG := c_sup hG h1 h2 h3 h4
  exact c_ret C0 hG rfl dX18_init_11
theorem mtC_X18_X18 (l : Launch) (q : Nat) (cC : ClassId) (iS : Nat → Nat) (V : Nat → Value) (a0 : Nat) (a1 : Int32) : cMet l yX18_init cX18_init 3 4 84 [.ref q, .ref a0, .int a1] ((q, RX18, TX18, 4, cC, iS) : cT) V (((updV ((updV (updV (updV V 3 (.ref a0)) 2 (.ref a0)) 1 (.ref a0))) 0 (.int a1)))) := by
  refine c_head (by decide) rfl rfl ?_
  intro p e s m below meth c C0 hG
  have hl := lv_entry ([.ref q, .ref a0, .int a1]) (n := 3) (Nat.le_of_ble_eq_true rfl)
  rw [lg_entry_eq]
  generalize (lg_sl ([.ref q, .ref a0, .int a1]) ++ List.replicate (3 - (lg_sl ([.ref q, .ref a0, .int a1])).length) Slot.unset).toArray = ls at hl ⊢
  have hl : lv_has ls 3 [(0, .ref q), (1, .ref a0), (2, .int a1)] := hl
  exact bmtC_X18_X18 a0 a1 C0 ⟨Nat.le_refl _, Nat.le_refl _⟩ _ [] ls hG hl
theorem bmtC_X19_X13 {p : Program} {l : Launch} {e : Env} {R : Room} {s : State} {m : MethodId} {args : Array Value} {below : List Frame} {meth : Method} {c : Code} {q : Nat} {cC : ClassId} {iS : Nat → Nat} {V : Nat → Value}  (C0 : cCx p s m args meth c RX13 cX13_init 1 ((q, RX19, TX19, 5, cC, iS) : cT)) (hRo : 1 ≤ R.frames ∧ 20 ≤ R.locals) (H : Heap) (locs : List Loc) (ls : Array Slot) (hG : cG ((q, RX19, TX19, 5, cC, iS) : cT) s V H locs) (hl : lv_has ls 1 [(0, .ref q)]) : W p l e R s m args below meth c H locs 0 0 (MQ below (cQ ((q, RX19, TX19, 5, cC, iS) : cT) V) args s 0 0 (fun a => a = q)) (F0 m 0 ls []) := by
  have hx := C0.1
  have hb := C0.2.1
  have cw_X19 : cWd ((q, RX19, TX19, 5, cC, iS) : cT) tyX19 := ⟨in_X19, tyX19_ok, nmgX19⟩
  refine lv_aload_n hx hb dX13_init_0 rfl (lv_at hl 0 rfl) ?_
  refine c_objI C0 q1113 q150 q151 hl.1 ⟨by omega, by omega⟩ (Nat.le_of_ble_eq_true rfl) dX13_init_1 ?_
  exact c_ret C0 hG rfl dX13_init_4
theorem mtC_X19_X13 (l : Launch) (q : Nat) (cC : ClassId) (iS : Nat → Nat) (V : Nat → Value)  : cMet l yX13_init cX13_init 1 1 20 [.ref q] ((q, RX19, TX19, 5, cC, iS) : cT) V V := by
  refine c_head (by decide) rfl rfl ?_
  intro p e s m below meth c C0 hG
  have hl := lv_entry ([.ref q]) (n := 1) (Nat.le_of_ble_eq_true rfl)
  rw [lg_entry_eq]
  generalize (lg_sl ([.ref q]) ++ List.replicate (1 - (lg_sl ([.ref q])).length) Slot.unset).toArray = ls at hl ⊢
  have hl : lv_has ls 1 [(0, .ref q)] := hl
  exact bmtC_X19_X13 C0 ⟨Nat.le_refl _, Nat.le_refl _⟩ _ [] ls hG hl
theorem bmtC_X19_X14 {p : Program} {l : Launch} {e : Env} {R : Room} {s : State} {m : MethodId} {args : Array Value} {below : List Frame} {meth : Method} {c : Code} {q : Nat} {cC : ClassId} {iS : Nat → Nat} {V : Nat → Value} (a0 : Nat) (a1 : Int32) (C0 : cCx p s m args meth c RX14 cX14_init 3 ((q, RX19, TX19, 5, cC, iS) : cT)) (hRo : 2 ≤ R.frames ∧ 40 ≤ R.locals) (H : Heap) (locs : List Loc) (ls : Array Slot) (hG : cG ((q, RX19, TX19, 5, cC, iS) : cT) s V H locs) (hl : lv_has ls 3 [(0, .ref q), (1, .ref a0), (2, .int a1)]) : W p l e R s m args below meth c H locs 0 0 (MQ below (cQ ((q, RX19, TX19, 5, cC, iS) : cT) (updV ((updV V 1 (.ref a0))) 0 (.int a1))) args s 0 0 (fun a => a = q)) (F0 m 0 ls []) := by
  have hx := C0.1
  have hb := C0.2.1
  have cw_X19 : cWd ((q, RX19, TX19, 5, cC, iS) : cT) tyX19 := ⟨in_X19, tyX19_ok, nmgX19⟩
  refine lv_aload_n hx hb dX14_init_0 rfl (lv_at hl 0 rfl) ?_
  refine lv_aload_n hx hb dX14_init_1 rfl (lv_at hl 1 rfl) ?_
  refine c_putF C0 hG cw_X19 1 (show 1 < 5 by decide) q1116 rfl rfl rfl rfl rfl dX14_init_2 (fun H locs hG => ?_)
  refine lv_aload_n hx hb dX14_init_5 rfl (lv_at hl 0 rfl) ?_
  refine c_callN (As := []) (rest := []) C0.1 C0.2.1 C0.2.2.1 C0.2.2.2.1 C0.2.2.2.2.1 C0.2.2.2.2.2.1 hG.1 (mtC_X19_X13 l q cC iS (updV V 1 (.ref a0))) q1112 q127 q1110 q1111 rfl yd_X13_init ⟨by omega, by omega⟩ ⟨Nat.zero_le _, Nat.zero_le _⟩ rfl rfl hl.1 (Nat.le_of_ble_eq_true rfl) dX14_init_6 (fun H1 locs1 h1 h2 h3 h4 => ?_)
  have hG := c_sup hG h1 h2 h3 h4
  refine lv_aload_n hx hb dX14_init_9 rfl (lv_at hl 0 rfl) ?_
  refine lv_iload_n hx hb dX14_init_10 rfl (lv_at hl 2 rfl) ?_
  refine c_putF C0 hG cw_X19 0 (show 0 < 5 by decide) q1115 rfl rfl rfl rfl rfl dX14_init_11 (fun H locs hG => ?_)
  exact c_ret C0 hG rfl dX14_init_14
theorem mtC_X19_X14 (l : Launch) (q : Nat) (cC : ClassId) (iS : Nat → Nat) (V : Nat → Value) (a0 : Nat) (a1 : Int32) : cMet l yX14_init cX14_init 3 2 40 [.ref q, .ref a0, .int a1] ((q, RX19, TX19, 5, cC, iS) : cT) V (updV ((updV V 1 (.ref a0))) 0 (.int a1)) := by
  refine c_head (by decide) rfl rfl ?_
  intro p e s m below meth c C0 hG
  have hl := lv_entry ([.ref q, .ref a0, .int a1]) (n := 3) (Nat.le_of_ble_eq_true rfl)
  rw [lg_entry_eq]
  generalize (lg_sl ([.ref q, .ref a0, .int a1]) ++ List.replicate (3 - (lg_sl ([.ref q, .ref a0, .int a1])).length) Slot.unset).toArray = ls at hl ⊢
  have hl : lv_has ls 3 [(0, .ref q), (1, .ref a0), (2, .int a1)] := hl
  exact bmtC_X19_X14 a0 a1 C0 ⟨Nat.le_refl _, Nat.le_refl _⟩ _ [] ls hG hl
theorem bmtC_X19_X16 {p : Program} {l : Launch} {e : Env} {R : Room} {s : State} {m : MethodId} {args : Array Value} {below : List Frame} {meth : Method} {c : Code} {q : Nat} {cC : ClassId} {iS : Nat → Nat} {V : Nat → Value} (a0 : Nat) (a1 : Int32) (C0 : cCx p s m args meth c RX16 cX16_init 3 ((q, RX19, TX19, 5, cC, iS) : cT)) (hRo : 3 ≤ R.frames ∧ 62 ≤ R.locals) (H : Heap) (locs : List Loc) (ls : Array Slot) (hG : cG ((q, RX19, TX19, 5, cC, iS) : cT) s V H locs) (hl : lv_has ls 3 [(0, .ref q), (1, .ref a0), (2, .int a1)]) : W p l e R s m args below meth c H locs 0 0 (MQ below (cQ ((q, RX19, TX19, 5, cC, iS) : cT) ((updV ((updV (updV V 2 (.ref a0)) 1 (.ref a0))) 0 (.int a1)))) args s 0 0 (fun a => a = q)) (F0 m 0 ls []) := by
  have hx := C0.1
  have hb := C0.2.1
  have cw_X19 : cWd ((q, RX19, TX19, 5, cC, iS) : cT) tyX19 := ⟨in_X19, tyX19_ok, nmgX19⟩
  refine lv_aload_n hx hb dX16_init_0 rfl (lv_at hl 0 rfl) ?_
  refine lv_aload_n hx hb dX16_init_1 rfl (lv_at hl 1 rfl) ?_
  refine c_putF C0 hG cw_X19 2 (show 2 < 5 by decide) q1130 rfl rfl rfl rfl rfl dX16_init_2 (fun H locs hG => ?_)
  refine lv_aload_n hx hb dX16_init_5 rfl (lv_at hl 0 rfl) ?_
  refine lv_aload_n hx hb dX16_init_6 rfl (lv_at hl 1 rfl) ?_
  refine lv_iload_n hx hb dX16_init_7 rfl (lv_at hl 2 rfl) ?_
  refine c_call (As := [.ref a0, .int a1]) (rest := []) C0.1 C0.2.1 C0.2.2.1 C0.2.2.2.1 C0.2.2.2.2.1 C0.2.2.2.2.2.1 hG.1 (mtC_X19_X14 l q cC iS (updV V 2 (.ref a0)) a0 a1) q1109 q128 q1129 q1108 rfl yd_X14_init ⟨by omega, by omega⟩ ⟨Nat.zero_le _, Nat.zero_le _⟩ rfl rfl hl.1 (Nat.le_of_ble_eq_true rfl) dX16_init_8 (fun H1 locs1 h1 h2 h3 h4 => ?_)
  have hG := c_sup hG h1 h2 h3 h4
  exact c_ret C0 hG rfl dX16_init_11
theorem mtC_X19_X16 (l : Launch) (q : Nat) (cC : ClassId) (iS : Nat → Nat) (V : Nat → Value) (a0 : Nat) (a1 : Int32) : cMet l yX16_init cX16_init 3 3 62 [.ref q, .ref a0, .int a1] ((q, RX19, TX19, 5, cC, iS) : cT) V ((updV ((updV (updV V 2 (.ref a0)) 1 (.ref a0))) 0 (.int a1))) := by
  refine c_head (by decide) rfl rfl ?_
  intro p e s m below meth c C0 hG
  have hl := lv_entry ([.ref q, .ref a0, .int a1]) (n := 3) (Nat.le_of_ble_eq_true rfl)
  rw [lg_entry_eq]
  generalize (lg_sl ([.ref q, .ref a0, .int a1]) ++ List.replicate (3 - (lg_sl ([.ref q, .ref a0, .int a1])).length) Slot.unset).toArray = ls at hl ⊢
  have hl : lv_has ls 3 [(0, .ref q), (1, .ref a0), (2, .int a1)] := hl
  exact bmtC_X19_X16 a0 a1 C0 ⟨Nat.le_refl _, Nat.le_refl _⟩ _ [] ls hG hl
theorem bmtC_X19_X17 {p : Program} {l : Launch} {e : Env} {R : Room} {s : State} {m : MethodId} {args : Array Value} {below : List Frame} {meth : Method} {c : Code} {q : Nat} {cC : ClassId} {iS : Nat → Nat} {V : Nat → Value} (a0 : Nat) (a1 : Int32) (C0 : cCx p s m args meth c RX17 cX17_init 3 ((q, RX19, TX19, 5, cC, iS) : cT)) (hRo : 4 ≤ R.frames ∧ 84 ≤ R.locals) (H : Heap) (locs : List Loc) (ls : Array Slot) (hG : cG ((q, RX19, TX19, 5, cC, iS) : cT) s V H locs) (hl : lv_has ls 3 [(0, .ref q), (1, .ref a0), (2, .int a1)]) : W p l e R s m args below meth c H locs 0 0 (MQ below (cQ ((q, RX19, TX19, 5, cC, iS) : cT) (((updV ((updV (updV (updV V 3 (.ref a0)) 2 (.ref a0)) 1 (.ref a0))) 0 (.int a1))))) args s 0 0 (fun a => a = q)) (F0 m 0 ls []) := by
  have hx := C0.1
  have hb := C0.2.1
  have cw_X19 : cWd ((q, RX19, TX19, 5, cC, iS) : cT) tyX19 := ⟨in_X19, tyX19_ok, nmgX19⟩
  refine lv_aload_n hx hb dX17_init_0 rfl (lv_at hl 0 rfl) ?_
  refine lv_aload_n hx hb dX17_init_1 rfl (lv_at hl 1 rfl) ?_
  refine c_putF C0 hG cw_X19 3 (show 3 < 5 by decide) q1142 rfl rfl rfl rfl rfl dX17_init_2 (fun H locs hG => ?_)
  refine lv_aload_n hx hb dX17_init_5 rfl (lv_at hl 0 rfl) ?_
  refine lv_aload_n hx hb dX17_init_6 rfl (lv_at hl 1 rfl) ?_
  refine lv_iload_n hx hb dX17_init_7 rfl (lv_at hl 2 rfl) ?_
  refine c_call (As := [.ref a0, .int a1]) (rest := []) C0.1 C0.2.1 C0.2.2.1 C0.2.2.2.1 C0.2.2.2.2.1 C0.2.2.2.2.2.1 hG.1 (mtC_X19_X16 l q cC iS (updV V 3 (.ref a0)) a0 a1) q1128 q130 q1141 q1127 rfl yd_X16_init ⟨by omega, by omega⟩ ⟨Nat.zero_le _, Nat.zero_le _⟩ rfl rfl hl.1 (Nat.le_of_ble_eq_true rfl) dX17_init_8 (fun H1 locs1 h1 h2 h3 h4 => ?_)
  have hG := c_sup hG h1 h2 h3 h4
  exact c_ret C0 hG rfl dX17_init_11
theorem mtC_X19_X17 (l : Launch) (q : Nat) (cC : ClassId) (iS : Nat → Nat) (V : Nat → Value) (a0 : Nat) (a1 : Int32) : cMet l yX17_init cX17_init 3 4 84 [.ref q, .ref a0, .int a1] ((q, RX19, TX19, 5, cC, iS) : cT) V (((updV ((updV (updV (updV V 3 (.ref a0)) 2 (.ref a0)) 1 (.ref a0))) 0 (.int a1)))) := by
  refine c_head (by decide) rfl rfl ?_
  intro p e s m below meth c C0 hG
  have hl := lv_entry ([.ref q, .ref a0, .int a1]) (n := 3) (Nat.le_of_ble_eq_true rfl)
  rw [lg_entry_eq]
  generalize (lg_sl ([.ref q, .ref a0, .int a1]) ++ List.replicate (3 - (lg_sl ([.ref q, .ref a0, .int a1])).length) Slot.unset).toArray = ls at hl ⊢
  have hl : lv_has ls 3 [(0, .ref q), (1, .ref a0), (2, .int a1)] := hl
  exact bmtC_X19_X17 a0 a1 C0 ⟨Nat.le_refl _, Nat.le_refl _⟩ _ [] ls hG hl
theorem bmtC_X19_X19 {p : Program} {l : Launch} {e : Env} {R : Room} {s : State} {m : MethodId} {args : Array Value} {below : List Frame} {meth : Method} {c : Code} {q : Nat} {cC : ClassId} {iS : Nat → Nat} {V : Nat → Value} (a0 : Nat) (a1 : Int32) (C0 : cCx p s m args meth c RX19 cX19_init 3 ((q, RX19, TX19, 5, cC, iS) : cT)) (hRo : 5 ≤ R.frames ∧ 106 ≤ R.locals) (H : Heap) (locs : List Loc) (ls : Array Slot) (hG : cG ((q, RX19, TX19, 5, cC, iS) : cT) s V H locs) (hl : lv_has ls 3 [(0, .ref q), (1, .ref a0), (2, .int a1)]) : W p l e R s m args below meth c H locs 0 0 (MQ below (cQ ((q, RX19, TX19, 5, cC, iS) : cT) ((((updV ((updV (updV (updV (updV V 4 (.ref a0)) 3 (.ref a0)) 2 (.ref a0)) 1 (.ref a0))) 0 (.int a1)))))) args s 0 0 (fun a => a = q)) (F0 m 0 ls []) := by
  have hx := C0.1
  have hb := C0.2.1
  have cw_X19 : cWd ((q, RX19, TX19, 5, cC, iS) : cT) tyX19 := ⟨in_X19, tyX19_ok, nmgX19⟩
  refine lv_aload_n hx hb dX19_init_0 rfl (lv_at hl 0 rfl) ?_
  refine lv_aload_n hx hb dX19_init_1 rfl (lv_at hl 1 rfl) ?_
  refine c_putF C0 hG cw_X19 4 (show 4 < 5 by decide) q1168 rfl rfl rfl rfl rfl dX19_init_2 (fun H locs hG => ?_)
  refine lv_aload_n hx hb dX19_init_5 rfl (lv_at hl 0 rfl) ?_
  refine lv_aload_n hx hb dX19_init_6 rfl (lv_at hl 1 rfl) ?_
  refine lv_iload_n hx hb dX19_init_7 rfl (lv_at hl 2 rfl) ?_
  refine c_call (As := [.ref a0, .int a1]) (rest := []) C0.1 C0.2.1 C0.2.2.1 C0.2.2.2.1 C0.2.2.2.2.1 C0.2.2.2.2.2.1 hG.1 (mtC_X19_X17 l q cC iS (updV V 4 (.ref a0)) a0 a1) q1140 q131 q1167 q1139 rfl yd_X17_init ⟨by omega, by omega⟩ ⟨Nat.zero_le _, Nat.zero_le _⟩ rfl rfl hl.1 (Nat.le_of_ble_eq_true rfl) dX19_init_8 (fun H1 locs1 h1 h2 h3 h4 => ?_)
  have hG := c_sup hG h1 h2 h3 h4
  exact c_ret C0 hG rfl dX19_init_11
theorem mtC_X19_X19 (l : Launch) (q : Nat) (cC : ClassId) (iS : Nat → Nat) (V : Nat → Value) (a0 : Nat) (a1 : Int32) : cMet l yX19_init cX19_init 3 5 106 [.ref q, .ref a0, .int a1] ((q, RX19, TX19, 5, cC, iS) : cT) V ((((updV ((updV (updV (updV (updV V 4 (.ref a0)) 3 (.ref a0)) 2 (.ref a0)) 1 (.ref a0))) 0 (.int a1))))) := by
  refine c_head (by decide) rfl rfl ?_
  intro p e s m below meth c C0 hG
  have hl := lv_entry ([.ref q, .ref a0, .int a1]) (n := 3) (Nat.le_of_ble_eq_true rfl)
  rw [lg_entry_eq]
  generalize (lg_sl ([.ref q, .ref a0, .int a1]) ++ List.replicate (3 - (lg_sl ([.ref q, .ref a0, .int a1])).length) Slot.unset).toArray = ls at hl ⊢
  have hl : lv_has ls 3 [(0, .ref q), (1, .ref a0), (2, .int a1)] := hl
  exact bmtC_X19_X19 a0 a1 C0 ⟨Nat.le_refl _, Nat.le_refl _⟩ _ [] ls hG hl
theorem bmtC_X20_X13 {p : Program} {l : Launch} {e : Env} {R : Room} {s : State} {m : MethodId} {args : Array Value} {below : List Frame} {meth : Method} {c : Code} {q : Nat} {cC : ClassId} {iS : Nat → Nat} {V : Nat → Value}  (C0 : cCx p s m args meth c RX13 cX13_init 1 ((q, RX20, TX20, 3, cC, iS) : cT)) (hRo : 1 ≤ R.frames ∧ 20 ≤ R.locals) (H : Heap) (locs : List Loc) (ls : Array Slot) (hG : cG ((q, RX20, TX20, 3, cC, iS) : cT) s V H locs) (hl : lv_has ls 1 [(0, .ref q)]) : W p l e R s m args below meth c H locs 0 0 (MQ below (cQ ((q, RX20, TX20, 3, cC, iS) : cT) V) args s 0 0 (fun a => a = q)) (F0 m 0 ls []) := by
  have hx := C0.1
  have hb := C0.2.1
  have cw_X20 : cWd ((q, RX20, TX20, 3, cC, iS) : cT) tyX20 := ⟨in_X20, tyX20_ok, nmgX20⟩
  refine lv_aload_n hx hb dX13_init_0 rfl (lv_at hl 0 rfl) ?_
  refine c_objI C0 q1113 q150 q151 hl.1 ⟨by omega, by omega⟩ (Nat.le_of_ble_eq_true rfl) dX13_init_1 ?_
  exact c_ret C0 hG rfl dX13_init_4
theorem mtC_X20_X13 (l : Launch) (q : Nat) (cC : ClassId) (iS : Nat → Nat) (V : Nat → Value)  : cMet l yX13_init cX13_init 1 1 20 [.ref q] ((q, RX20, TX20, 3, cC, iS) : cT) V V := by
  refine c_head (by decide) rfl rfl ?_
  intro p e s m below meth c C0 hG
  have hl := lv_entry ([.ref q]) (n := 1) (Nat.le_of_ble_eq_true rfl)
  rw [lg_entry_eq]
  generalize (lg_sl ([.ref q]) ++ List.replicate (1 - (lg_sl ([.ref q])).length) Slot.unset).toArray = ls at hl ⊢
  have hl : lv_has ls 1 [(0, .ref q)] := hl
  exact bmtC_X20_X13 C0 ⟨Nat.le_refl _, Nat.le_refl _⟩ _ [] ls hG hl
theorem bmtC_X20_X14 {p : Program} {l : Launch} {e : Env} {R : Room} {s : State} {m : MethodId} {args : Array Value} {below : List Frame} {meth : Method} {c : Code} {q : Nat} {cC : ClassId} {iS : Nat → Nat} {V : Nat → Value} (a0 : Nat) (a1 : Int32) (C0 : cCx p s m args meth c RX14 cX14_init 3 ((q, RX20, TX20, 3, cC, iS) : cT)) (hRo : 2 ≤ R.frames ∧ 40 ≤ R.locals) (H : Heap) (locs : List Loc) (ls : Array Slot) (hG : cG ((q, RX20, TX20, 3, cC, iS) : cT) s V H locs) (hl : lv_has ls 3 [(0, .ref q), (1, .ref a0), (2, .int a1)]) : W p l e R s m args below meth c H locs 0 0 (MQ below (cQ ((q, RX20, TX20, 3, cC, iS) : cT) (updV ((updV V 1 (.ref a0))) 0 (.int a1))) args s 0 0 (fun a => a = q)) (F0 m 0 ls []) := by
  have hx := C0.1
  have hb := C0.2.1
  have cw_X20 : cWd ((q, RX20, TX20, 3, cC, iS) : cT) tyX20 := ⟨in_X20, tyX20_ok, nmgX20⟩
  refine lv_aload_n hx hb dX14_init_0 rfl (lv_at hl 0 rfl) ?_
  refine lv_aload_n hx hb dX14_init_1 rfl (lv_at hl 1 rfl) ?_
  refine c_putF C0 hG cw_X20 1 (show 1 < 3 by decide) q1116 rfl rfl rfl rfl rfl dX14_init_2 (fun H locs hG => ?_)
  refine lv_aload_n hx hb dX14_init_5 rfl (lv_at hl 0 rfl) ?_
  refine c_callN (As := []) (rest := []) C0.1 C0.2.1 C0.2.2.1 C0.2.2.2.1 C0.2.2.2.2.1 C0.2.2.2.2.2.1 hG.1 (mtC_X20_X13 l q cC iS (updV V 1 (.ref a0))) q1112 q127 q1110 q1111 rfl yd_X13_init ⟨by omega, by omega⟩ ⟨Nat.zero_le _, Nat.zero_le _⟩ rfl rfl hl.1 (Nat.le_of_ble_eq_true rfl) dX14_init_6 (fun H1 locs1 h1 h2 h3 h4 => ?_)
  have hG := c_sup hG h1 h2 h3 h4
  refine lv_aload_n hx hb dX14_init_9 rfl (lv_at hl 0 rfl) ?_
  refine lv_iload_n hx hb dX14_init_10 rfl (lv_at hl 2 rfl) ?_
  refine c_putF C0 hG cw_X20 0 (show 0 < 3 by decide) q1115 rfl rfl rfl rfl rfl dX14_init_11 (fun H locs hG => ?_)
  exact c_ret C0 hG rfl dX14_init_14
theorem mtC_X20_X14 (l : Launch) (q : Nat) (cC : ClassId) (iS : Nat → Nat) (V : Nat → Value) (a0 : Nat) (a1 : Int32) : cMet l yX14_init cX14_init 3 2 40 [.ref q, .ref a0, .int a1] ((q, RX20, TX20, 3, cC, iS) : cT) V (updV ((updV V 1 (.ref a0))) 0 (.int a1)) := by
  refine c_head (by decide) rfl rfl ?_
  intro p e s m below meth c C0 hG
  have hl := lv_entry ([.ref q, .ref a0, .int a1]) (n := 3) (Nat.le_of_ble_eq_true rfl)
  rw [lg_entry_eq]
  generalize (lg_sl ([.ref q, .ref a0, .int a1]) ++ List.replicate (3 - (lg_sl ([.ref q, .ref a0, .int a1])).length) Slot.unset).toArray = ls at hl ⊢
  have hl : lv_has ls 3 [(0, .ref q), (1, .ref a0), (2, .int a1)] := hl
  exact bmtC_X20_X14 a0 a1 C0 ⟨Nat.le_refl _, Nat.le_refl _⟩ _ [] ls hG hl
theorem bmtC_X20_X20 {p : Program} {l : Launch} {e : Env} {R : Room} {s : State} {m : MethodId} {args : Array Value} {below : List Frame} {meth : Method} {c : Code} {q : Nat} {cC : ClassId} {iS : Nat → Nat} {V : Nat → Value} (a0 : Nat) (a1 : Int32) (C0 : cCx p s m args meth c RX20 cX20_init 3 ((q, RX20, TX20, 3, cC, iS) : cT)) (hRo : 3 ≤ R.frames ∧ 62 ≤ R.locals) (H : Heap) (locs : List Loc) (ls : Array Slot) (hG : cG ((q, RX20, TX20, 3, cC, iS) : cT) s V H locs) (hl : lv_has ls 3 [(0, .ref q), (1, .ref a0), (2, .int a1)]) : W p l e R s m args below meth c H locs 0 0 (MQ below (cQ ((q, RX20, TX20, 3, cC, iS) : cT) ((updV ((updV (updV V 2 (.ref a0)) 1 (.ref a0))) 0 (.int a1)))) args s 0 0 (fun a => a = q)) (F0 m 0 ls []) := by
  have hx := C0.1
  have hb := C0.2.1
  have cw_X20 : cWd ((q, RX20, TX20, 3, cC, iS) : cT) tyX20 := ⟨in_X20, tyX20_ok, nmgX20⟩
  refine lv_aload_n hx hb dX20_init_0 rfl (lv_at hl 0 rfl) ?_
  refine lv_aload_n hx hb dX20_init_1 rfl (lv_at hl 1 rfl) ?_
  refine c_putF C0 hG cw_X20 2 (show 2 < 3 by decide) q1182 rfl rfl rfl rfl rfl dX20_init_2 (fun H locs hG => ?_)
  refine lv_aload_n hx hb dX20_init_5 rfl (lv_at hl 0 rfl) ?_
  refine lv_aload_n hx hb dX20_init_6 rfl (lv_at hl 1 rfl) ?_
  refine lv_iload_n hx hb dX20_init_7 rfl (lv_at hl 2 rfl) ?_
  refine c_call (As := [.ref a0, .int a1]) (rest := []) C0.1 C0.2.1 C0.2.2.1 C0.2.2.2.1 C0.2.2.2.2.1 C0.2.2.2.2.2.1 hG.1 (mtC_X20_X14 l q cC iS (updV V 2 (.ref a0)) a0 a1) q1109 q128 q1181 q1108 rfl yd_X14_init ⟨by omega, by omega⟩ ⟨Nat.zero_le _, Nat.zero_le _⟩ rfl rfl hl.1 (Nat.le_of_ble_eq_true rfl) dX20_init_8 (fun H1 locs1 h1 h2 h3 h4 => ?_)
  have hG := c_sup hG h1 h2 h3 h4
  exact c_ret C0 hG rfl dX20_init_11
theorem mtC_X20_X20 (l : Launch) (q : Nat) (cC : ClassId) (iS : Nat → Nat) (V : Nat → Value) (a0 : Nat) (a1 : Int32) : cMet l yX20_init cX20_init 3 3 62 [.ref q, .ref a0, .int a1] ((q, RX20, TX20, 3, cC, iS) : cT) V ((updV ((updV (updV V 2 (.ref a0)) 1 (.ref a0))) 0 (.int a1))) := by
  refine c_head (by decide) rfl rfl ?_
  intro p e s m below meth c C0 hG
  have hl := lv_entry ([.ref q, .ref a0, .int a1]) (n := 3) (Nat.le_of_ble_eq_true rfl)
  rw [lg_entry_eq]
  generalize (lg_sl ([.ref q, .ref a0, .int a1]) ++ List.replicate (3 - (lg_sl ([.ref q, .ref a0, .int a1])).length) Slot.unset).toArray = ls at hl ⊢
  have hl : lv_has ls 3 [(0, .ref q), (1, .ref a0), (2, .int a1)] := hl
  exact bmtC_X20_X20 a0 a1 C0 ⟨Nat.le_refl _, Nat.le_refl _⟩ _ [] ls hG hl
theorem bmtC_X21_X13 {p : Program} {l : Launch} {e : Env} {R : Room} {s : State} {m : MethodId} {args : Array Value} {below : List Frame} {meth : Method} {c : Code} {q : Nat} {cC : ClassId} {iS : Nat → Nat} {V : Nat → Value}  (C0 : cCx p s m args meth c RX13 cX13_init 1 ((q, RX21, TX21, 5, cC, iS) : cT)) (hRo : 1 ≤ R.frames ∧ 20 ≤ R.locals) (H : Heap) (locs : List Loc) (ls : Array Slot) (hG : cG ((q, RX21, TX21, 5, cC, iS) : cT) s V H locs) (hl : lv_has ls 1 [(0, .ref q)]) : W p l e R s m args below meth c H locs 0 0 (MQ below (cQ ((q, RX21, TX21, 5, cC, iS) : cT) V) args s 0 0 (fun a => a = q)) (F0 m 0 ls []) := by
  have hx := C0.1
  have hb := C0.2.1
  have cw_X21 : cWd ((q, RX21, TX21, 5, cC, iS) : cT) tyX21 := ⟨in_X21, tyX21_ok, nmgX21⟩
  refine lv_aload_n hx hb dX13_init_0 rfl (lv_at hl 0 rfl) ?_
  refine c_objI C0 q1113 q150 q151 hl.1 ⟨by omega, by omega⟩ (Nat.le_of_ble_eq_true rfl) dX13_init_1 ?_
  exact c_ret C0 hG rfl dX13_init_4
theorem mtC_X21_X13 (l : Launch) (q : Nat) (cC : ClassId) (iS : Nat → Nat) (V : Nat → Value)  : cMet l yX13_init cX13_init 1 1 20 [.ref q] ((q, RX21, TX21, 5, cC, iS) : cT) V V := by
  refine c_head (by decide) rfl rfl ?_
  intro p e s m below meth c C0 hG
  have hl := lv_entry ([.ref q]) (n := 1) (Nat.le_of_ble_eq_true rfl)
  rw [lg_entry_eq]
  generalize (lg_sl ([.ref q]) ++ List.replicate (1 - (lg_sl ([.ref q])).length) Slot.unset).toArray = ls at hl ⊢
  have hl : lv_has ls 1 [(0, .ref q)] := hl
  exact bmtC_X21_X13 C0 ⟨Nat.le_refl _, Nat.le_refl _⟩ _ [] ls hG hl
theorem bmtC_X21_X14 {p : Program} {l : Launch} {e : Env} {R : Room} {s : State} {m : MethodId} {args : Array Value} {below : List Frame} {meth : Method} {c : Code} {q : Nat} {cC : ClassId} {iS : Nat → Nat} {V : Nat → Value} (a0 : Nat) (a1 : Int32) (C0 : cCx p s m args meth c RX14 cX14_init 3 ((q, RX21, TX21, 5, cC, iS) : cT)) (hRo : 2 ≤ R.frames ∧ 40 ≤ R.locals) (H : Heap) (locs : List Loc) (ls : Array Slot) (hG : cG ((q, RX21, TX21, 5, cC, iS) : cT) s V H locs) (hl : lv_has ls 3 [(0, .ref q), (1, .ref a0), (2, .int a1)]) : W p l e R s m args below meth c H locs 0 0 (MQ below (cQ ((q, RX21, TX21, 5, cC, iS) : cT) (updV ((updV V 1 (.ref a0))) 0 (.int a1))) args s 0 0 (fun a => a = q)) (F0 m 0 ls []) := by
  have hx := C0.1
  have hb := C0.2.1
  have cw_X21 : cWd ((q, RX21, TX21, 5, cC, iS) : cT) tyX21 := ⟨in_X21, tyX21_ok, nmgX21⟩
  refine lv_aload_n hx hb dX14_init_0 rfl (lv_at hl 0 rfl) ?_
  refine lv_aload_n hx hb dX14_init_1 rfl (lv_at hl 1 rfl) ?_
  refine c_putF C0 hG cw_X21 1 (show 1 < 5 by decide) q1116 rfl rfl rfl rfl rfl dX14_init_2 (fun H locs hG => ?_)
  refine lv_aload_n hx hb dX14_init_5 rfl (lv_at hl 0 rfl) ?_
  refine c_callN (As := []) (rest := []) C0.1 C0.2.1 C0.2.2.1 C0.2.2.2.1 C0.2.2.2.2.1 C0.2.2.2.2.2.1 hG.1 (mtC_X21_X13 l q cC iS (updV V 1 (.ref a0))) q1112 q127 q1110 q1111 rfl yd_X13_init ⟨by omega, by omega⟩ ⟨Nat.zero_le _, Nat.zero_le _⟩ rfl rfl hl.1 (Nat.le_of_ble_eq_true rfl) dX14_init_6 (fun H1 locs1 h1 h2 h3 h4 => ?_)
  have hG := c_sup hG h1 h2 h3 h4
  refine lv_aload_n hx hb dX14_init_9 rfl (lv_at hl 0 rfl) ?_
  refine lv_iload_n hx hb dX14_init_10 rfl (lv_at hl 2 rfl) ?_
  refine c_putF C0 hG cw_X21 0 (show 0 < 5 by decide) q1115 rfl rfl rfl rfl rfl dX14_init_11 (fun H locs hG => ?_)
  exact c_ret C0 hG rfl dX14_init_14
theorem mtC_X21_X14 (l : Launch) (q : Nat) (cC : ClassId) (iS : Nat → Nat) (V : Nat → Value) (a0 : Nat) (a1 : Int32) : cMet l yX14_init cX14_init 3 2 40 [.ref q, .ref a0, .int a1] ((q, RX21, TX21, 5, cC, iS) : cT) V (updV ((updV V 1 (.ref a0))) 0 (.int a1)) := by
  refine c_head (by decide) rfl rfl ?_
  intro p e s m below meth c C0 hG
  have hl := lv_entry ([.ref q, .ref a0, .int a1]) (n := 3) (Nat.le_of_ble_eq_true rfl)
  rw [lg_entry_eq]
  generalize (lg_sl ([.ref q, .ref a0, .int a1]) ++ List.replicate (3 - (lg_sl ([.ref q, .ref a0, .int a1])).length) Slot.unset).toArray = ls at hl ⊢
  have hl : lv_has ls 3 [(0, .ref q), (1, .ref a0), (2, .int a1)] := hl
  exact bmtC_X21_X14 a0 a1 C0 ⟨Nat.le_refl _, Nat.le_refl _⟩ _ [] ls hG hl
theorem bmtC_X21_X15 {p : Program} {l : Launch} {e : Env} {R : Room} {s : State} {m : MethodId} {args : Array Value} {below : List Frame} {meth : Method} {c : Code} {q : Nat} {cC : ClassId} {iS : Nat → Nat} {V : Nat → Value} (a0 : Nat) (a1 : Int32) (C0 : cCx p s m args meth c RX15 cX15_init 3 ((q, RX21, TX21, 5, cC, iS) : cT)) (hRo : 3 ≤ R.frames ∧ 62 ≤ R.locals) (H : Heap) (locs : List Loc) (ls : Array Slot) (hG : cG ((q, RX21, TX21, 5, cC, iS) : cT) s V H locs) (hl : lv_has ls 3 [(0, .ref q), (1, .ref a0), (2, .int a1)]) : W p l e R s m args below meth c H locs 0 0 (MQ below (cQ ((q, RX21, TX21, 5, cC, iS) : cT) ((updV ((updV (updV V 2 (.ref a0)) 1 (.ref a0))) 0 (.int a1)))) args s 0 0 (fun a => a = q)) (F0 m 0 ls []) := by
  have hx := C0.1
  have hb := C0.2.1
  have cw_X21 : cWd ((q, RX21, TX21, 5, cC, iS) : cT) tyX21 := ⟨in_X21, tyX21_ok, nmgX21⟩
  refine lv_aload_n hx hb dX15_init_0 rfl (lv_at hl 0 rfl) ?_
  refine lv_aload_n hx hb dX15_init_1 rfl (lv_at hl 1 rfl) ?_
  refine c_putF C0 hG cw_X21 2 (show 2 < 5 by decide) q1114 rfl rfl rfl rfl rfl dX15_init_2 (fun H locs hG => ?_)
  refine lv_aload_n hx hb dX15_init_5 rfl (lv_at hl 0 rfl) ?_
  refine lv_aload_n hx hb dX15_init_6 rfl (lv_at hl 1 rfl) ?_
  refine lv_iload_n hx hb dX15_init_7 rfl (lv_at hl 2 rfl) ?_
  refine c_call (As := [.ref a0, .int a1]) (rest := []) C0.1 C0.2.1 C0.2.2.1 C0.2.2.2.1 C0.2.2.2.2.1 C0.2.2.2.2.2.1 hG.1 (mtC_X21_X14 l q cC iS (updV V 2 (.ref a0)) a0 a1) q1109 q128 q1107 q1108 rfl yd_X14_init ⟨by omega, by omega⟩ ⟨Nat.zero_le _, Nat.zero_le _⟩ rfl rfl hl.1 (Nat.le_of_ble_eq_true rfl) dX15_init_8 (fun H1 locs1 h1 h2 h3 h4 => ?_)
  have hG := c_sup hG h1 h2 h3 h4
  exact c_ret C0 hG rfl dX15_init_11
theorem mtC_X21_X15 (l : Launch) (q : Nat) (cC : ClassId) (iS : Nat → Nat) (V : Nat → Value) (a0 : Nat) (a1 : Int32) : cMet l yX15_init cX15_init 3 3 62 [.ref q, .ref a0, .int a1] ((q, RX21, TX21, 5, cC, iS) : cT) V ((updV ((updV (updV V 2 (.ref a0)) 1 (.ref a0))) 0 (.int a1))) := by
  refine c_head (by decide) rfl rfl ?_
  intro p e s m below meth c C0 hG
  have hl := lv_entry ([.ref q, .ref a0, .int a1]) (n := 3) (Nat.le_of_ble_eq_true rfl)
  rw [lg_entry_eq]
  generalize (lg_sl ([.ref q, .ref a0, .int a1]) ++ List.replicate (3 - (lg_sl ([.ref q, .ref a0, .int a1])).length) Slot.unset).toArray = ls at hl ⊢
  have hl : lv_has ls 3 [(0, .ref q), (1, .ref a0), (2, .int a1)] := hl
  exact bmtC_X21_X15 a0 a1 C0 ⟨Nat.le_refl _, Nat.le_refl _⟩ _ [] ls hG hl
theorem bmtC_X21_X18 {p : Program} {l : Launch} {e : Env} {R : Room} {s : State} {m : MethodId} {args : Array Value} {below : List Frame} {meth : Method} {c : Code} {q : Nat} {cC : ClassId} {iS : Nat → Nat} {V : Nat → Value} (a0 : Nat) (a1 : Int32) (C0 : cCx p s m args meth c RX18 cX18_init 3 ((q, RX21, TX21, 5, cC, iS) : cT)) (hRo : 4 ≤ R.frames ∧ 84 ≤ R.locals) (H : Heap) (locs : List Loc) (ls : Array Slot) (hG : cG ((q, RX21, TX21, 5, cC, iS) : cT) s V H locs) (hl : lv_has ls 3 [(0, .ref q), (1, .ref a0), (2, .int a1)]) : W p l e R s m args below meth c H locs 0 0 (MQ below (cQ ((q, RX21, TX21, 5, cC, iS) : cT) (((updV ((updV (updV (updV V 3 (.ref a0)) 2 (.ref a0)) 1 (.ref a0))) 0 (.int a1))))) args s 0 0 (fun a => a = q)) (F0 m 0 ls []) := by
  have hx := C0.1
  have hb := C0.2.1
  have cw_X21 : cWd ((q, RX21, TX21, 5, cC, iS) : cT) tyX21 := ⟨in_X21, tyX21_ok, nmgX21⟩
  refine lv_aload_n hx hb dX18_init_0 rfl (lv_at hl 0 rfl) ?_
  refine lv_aload_n hx hb dX18_init_1 rfl (lv_at hl 1 rfl) ?_
  refine c_putF C0 hG cw_X21 3 (show 3 < 5 by decide) q1155 rfl rfl rfl rfl rfl dX18_init_2 (fun H locs hG => ?_)
  refine lv_aload_n hx hb dX18_init_5 rfl (lv_at hl 0 rfl) ?_
  refine lv_aload_n hx hb dX18_init_6 rfl (lv_at hl 1 rfl) ?_
  refine lv_iload_n hx hb dX18_init_7 rfl (lv_at hl 2 rfl) ?_
  refine c_call (As := [.ref a0, .int a1]) (rest := []) C0.1 C0.2.1 C0.2.2.1 C0.2.2.2.1 C0.2.2.2.2.1 C0.2.2.2.2.2.1 hG.1 (mtC_X21_X15 l q cC iS (updV V 3 (.ref a0)) a0 a1) q1106 q129 q1154 q1105 rfl yd_X15_init ⟨by omega, by omega⟩ ⟨Nat.zero_le _, Nat.zero_le _⟩ rfl rfl hl.1 (Nat.le_of_ble_eq_true rfl) dX18_init_8 (fun H1 locs1 h1 h2 h3 h4 => ?_)
  have hG := c_sup hG h1 h2 h3 h4
  exact c_ret C0 hG rfl dX18_init_11
theorem mtC_X21_X18 (l : Launch) (q : Nat) (cC : ClassId) (iS : Nat → Nat) (V : Nat → Value) (a0 : Nat) (a1 : Int32) : cMet l yX18_init cX18_init 3 4 84 [.ref q, .ref a0, .int a1] ((q, RX21, TX21, 5, cC, iS) : cT) V (((updV ((updV (updV (updV V 3 (.ref a0)) 2 (.ref a0)) 1 (.ref a0))) 0 (.int a1)))) := by
  refine c_head (by decide) rfl rfl ?_
  intro p e s m below meth c C0 hG
  have hl := lv_entry ([.ref q, .ref a0, .int a1]) (n := 3) (Nat.le_of_ble_eq_true rfl)
  rw [lg_entry_eq]
  generalize (lg_sl ([.ref q, .ref a0, .int a1]) ++ List.replicate (3 - (lg_sl ([.ref q, .ref a0, .int a1])).length) Slot.unset).toArray = ls at hl ⊢
  have hl : lv_has ls 3 [(0, .ref q), (1, .ref a0), (2, .int a1)] := hl
  exact bmtC_X21_X18 a0 a1 C0 ⟨Nat.le_refl _, Nat.le_refl _⟩ _ [] ls hG hl
theorem bmtC_X21_X21 {p : Program} {l : Launch} {e : Env} {R : Room} {s : State} {m : MethodId} {args : Array Value} {below : List Frame} {meth : Method} {c : Code} {q : Nat} {cC : ClassId} {iS : Nat → Nat} {V : Nat → Value} (a0 : Nat) (a1 : Int32) (C0 : cCx p s m args meth c RX21 cX21_init 3 ((q, RX21, TX21, 5, cC, iS) : cT)) (hRo : 5 ≤ R.frames ∧ 106 ≤ R.locals) (H : Heap) (locs : List Loc) (ls : Array Slot) (hG : cG ((q, RX21, TX21, 5, cC, iS) : cT) s V H locs) (hl : lv_has ls 3 [(0, .ref q), (1, .ref a0), (2, .int a1)]) : W p l e R s m args below meth c H locs 0 0 (MQ below (cQ ((q, RX21, TX21, 5, cC, iS) : cT) ((((updV ((updV (updV (updV (updV V 4 (.ref a0)) 3 (.ref a0)) 2 (.ref a0)) 1 (.ref a0))) 0 (.int a1)))))) args s 0 0 (fun a => a = q)) (F0 m 0 ls []) := by
  have hx := C0.1
  have hb := C0.2.1
  have cw_X21 : cWd ((q, RX21, TX21, 5, cC, iS) : cT) tyX21 := ⟨in_X21, tyX21_ok, nmgX21⟩
  refine lv_aload_n hx hb dX21_init_0 rfl (lv_at hl 0 rfl) ?_
  refine lv_aload_n hx hb dX21_init_1 rfl (lv_at hl 1 rfl) ?_
  refine c_putF C0 hG cw_X21 4 (show 4 < 5 by decide) q1194 rfl rfl rfl rfl rfl dX21_init_2 (fun H locs hG => ?_)
  refine lv_aload_n hx hb dX21_init_5 rfl (lv_at hl 0 rfl) ?_
  refine lv_aload_n hx hb dX21_init_6 rfl (lv_at hl 1 rfl) ?_
  refine lv_iload_n hx hb dX21_init_7 rfl (lv_at hl 2 rfl) ?_
  refine c_call (As := [.ref a0, .int a1]) (rest := []) C0.1 C0.2.1 C0.2.2.1 C0.2.2.2.1 C0.2.2.2.2.1 C0.2.2.2.2.2.1 hG.1 (mtC_X21_X18 l q cC iS (updV V 4 (.ref a0)) a0 a1) q1153 q132 q1193 q1152 rfl yd_X18_init ⟨by omega, by omega⟩ ⟨Nat.zero_le _, Nat.zero_le _⟩ rfl rfl hl.1 (Nat.le_of_ble_eq_true rfl) dX21_init_8 (fun H1 locs1 h1 h2 h3 h4 => ?_)
  have hG := c_sup hG h1 h2 h3 h4
  exact c_ret C0 hG rfl dX21_init_11
theorem mtC_X21_X21 (l : Launch) (q : Nat) (cC : ClassId) (iS : Nat → Nat) (V : Nat → Value) (a0 : Nat) (a1 : Int32) : cMet l yX21_init cX21_init 3 5 106 [.ref q, .ref a0, .int a1] ((q, RX21, TX21, 5, cC, iS) : cT) V ((((updV ((updV (updV (updV (updV V 4 (.ref a0)) 3 (.ref a0)) 2 (.ref a0)) 1 (.ref a0))) 0 (.int a1))))) := by
  refine c_head (by decide) rfl rfl ?_
  intro p e s m below meth c C0 hG
  have hl := lv_entry ([.ref q, .ref a0, .int a1]) (n := 3) (Nat.le_of_ble_eq_true rfl)
  rw [lg_entry_eq]
  generalize (lg_sl ([.ref q, .ref a0, .int a1]) ++ List.replicate (3 - (lg_sl ([.ref q, .ref a0, .int a1])).length) Slot.unset).toArray = ls at hl ⊢
  have hl : lv_has ls 3 [(0, .ref q), (1, .ref a0), (2, .int a1)] := hl
  exact bmtC_X21_X21 a0 a1 C0 ⟨Nat.le_refl _, Nat.le_refl _⟩ _ [] ls hG hl
