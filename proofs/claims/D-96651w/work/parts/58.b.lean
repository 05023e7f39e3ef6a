theorem yd_X14_countsIt : (yX14_countsIt).cls = RX14 ∧ (yX14_countsIt).cls ≠ "java/lang/invoke/MethodHandle" ∧ (yX14_countsIt).cls ≠ "java/lang/invoke/VarHandle" ∧ (parseMethodDescriptor (yX14_countsIt).desc).map (fun d => d.parameters.length) = some 1 := by decide +kernel
theorem yd_X15_countsIt : (yX15_countsIt).cls = RX15 ∧ (yX15_countsIt).cls ≠ "java/lang/invoke/MethodHandle" ∧ (yX15_countsIt).cls ≠ "java/lang/invoke/VarHandle" ∧ (parseMethodDescriptor (yX15_countsIt).desc).map (fun d => d.parameters.length) = some 1 := by decide +kernel
theorem yd_X20_countsIt : (yX20_countsIt).cls = RX20 ∧ (yX20_countsIt).cls ≠ "java/lang/invoke/MethodHandle" ∧ (yX20_countsIt).cls ≠ "java/lang/invoke/VarHandle" ∧ (parseMethodDescriptor (yX20_countsIt).desc).map (fun d => d.parameters.length) = some 1 := by decide +kernel
theorem yd_X14_sinks : (yX14_sinks).cls = RX14 ∧ (yX14_sinks).cls ≠ "java/lang/invoke/MethodHandle" ∧ (yX14_sinks).cls ≠ "java/lang/invoke/VarHandle" ∧ (parseMethodDescriptor (yX14_sinks).desc).map (fun d => d.parameters.length) = some 1 := by decide +kernel
theorem yd_X17_sinks : (yX17_sinks).cls = RX17 ∧ (yX17_sinks).cls ≠ "java/lang/invoke/MethodHandle" ∧ (yX17_sinks).cls ≠ "java/lang/invoke/VarHandle" ∧ (parseMethodDescriptor (yX17_sinks).desc).map (fun d => d.parameters.length) = some 1 := by decide +kernel
theorem yd_X18_sinks : (yX18_sinks).cls = RX18 ∧ (yX18_sinks).cls ≠ "java/lang/invoke/MethodHandle" ∧ (yX18_sinks).cls ≠ "java/lang/invoke/VarHandle" ∧ (parseMethodDescriptor (yX18_sinks).desc).map (fun d => d.parameters.length) = some 1 := by decide +kernel
theorem yd_X14_turns : (yX14_turns).cls = RX14 ∧ (yX14_turns).cls ≠ "java/lang/invoke/MethodHandle" ∧ (yX14_turns).cls ≠ "java/lang/invoke/VarHandle" ∧ (parseMethodDescriptor (yX14_turns).desc).map (fun d => d.parameters.length) = some 1 := by decide +kernel
theorem yd_X16_turns : (yX16_turns).cls = RX16 ∧ (yX16_turns).cls ≠ "java/lang/invoke/MethodHandle" ∧ (yX16_turns).cls ≠ "java/lang/invoke/VarHandle" ∧ (parseMethodDescriptor (yX16_turns).desc).map (fun d => d.parameters.length) = some 1 := by decide +kernel
theorem yd_X17_turns : (yX17_turns).cls = RX17 ∧ (yX17_turns).cls ≠ "java/lang/invoke/MethodHandle" ∧ (yX17_turns).cls ≠ "java/lang/invoke/VarHandle" ∧ (parseMethodDescriptor (yX17_turns).desc).map (fun d => d.parameters.length) = some 1 := by decide +kernel
theorem yd_X21_turns : (yX21_turns).cls = RX21 ∧ (yX21_turns).cls ≠ "java/lang/invoke/MethodHandle" ∧ (yX21_turns).cls ≠ "java/lang/invoke/VarHandle" ∧ (parseMethodDescriptor (yX21_turns).desc).map (fun d => d.parameters.length) = some 1 := by decide +kernel
theorem yd_X14_tells : (yX14_tells).cls = RX14 ∧ (yX14_tells).cls ≠ "java/lang/invoke/MethodHandle" ∧ (yX14_tells).cls ≠ "java/lang/invoke/VarHandle" ∧ (parseMethodDescriptor (yX14_tells).desc).map (fun d => d.parameters.length) = some 1 := by decide +kernel
theorem yd_X19_tells : (yX19_tells).cls = RX19 ∧ (yX19_tells).cls ≠ "java/lang/invoke/MethodHandle" ∧ (yX19_tells).cls ≠ "java/lang/invoke/VarHandle" ∧ (parseMethodDescriptor (yX19_tells).desc).map (fun d => d.parameters.length) = some 1 := by decide +kernel
theorem yd_X21_tells : (yX21_tells).cls = RX21 ∧ (yX21_tells).cls ≠ "java/lang/invoke/MethodHandle" ∧ (yX21_tells).cls ≠ "java/lang/invoke/VarHandle" ∧ (parseMethodDescriptor (yX21_tells).desc).map (fun d => d.parameters.length) = some 1 := by decide +kernel
theorem yd_X14_kind : (yX14_kind).cls = RX14 ∧ (yX14_kind).cls ≠ "java/lang/invoke/MethodHandle" ∧ (yX14_kind).cls ≠ "java/lang/invoke/VarHandle" ∧ (parseMethodDescriptor (yX14_kind).desc).map (fun d => d.parameters.length) = some 0 := by decide +kernel
theorem yd_X15_kind : (yX15_kind).cls = RX15 ∧ (yX15_kind).cls ≠ "java/lang/invoke/MethodHandle" ∧ (yX15_kind).cls ≠ "java/lang/invoke/VarHandle" ∧ (parseMethodDescriptor (yX15_kind).desc).map (fun d => d.parameters.length) = some 0 := by decide +kernel
theorem yd_X16_kind : (yX16_kind).cls = RX16 ∧ (yX16_kind).cls ≠ "java/lang/invoke/MethodHandle" ∧ (yX16_kind).cls ≠ "java/lang/invoke/VarHandle" ∧ (parseMethodDescriptor (yX16_kind).desc).map (fun d => d.parameters.length) = some 0 := by decide +kernel
theorem yd_X17_kind : (yX17_kind).cls = RX17 ∧ (yX17_kind).cls ≠ "java/lang/invoke/MethodHandle" ∧ (yX17_kind).cls ≠ "java/lang/invoke/VarHandle" ∧ (parseMethodDescriptor (yX17_kind).desc).map (fun d => d.parameters.length) = some 0 := by decide +kernel
theorem yd_X18_kind : (yX18_kind).cls = RX18 ∧ (yX18_kind).cls ≠ "java/lang/invoke/MethodHandle" ∧ (yX18_kind).cls ≠ "java/lang/invoke/VarHandle" ∧ (parseMethodDescriptor (yX18_kind).desc).map (fun d => d.parameters.length) = some 0 := by decide +kernel
theorem yd_X19_kind : (yX19_kind).cls = RX19 ∧ (yX19_kind).cls ≠ "java/lang/invoke/MethodHandle" ∧ (yX19_kind).cls ≠ "java/lang/invoke/VarHandle" ∧ (parseMethodDescriptor (yX19_kind).desc).map (fun d => d.parameters.length) = some 0 := by decide +kernel
theorem yd_X20_kind : (yX20_kind).cls = RX20 ∧ (yX20_kind).cls ≠ "java/lang/invoke/MethodHandle" ∧ (yX20_kind).cls ≠ "java/lang/invoke/VarHandle" ∧ (parseMethodDescriptor (yX20_kind).desc).map (fun d => d.parameters.length) = some 0 := by decide +kernel
theorem yd_X21_kind : (yX21_kind).cls = RX21 ∧ (yX21_kind).cls ≠ "java/lang/invoke/MethodHandle" ∧ (yX21_kind).cls ≠ "java/lang/invoke/VarHandle" ∧ (parseMethodDescriptor (yX21_kind).desc).map (fun d => d.parameters.length) = some 0 := by decide +kernel
theorem yd_X14_isUnder : (yX14_isUnder).cls = RX14 ∧ (yX14_isUnder).cls ≠ "java/lang/invoke/MethodHandle" ∧ (yX14_isUnder).cls ≠ "java/lang/invoke/VarHandle" ∧ (parseMethodDescriptor (yX14_isUnder).desc).map (fun d => d.parameters.length) = some 1 := by decide +kernel
theorem yd_X15_isUnder : (yX15_isUnder).cls = RX15 ∧ (yX15_isUnder).cls ≠ "java/lang/invoke/MethodHandle" ∧ (yX15_isUnder).cls ≠ "java/lang/invoke/VarHandle" ∧ (parseMethodDescriptor (yX15_isUnder).desc).map (fun d => d.parameters.length) = some 1 := by decide +kernel
theorem yd_X16_isUnder : (yX16_isUnder).cls = RX16 ∧ (yX16_isUnder).cls ≠ "java/lang/invoke/MethodHandle" ∧ (yX16_isUnder).cls ≠ "java/lang/invoke/VarHandle" ∧ (parseMethodDescriptor (yX16_isUnder).desc).map (fun d => d.parameters.length) = some 1 := by decide +kernel
theorem yd_X17_isUnder : (yX17_isUnder).cls = RX17 ∧ (yX17_isUnder).cls ≠ "java/lang/invoke/MethodHandle" ∧ (yX17_isUnder).cls ≠ "java/lang/invoke/VarHandle" ∧ (parseMethodDescriptor (yX17_isUnder).desc).map (fun d => d.parameters.length) = some 1 := by decide +kernel
theorem yd_X18_isUnder : (yX18_isUnder).cls = RX18 ∧ (yX18_isUnder).cls ≠ "java/lang/invoke/MethodHandle" ∧ (yX18_isUnder).cls ≠ "java/lang/invoke/VarHandle" ∧ (parseMethodDescriptor (yX18_isUnder).desc).map (fun d => d.parameters.length) = some 1 := by decide +kernel
section XBWALK
variable {p : Program} {l : Launch} {e : Env} {R : Room} {s : State} {m : MethodId} {args : Array Value} {below : List Frame} {meth : Method} {c : Code} {A : Nat → Prop}
variable {L : xL} {g : xg}
def fX_Beat_countsIt (N : Nat) (σ : xS) (b0 : Nat) (a0 : Int32) : Option (xS × Int32) :=
  chl b0 (xk σ) <| chB 0 (xB σ b0) <|
  obi (fX_ran N σ 1) fun σ_3 r_4 =>
  chl b0 (xk σ_3) <| nmv (nI b0) fun x_6 =>
  some (σ_3, a0 + x_6)
theorem bX_Beat_countsIt_e {N : Nat} (C0 : xCx p l s m args meth c RX14 cX14_countsIt 2 (some .int) L A) (hRo : 1 ≤ R.frames ∧ 21 ≤ R.locals) {σ' : xS} {r : Int32} (σ : xS) (b0 : Nat) (a0 : Int32) (H : Heap) (locs : List Loc) (ls : Array Slot) (hG : xG A L g s σ H locs) (hl : lv_has ls 2 [(0, .ref (g.2.2.1 b0)), (1, .int a0)]) (hF : fX_Beat_countsIt N σ b0 a0 = some (σ', r)) : W p l e R s m args below meth c H locs 0 0 (xZ below L g A s args σ' (some (.int r)) 0 0) (F0 m 0 ls []) := by
  have hx := C0.1
  have hb := C0.2.1
  have hst := C0.2.2.2.2.2.2.2.2.2.2
  unfold fX_Beat_countsIt at hF
  refine lv_aload_n hx hb dX14_countsIt_0 rfl (lv_at hl 0 rfl) ?_
  obtain ⟨h_1, hF⟩ := chl_of hF
  obtain ⟨h_2, hF⟩ := chB_of hF
  refine x_bdthis (ci := 0) C0 hG (by decide) rfl q1116 dX14_countsIt_1 h_1 h_2 ?_
  refine lv_iconst (v := 1) hx hb dX14_countsIt_4 (by decide) ?_
  obtain ⟨σ_3, r_4, e_5, hF⟩ := obi_of hF
  refine x_cVN (As := [.int 1]) (rest := []) C0 hG (mtX_ran l hst e_5) q1228 q100 q1225 q1227 qs51 yd_X0_ran (x_rc0 C0 hG) ⟨by omega, by omega⟩ ⟨by omega, by omega⟩ rfl rfl hl.1 (Nat.le_of_ble_eq_true rfl) dX14_countsIt_5 (fun H locs hG => ?_)
  refine lv_iload_n hx hb dX14_countsIt_8 rfl (lv_at hl 1 rfl) ?_
  refine lv_aload_n hx hb dX14_countsIt_9 rfl (lv_at hl 0 rfl) ?_
  refine x_bdnum C0 hG q1115 dX14_countsIt_10 hF (fun x_6 hF => ?_)
  refine lv_iadd hx hb dX14_countsIt_13 ?_
  exact x_iret C0 hG ⟨by omega, by omega⟩ dX14_countsIt_14 hF
theorem mtX_Beat_countsIt (l : Launch) (hst : l.stackTraces = false) {N : Nat} {L : xL} {g : xg} {σ σ' : xS} {r : Int32} {b0 : Nat} {a0 : Int32} (hF : fX_Beat_countsIt N σ b0 a0 = some (σ', r)) : xMet l yX14_countsIt cX14_countsIt 2 (some .int) (1) (21) 0 0 [.ref (g.2.2.1 b0), .int a0] L g σ (some (.int r)) σ' := by
  refine x_head hst (by decide) rfl ?_
  intro p e s m below meth c A C0 hG
  have hl := lv_entry ([.ref (g.2.2.1 b0), .int a0]) (n := 2) (Nat.le_of_ble_eq_true rfl)
  rw [lg_entry_eq]
  generalize (lg_sl ([.ref (g.2.2.1 b0), .int a0]) ++ List.replicate (2 - (lg_sl ([.ref (g.2.2.1 b0), .int a0])).length) Slot.unset).toArray = ls at hl ⊢
  have hl : lv_has ls 2 [(0, .ref (g.2.2.1 b0)), (1, .int a0)] := hl
  exact bX_Beat_countsIt_e C0 ⟨Nat.le_refl _, Nat.le_refl _⟩ _ _ _ _ [] ls hG hl hF
def fX_Legs_countsIt (N : Nat) (σ : xS) (b0 : Nat) (a0 : Int32) : Option (xS × Int32) :=
  chl b0 (xk σ) <| chB 1 (xB σ b0) <|
  obi (fX_ran N σ 20) fun σ_3 r_4 =>
  chl b0 (xk σ_3) <| obi (fX_Beat_countsIt N σ_3 b0 a0) fun σ_6 r_7 =>
  some (σ_6, r_7 + 3)
theorem bX_Legs_countsIt_e {N : Nat} (C0 : xCx p l s m args meth c RX15 cX15_countsIt 2 (some .int) L A) (hRo : 2 ≤ R.frames ∧ 42 ≤ R.locals) {σ' : xS} {r : Int32} (σ : xS) (b0 : Nat) (a0 : Int32) (H : Heap) (locs : List Loc) (ls : Array Slot) (hG : xG A L g s σ H locs) (hl : lv_has ls 2 [(0, .ref (g.2.2.1 b0)), (1, .int a0)]) (hF : fX_Legs_countsIt N σ b0 a0 = some (σ', r)) : W p l e R s m args below meth c H locs 0 0 (xZ below L g A s args σ' (some (.int r)) 0 0) (F0 m 0 ls []) := by
  have hx := C0.1
  have hb := C0.2.1
  have hst := C0.2.2.2.2.2.2.2.2.2.2
  unfold fX_Legs_countsIt at hF
  refine lv_aload_n hx hb dX15_countsIt_0 rfl (lv_at hl 0 rfl) ?_
  obtain ⟨h_1, hF⟩ := chl_of hF
  obtain ⟨h_2, hF⟩ := chB_of hF
  refine x_bdthis (ci := 1) C0 hG (by decide) rfl q1114 dX15_countsIt_1 h_1 h_2 ?_
  refine lv_bipush (v := 20) hx hb dX15_countsIt_4 (by decide) ?_
  obtain ⟨σ_3, r_4, e_5, hF⟩ := obi_of hF
  refine x_cVN (As := [.int 20]) (rest := []) C0 hG (mtX_ran l hst e_5) q1228 q100 q1246 q1227 qs51 yd_X0_ran (x_rc0 C0 hG) ⟨by omega, by omega⟩ ⟨by omega, by omega⟩ rfl rfl hl.1 (Nat.le_of_ble_eq_true rfl) dX15_countsIt_6 (fun H locs hG => ?_)
  refine lv_aload_n hx hb dX15_countsIt_9 rfl (lv_at hl 0 rfl) ?_
  refine lv_iload_n hx hb dX15_countsIt_10 rfl (lv_at hl 1 rfl) ?_
  obtain ⟨h_9, hF⟩ := chl_of hF
  obtain ⟨σ_6, r_7, e_8, hF⟩ := obi_of hF
  refine x_cBS (As := [.int a0]) (rest := []) C0 hG h_9 (mtX_Beat_countsIt l hst e_8) (lw_SU q1247 q2139 q1123 q1222 q128 q1224) ⟨by decide, yd_X14_countsIt.2.2.2⟩ ⟨by omega, by omega⟩ ⟨by omega, by omega⟩ rfl rfl hl.1 (Nat.le_of_ble_eq_true rfl) dX15_countsIt_11 (fun H locs hG => ?_)
  refine lv_iconst (v := 3) hx hb dX15_countsIt_14 (by decide) ?_
  refine lv_iadd hx hb dX15_countsIt_15 ?_
  exact x_iret C0 hG ⟨by omega, by omega⟩ dX15_countsIt_16 hF
theorem mtX_Legs_countsIt (l : Launch) (hst : l.stackTraces = false) {N : Nat} {L : xL} {g : xg} {σ σ' : xS} {r : Int32} {b0 : Nat} {a0 : Int32} (hF : fX_Legs_countsIt N σ b0 a0 = some (σ', r)) : xMet l yX15_countsIt cX15_countsIt 2 (some .int) (2) (42) 0 0 [.ref (g.2.2.1 b0), .int a0] L g σ (some (.int r)) σ' := by
  refine x_head hst (by decide) rfl ?_
  intro p e s m below meth c A C0 hG
  have hl := lv_entry ([.ref (g.2.2.1 b0), .int a0]) (n := 2) (Nat.le_of_ble_eq_true rfl)
  rw [lg_entry_eq]
  generalize (lg_sl ([.ref (g.2.2.1 b0), .int a0]) ++ List.replicate (2 - (lg_sl ([.ref (g.2.2.1 b0), .int a0])).length) Slot.unset).toArray = ls at hl ⊢
  have hl : lv_has ls 2 [(0, .ref (g.2.2.1 b0)), (1, .int a0)] := hl
  exact bX_Legs_countsIt_e C0 ⟨Nat.le_refl _, Nat.le_refl _⟩ _ _ _ _ [] ls hG hl hF
def fX_Echo_countsIt (N : Nat) (σ : xS) (b0 : Nat) (a0 : Int32) : Option (xS × Int32) :=
  chl b0 (xk σ) <| chB 6 (xB σ b0) <|
  obi (fX_ran N σ 70) fun σ_3 r_4 =>
  chl b0 (xk σ_3) <| obi (fX_Beat_countsIt N σ_3 b0 a0) fun σ_6 r_7 =>
  some (σ_6, r_7 * 2)
theorem bX_Echo_countsIt_e {N : Nat} (C0 : xCx p l s m args meth c RX20 cX20_countsIt 2 (some .int) L A) (hRo : 2 ≤ R.frames ∧ 42 ≤ R.locals) {σ' : xS} {r : Int32} (σ : xS) (b0 : Nat) (a0 : Int32) (H : Heap) (locs : List Loc) (ls : Array Slot) (hG : xG A L g s σ H locs) (hl : lv_has ls 2 [(0, .ref (g.2.2.1 b0)), (1, .int a0)]) (hF : fX_Echo_countsIt N σ b0 a0 = some (σ', r)) : W p l e R s m args below meth c H locs 0 0 (xZ below L g A s args σ' (some (.int r)) 0 0) (F0 m 0 ls []) := by
  have hx := C0.1
  have hb := C0.2.1
  have hst := C0.2.2.2.2.2.2.2.2.2.2
  unfold fX_Echo_countsIt at hF
  refine lv_aload_n hx hb dX20_countsIt_0 rfl (lv_at hl 0 rfl) ?_
  obtain ⟨h_1, hF⟩ := chl_of hF
  obtain ⟨h_2, hF⟩ := chB_of hF
  refine x_bdthis (ci := 6) C0 hG (by decide) rfl q1182 dX20_countsIt_1 h_1 h_2 ?_
  refine lv_bipush (v := 70) hx hb dX20_countsIt_4 (by decide) ?_
  obtain ⟨σ_3, r_4, e_5, hF⟩ := obi_of hF
  refine x_cVN (As := [.int 70]) (rest := []) C0 hG (mtX_ran l hst e_5) q1228 q100 q1238 q1227 qs51 yd_X0_ran (x_rc0 C0 hG) ⟨by omega, by omega⟩ ⟨by omega, by omega⟩ rfl rfl hl.1 (Nat.le_of_ble_eq_true rfl) dX20_countsIt_6 (fun H locs hG => ?_)
  refine lv_aload_n hx hb dX20_countsIt_9 rfl (lv_at hl 0 rfl) ?_
  refine lv_iload_n hx hb dX20_countsIt_10 rfl (lv_at hl 1 rfl) ?_
  obtain ⟨h_9, hF⟩ := chl_of hF
  obtain ⟨σ_6, r_7, e_8, hF⟩ := obi_of hF
  refine x_cBS (As := [.int a0]) (rest := []) C0 hG h_9 (mtX_Beat_countsIt l hst e_8) (lw_SU q1239 q2139 q1187 q1222 q128 q1224) ⟨by decide, yd_X14_countsIt.2.2.2⟩ ⟨by omega, by omega⟩ ⟨by omega, by omega⟩ rfl rfl hl.1 (Nat.le_of_ble_eq_true rfl) dX20_countsIt_11 (fun H locs hG => ?_)
  refine lv_iconst (v := 2) hx hb dX20_countsIt_14 (by decide) ?_
  refine lv_imul hx hb dX20_countsIt_15 ?_
  exact x_iret C0 hG ⟨by omega, by omega⟩ dX20_countsIt_16 hF
theorem mtX_Echo_countsIt (l : Launch) (hst : l.stackTraces = false) {N : Nat} {L : xL} {g : xg} {σ σ' : xS} {r : Int32} {b0 : Nat} {a0 : Int32} (hF : fX_Echo_countsIt N σ b0 a0 = some (σ', r)) : xMet l yX20_countsIt cX20_countsIt 2 (some .int) (2) (42) 0 0 [.ref (g.2.2.1 b0), .int a0] L g σ (some (.int r)) σ' := by
  refine x_head hst (by decide) rfl ?_
  intro p e s m below meth c A C0 hG
  have hl := lv_entry ([.ref (g.2.2.1 b0), .int a0]) (n := 2) (Nat.le_of_ble_eq_true rfl)
  rw [lg_entry_eq]
  generalize (lg_sl ([.ref (g.2.2.1 b0), .int a0]) ++ List.replicate (2 - (lg_sl ([.ref (g.2.2.1 b0), .int a0])).length) Slot.unset).toArray = ls at hl ⊢
  have hl : lv_has ls 2 [(0, .ref (g.2.2.1 b0)), (1, .int a0)] := hl
  exact bX_Echo_countsIt_e C0 ⟨Nat.le_refl _, Nat.le_refl _⟩ _ _ _ _ [] ls hG hl hF
def fXd_countsIt (N : Nat) (kd : Nat) (σ : xS) (b : Nat) (x : Int32) : Option (xS × Int32) := match kd with
  | 0 => fX_Beat_countsIt N σ b x
  | 1 => fX_Legs_countsIt N σ b x
  | 2 => fX_Beat_countsIt N σ b x
  | 3 => fX_Beat_countsIt N σ b x
  | 4 => fX_Legs_countsIt N σ b x
  | 5 => fX_Beat_countsIt N σ b x
  | 6 => fX_Echo_countsIt N σ b x
  | _ => fX_Legs_countsIt N σ b x
def fXv_countsIt (N : Nat) (σ : xS) (b : Nat) (x : Int32) : Option (xS × Int32) := fXd_countsIt N (xB σ b) σ b x

def fX_Beat_sinks (N : Nat) (σ : xS) (b0 : Nat) (a0 : Int32) : Option (xS × Int32) :=
  chl b0 (xk σ) <| chB 0 (xB σ b0) <|
  obi (fX_ran N σ 11) fun σ_3 r_4 =>
  chl b0 (xk σ_3) <| nmv (nI b0) fun x_6 =>
  some (σ_3, a0 ^^^ x_6)
theorem bX_Beat_sinks_e {N : Nat} (C0 : xCx p l s m args meth c RX14 cX14_sinks 2 (some .int) L A) (hRo : 1 ≤ R.frames ∧ 21 ≤ R.locals) {σ' : xS} {r : Int32} (σ : xS) (b0 : Nat) (a0 : Int32) (H : Heap) (locs : List Loc) (ls : Array Slot) (hG : xG A L g s σ H locs) (hl : lv_has ls 2 [(0, .ref (g.2.2.1 b0)), (1, .int a0)]) (hF : fX_Beat_sinks N σ b0 a0 = some (σ', r)) : W p l e R s m args below meth c H locs 0 0 (xZ below L g A s args σ' (some (.int r)) 0 0) (F0 m 0 ls []) := by
  have hx := C0.1
  have hb := C0.2.1
  have hst := C0.2.2.2.2.2.2.2.2.2.2
  unfold fX_Beat_sinks at hF
  refine lv_aload_n hx hb dX14_sinks_0 rfl (lv_at hl 0 rfl) ?_
  obtain ⟨h_1, hF⟩ := chl_of hF
  obtain ⟨h_2, hF⟩ := chB_of hF
  refine x_bdthis (ci := 0) C0 hG (by decide) rfl q1116 dX14_sinks_1 h_1 h_2 ?_
  refine lv_bipush (v := 11) hx hb dX14_sinks_4 (by decide) ?_
  obtain ⟨σ_3, r_4, e_5, hF⟩ := obi_of hF
  refine x_cVN (As := [.int 11]) (rest := []) C0 hG (mtX_ran l hst e_5) q1228 q100 q1225 q1227 qs51 yd_X0_ran (x_rc0 C0 hG) ⟨by omega, by omega⟩ ⟨by omega, by omega⟩ rfl rfl hl.1 (Nat.le_of_ble_eq_true rfl) dX14_sinks_6 (fun H locs hG => ?_)
  refine lv_iload_n hx hb dX14_sinks_9 rfl (lv_at hl 1 rfl) ?_
  refine lv_aload_n hx hb dX14_sinks_10 rfl (lv_at hl 0 rfl) ?_
  refine x_bdnum C0 hG q1115 dX14_sinks_11 hF (fun x_6 hF => ?_)
  refine lv_ixor hx hb dX14_sinks_14 ?_
  exact x_iret C0 hG ⟨by omega, by omega⟩ dX14_sinks_15 hF
theorem mtX_Beat_sinks (l : Launch) (hst : l.stackTraces = false) {N : Nat} {L : xL} {g : xg} {σ σ' : xS} {r : Int32} {b0 : Nat} {a0 : Int32} (hF : fX_Beat_sinks N σ b0 a0 = some (σ', r)) : xMet l yX14_sinks cX14_sinks 2 (some .int) (1) (21) 0 0 [.ref (g.2.2.1 b0), .int a0] L g σ (some (.int r)) σ' := by
  refine x_head hst (by decide) rfl ?_
  intro p e s m below meth c A C0 hG
  have hl := lv_entry ([.ref (g.2.2.1 b0), .int a0]) (n := 2) (Nat.le_of_ble_eq_true rfl)
  rw [lg_entry_eq]
  generalize (lg_sl ([.ref (g.2.2.1 b0), .int a0]) ++ List.replicate (2 - (lg_sl ([.ref (g.2.2.1 b0), .int a0])).length) Slot.unset).toArray = ls at hl ⊢
  have hl : lv_has ls 2 [(0, .ref (g.2.2.1 b0)), (1, .int a0)] := hl
  exact bX_Beat_sinks_e C0 ⟨Nat.le_refl _, Nat.le_refl _⟩ _ _ _ _ [] ls hG hl hF
def fX_Smile_sinks (N : Nat) (σ : xS) (b0 : Nat) (a0 : Int32) : Option (xS × Int32) :=
  chl b0 (xk σ) <| chB 3 (xB σ b0) <|
  obi (fX_ran N σ 40) fun σ_3 r_4 =>
  chl b0 (xk σ_3) <| obi (fX_Beat_sinks N σ_3 b0 a0) fun σ_6 r_7 =>
  some (σ_6, r_7 * 3)
theorem bX_Smile_sinks_e {N : Nat} (C0 : xCx p l s m args meth c RX17 cX17_sinks 2 (some .int) L A) (hRo : 2 ≤ R.frames ∧ 42 ≤ R.locals) {σ' : xS} {r : Int32} (σ : xS) (b0 : Nat) (a0 : Int32) (H : Heap) (locs : List Loc) (ls : Array Slot) (hG : xG A L g s σ H locs) (hl : lv_has ls 2 [(0, .ref (g.2.2.1 b0)), (1, .int a0)]) (hF : fX_Smile_sinks N σ b0 a0 = some (σ', r)) : W p l e R s m args below meth c H locs 0 0 (xZ below L g A s args σ' (some (.int r)) 0 0) (F0 m 0 ls []) := by
  have hx := C0.1
  have hb := C0.2.1
  have hst := C0.2.2.2.2.2.2.2.2.2.2
  unfold fX_Smile_sinks at hF
  refine lv_aload_n hx hb dX17_sinks_0 rfl (lv_at hl 0 rfl) ?_
  obtain ⟨h_1, hF⟩ := chl_of hF
  obtain ⟨h_2, hF⟩ := chB_of hF
  refine x_bdthis (ci := 3) C0 hG (by decide) rfl q1142 dX17_sinks_1 h_1 h_2 ?_
  refine lv_bipush (v := 40) hx hb dX17_sinks_4 (by decide) ?_
  obtain ⟨σ_3, r_4, e_5, hF⟩ := obi_of hF
  refine x_cVN (As := [.int 40]) (rest := []) C0 hG (mtX_ran l hst e_5) q1228 q100 q1311 q1227 qs51 yd_X0_ran (x_rc0 C0 hG) ⟨by omega, by omega⟩ ⟨by omega, by omega⟩ rfl rfl hl.1 (Nat.le_of_ble_eq_true rfl) dX17_sinks_6 (fun H locs hG => ?_)
  refine lv_aload_n hx hb dX17_sinks_9 rfl (lv_at hl 0 rfl) ?_
  refine lv_iload_n hx hb dX17_sinks_10 rfl (lv_at hl 1 rfl) ?_
  obtain ⟨h_9, hF⟩ := chl_of hF
  obtain ⟨σ_6, r_7, e_8, hF⟩ := obi_of hF
  refine x_cBI (As := [.int a0]) (rest := []) (ci := 2) (x := ⟨"EightLegs$Breath", "sinks", "(I)I"⟩) C0 hG h_9 (mtX_Beat_sinks l hst e_8) q1317 q1318 q1148 (by decide) rfl rfl q2166 q1206 rfl (lw_meth q1300) q1299 q128 q1300 ⟨by decide, yd_X14_sinks.2.2.2⟩ ⟨by omega, by omega⟩ ⟨by omega, by omega⟩ rfl rfl hl.1 (Nat.le_of_ble_eq_true rfl) dX17_sinks_11 (fun H locs hG => ?_)
  refine lv_iconst (v := 3) hx hb dX17_sinks_14 (by decide) ?_
  refine lv_imul hx hb dX17_sinks_15 ?_
  exact x_iret C0 hG ⟨by omega, by omega⟩ dX17_sinks_16 hF
theorem mtX_Smile_sinks (l : Launch) (hst : l.stackTraces = false) {N : Nat} {L : xL} {g : xg} {σ σ' : xS} {r : Int32} {b0 : Nat} {a0 : Int32} (hF : fX_Smile_sinks N σ b0 a0 = some (σ', r)) : xMet l yX17_sinks cX17_sinks 2 (some .int) (2) (42) 0 0 [.ref (g.2.2.1 b0), .int a0] L g σ (some (.int r)) σ' := by
  refine x_head hst (by decide) rfl ?_
  intro p e s m below meth c A C0 hG
  have hl := lv_entry ([.ref (g.2.2.1 b0), .int a0]) (n := 2) (Nat.le_of_ble_eq_true rfl)
  rw [lg_entry_eq]
  generalize (lg_sl ([.ref (g.2.2.1 b0), .int a0]) ++ List.replicate (2 - (lg_sl ([.ref (g.2.2.1 b0), .int a0])).length) Slot.unset).toArray = ls at hl ⊢
  have hl : lv_has ls 2 [(0, .ref (g.2.2.1 b0)), (1, .int a0)] := hl
  exact bX_Smile_sinks_e C0 ⟨Nat.le_refl _, Nat.le_refl _⟩ _ _ _ _ [] ls hG hl hF

theorem site_X18_27 {p : Program} {l : Launch} {e : Env} {R : Room} {s : State} {m : MethodId} {args : Array Value} {below : List Frame} {meth : Method} {c : Code} {A : Nat → Prop} {L : xL} {g : xg} {N : Nat} {cc : ByteArray} {nL : Nat} {ret : Option FieldType} {pc : Nat} {ls : Array Slot} {rest : List Value} {σ σ1 : xS} {H : Heap} {locs : List Loc} {cells slots : Nat} {Q : State → Prop} {b : Nat} {x : Int32} {r : Int32} (C0 : xCx p l s m args meth c RX18 cc nL ret L A) (hst : l.stackTraces = false) (hG : xG A L g s σ H locs) (hb : b < xk σ) (hA0 : xbA 4 (xB σ b) ≠ 0) (e1 : fXv_countsIt N σ b x = some (σ1, r)) (hR : 3 ≤ R.frames ∧ 63 ≤ R.locals) (hRc : cells ≤ R.cells ∧ slots ≤ R.slots) (hsz : ls.size = nL) (hrm : (rest.map fun v => v.category).sum ≤ 8) (hdg : decode cc pc = .ok (.invokevirtual 27, 3))
    (kk : ∀ (H1 : Heap) (locs1 : List Loc), xG A L g s σ1 H1 locs1 → W p l e R s m args below meth c H1 locs1 cells slots Q (F0 m (pc + 3) ls (.int r :: rest))) : W p l e R s m args below meth c H locs cells slots Q (F0 m pc ls (.int x :: .ref (g.2.2.1 b) :: rest)) := by
  have h8 := (hG.bd hb).1
  have hrc := x_rcb C0 hG hb
  unfold fXv_countsIt at e1
  generalize xB σ b = kd at h8 hA0 hrc e1
  have h9 : kd = 0 ∨ kd = 1 ∨ kd = 2 ∨ kd = 3 ∨ kd = 4 ∨ kd = 5 ∨ kd = 6 ∨ kd = 7 := by omega
  rcases h9 with rfl | rfl | rfl | rfl | rfl | rfl | rfl | rfl
  · exact absurd rfl hA0
  · exact absurd rfl hA0
  · exact absurd rfl hA0
  · exact absurd rfl hA0
  · have e2 : fX_Legs_countsIt N σ b x = some (σ1, r) := e1
    exact x_cBV (C := RX18) (owner := RX15) (x := ⟨RX18, "countsIt", "(I)I"⟩) (As := [.int x]) (rest := rest) C0 hG (mtX_Legs_countsIt l hst e2) (lw_O q1301 q1302 q1243 q1305 q1243 q129 q1245) q1245 yd_X15_countsIt.2 hrc ⟨by omega, by omega⟩ hRc rfl rfl hsz hrm hdg kk
  · exact absurd rfl hA0
  · exact absurd rfl hA0
  · have e2 : fX_Legs_countsIt N σ b x = some (σ1, r) := e1
    exact x_cBV (C := RX21) (owner := RX15) (x := ⟨RX18, "countsIt", "(I)I"⟩) (As := [.int x]) (rest := rest) C0 hG (mtX_Legs_countsIt l hst e2) (lw_O q1301 q1302 q1243 q1304 q1243 q129 q1245) q1245 yd_X15_countsIt.2 hrc ⟨by omega, by omega⟩ hRc rfl rfl hsz hrm hdg kk
def fX_Lift_sinks (N : Nat) (σ : xS) (b0 : Nat) (a0 : Int32) : Option (xS × Int32) :=
  chl b0 (xk σ) <| chB 4 (xB σ b0) <|
  obi (fX_ran N σ 50) fun σ_3 r_4 =>
  chl b0 (xk σ_3) <| obi (fX_Beat_sinks N σ_3 b0 a0) fun σ_6 r_7 =>
  chl b0 (xk σ_6) <| chB 4 (xB σ_6 b0) <| obi (fXv_countsIt N σ_6 b0 2) fun σ_11 r_12 =>
  some (σ_11, r_7 - r_12)
theorem bX_Lift_sinks_e {N : Nat} (C0 : xCx p l s m args meth c RX18 cX18_sinks 3 (some .int) L A) (hRo : 3 ≤ R.frames ∧ 63 ≤ R.locals) {σ' : xS} {r : Int32} (σ : xS) (b0 : Nat) (a0 : Int32) (H : Heap) (locs : List Loc) (ls : Array Slot) (hG : xG A L g s σ H locs) (hl : lv_has ls 3 [(0, .ref (g.2.2.1 b0)), (1, .int a0)]) (hF : fX_Lift_sinks N σ b0 a0 = some (σ', r)) : W p l e R s m args below meth c H locs 0 0 (xZ below L g A s args σ' (some (.int r)) 0 0) (F0 m 0 ls []) := by
  have hx := C0.1
  have hb := C0.2.1
  have hst := C0.2.2.2.2.2.2.2.2.2.2
  unfold fX_Lift_sinks at hF
  refine lv_aload_n hx hb dX18_sinks_0 rfl (lv_at hl 0 rfl) ?_
  obtain ⟨h_1, hF⟩ := chl_of hF
  obtain ⟨h_2, hF⟩ := chB_of hF
  refine x_bdthis (ci := 4) C0 hG (by decide) rfl q1155 dX18_sinks_1 h_1 h_2 ?_
  refine lv_bipush (v := 50) hx hb dX18_sinks_4 (by decide) ?_
  obtain ⟨σ_3, r_4, e_5, hF⟩ := obi_of hF
  refine x_cVN (As := [.int 50]) (rest := []) C0 hG (mtX_ran l hst e_5) q1228 q100 q1295 q1227 qs51 yd_X0_ran (x_rc0 C0 hG) ⟨by omega, by omega⟩ ⟨by omega, by omega⟩ rfl rfl hl.1 (Nat.le_of_ble_eq_true rfl) dX18_sinks_6 (fun H locs hG => ?_)
  refine lv_aload_n hx hb dX18_sinks_9 rfl (lv_at hl 0 rfl) ?_
  refine lv_iload_n hx hb dX18_sinks_10 rfl (lv_at hl 1 rfl) ?_
  obtain ⟨h_9, hF⟩ := chl_of hF
  obtain ⟨σ_6, r_7, e_8, hF⟩ := obi_of hF
  refine x_cBI (As := [.int a0]) (rest := []) (ci := 1) (x := ⟨"EightLegs$Legs", "sinks", "(I)I"⟩) C0 hG h_9 (mtX_Beat_sinks l hst e_8) q1296 q1297 q1161 (by decide) rfl rfl q2169 q1206 rfl (lw_meth q1300) q1299 q128 q1300 ⟨by decide, yd_X14_sinks.2.2.2⟩ ⟨by omega, by omega⟩ ⟨by omega, by omega⟩ rfl rfl hl.1 (Nat.le_of_ble_eq_true rfl) dX18_sinks_11 (fun H locs hG => ?_)
  refine lv_istore_n (lv' := [(2, .int r_7), (0, .ref (g.2.2.1 b0)), (1, .int a0)]) hx hb dX18_sinks_14 rfl hl (by decide) rfl (fun ls hl => ?_)
  refine lv_iload_n hx hb dX18_sinks_15 rfl (lv_at hl 0 rfl) ?_
  refine lv_aload_n hx hb dX18_sinks_16 rfl (lv_at hl 1 rfl) ?_
  refine lv_iconst (v := 2) hx hb dX18_sinks_17 (by decide) ?_
  obtain ⟨h_14, hF⟩ := chl_of hF
  obtain ⟨h_15, hF⟩ := chB_of hF
  obtain ⟨σ_11, r_12, e_13, hF⟩ := obi_of hF
  refine site_X18_27 (rest := [.int r_7]) C0 hst hG h_14 h_15 e_13 ⟨by omega, by omega⟩ ⟨by omega, by omega⟩ hl.1 (Nat.le_of_ble_eq_true rfl) dX18_sinks_18 (fun H locs hG => ?_)
  refine lv_isub hx hb dX18_sinks_21 ?_
  exact x_iret C0 hG ⟨by omega, by omega⟩ dX18_sinks_22 hF
theorem mtX_Lift_sinks (l : Launch) (hst : l.stackTraces = false) {N : Nat} {L : xL} {g : xg} {σ σ' : xS} {r : Int32} {b0 : Nat} {a0 : Int32} (hF : fX_Lift_sinks N σ b0 a0 = some (σ', r)) : xMet l yX18_sinks cX18_sinks 3 (some .int) (3) (63) 0 0 [.ref (g.2.2.1 b0), .int a0] L g σ (some (.int r)) σ' := by
  refine x_head hst (by decide) rfl ?_
  intro p e s m below meth c A C0 hG
  have hl := lv_entry ([.ref (g.2.2.1 b0), .int a0]) (n := 3) (Nat.le_of_ble_eq_true rfl)
  rw [lg_entry_eq]
  generalize (lg_sl ([.ref (g.2.2.1 b0), .int a0]) ++ List.replicate (3 - (lg_sl ([.ref (g.2.2.1 b0), .int a0])).length) Slot.unset).toArray = ls at hl ⊢
  have hl : lv_has ls 3 [(0, .ref (g.2.2.1 b0)), (1, .int a0)] := hl
  exact bX_Lift_sinks_e C0 ⟨Nat.le_refl _, Nat.le_refl _⟩ _ _ _ _ [] ls hG hl hF
def fXd_sinks (N : Nat) (kd : Nat) (σ : xS) (b : Nat) (x : Int32) : Option (xS × Int32) := match kd with
  | 0 => fX_Beat_sinks N σ b x
  | 1 => fX_Beat_sinks N σ b x
  | 2 => fX_Beat_sinks N σ b x
  | 3 => fX_Smile_sinks N σ b x
  | 4 => fX_Lift_sinks N σ b x
  | 5 => fX_Smile_sinks N σ b x
  | 6 => fX_Beat_sinks N σ b x
  | _ => fX_Lift_sinks N σ b x
def fXv_sinks (N : Nat) (σ : xS) (b : Nat) (x : Int32) : Option (xS × Int32) := fXd_sinks N (xB σ b) σ b x


theorem site_X14_27 {p : Program} {l : Launch} {e : Env} {R : Room} {s : State} {m : MethodId} {args : Array Value} {below : List Frame} {meth : Method} {c : Code} {A : Nat → Prop} {L : xL} {g : xg} {N : Nat} {cc : ByteArray} {nL : Nat} {ret : Option FieldType} {pc : Nat} {ls : Array Slot} {rest : List Value} {σ σ1 : xS} {H : Heap} {locs : List Loc} {cells slots : Nat} {Q : State → Prop} {b : Nat} {x : Int32} {r : Int32} (C0 : xCx p l s m args meth c RX14 cc nL ret L A) (hst : l.stackTraces = false) (hG : xG A L g s σ H locs) (hb : b < xk σ) (hA0 : xbA 0 (xB σ b) ≠ 0) (e1 : fXv_countsIt N σ b x = some (σ1, r)) (hR : 3 ≤ R.frames ∧ 63 ≤ R.locals) (hRc : cells ≤ R.cells ∧ slots ≤ R.slots) (hsz : ls.size = nL) (hrm : (rest.map fun v => v.category).sum ≤ 8) (hdg : decode cc pc = .ok (.invokevirtual 27, 3))
    (kk : ∀ (H1 : Heap) (locs1 : List Loc), xG A L g s σ1 H1 locs1 → W p l e R s m args below meth c H1 locs1 cells slots Q (F0 m (pc + 3) ls (.int r :: rest))) : W p l e R s m args below meth c H locs cells slots Q (F0 m pc ls (.int x :: .ref (g.2.2.1 b) :: rest)) := by
  have h8 := (hG.bd hb).1
  have hrc := x_rcb C0 hG hb
  unfold fXv_countsIt at e1
  generalize xB σ b = kd at h8 hA0 hrc e1
  have h9 : kd = 0 ∨ kd = 1 ∨ kd = 2 ∨ kd = 3 ∨ kd = 4 ∨ kd = 5 ∨ kd = 6 ∨ kd = 7 := by omega
  rcases h9 with rfl | rfl | rfl | rfl | rfl | rfl | rfl | rfl
  · have e2 : fX_Beat_countsIt N σ b x = some (σ1, r) := e1
    exact x_cBV (C := RX14) (owner := RX14) (x := ⟨RX14, "countsIt", "(I)I"⟩) (As := [.int x]) (rest := rest) C0 hG (mtX_Beat_countsIt l hst e2) (lw_O q1280 q2139 q1222 q2140 q1222 q128 q1224) q1224 yd_X14_countsIt.2 hrc ⟨by omega, by omega⟩ hRc rfl rfl hsz hrm hdg kk
  · have e2 : fX_Legs_countsIt N σ b x = some (σ1, r) := e1
    exact x_cBV (C := RX15) (owner := RX14) (x := ⟨RX14, "countsIt", "(I)I"⟩) (As := [.int x]) (rest := rest) C0 hG (mtX_Legs_countsIt l hst e2) (lw_O q1280 q2139 q1222 q2144 q1243 q129 q1245) q1224 yd_X14_countsIt.2 hrc ⟨by omega, by omega⟩ hRc rfl rfl hsz hrm hdg kk
  · have e2 : fX_Beat_countsIt N σ b x = some (σ1, r) := e1
    exact x_cBV (C := RX16) (owner := RX14) (x := ⟨RX14, "countsIt", "(I)I"⟩) (As := [.int x]) (rest := rest) C0 hG (mtX_Beat_countsIt l hst e2) (lw_O q1280 q2139 q1222 q2141 q1222 q128 q1224) q1224 yd_X14_countsIt.2 hrc ⟨by omega, by omega⟩ hRc rfl rfl hsz hrm hdg kk
  · have e2 : fX_Beat_countsIt N σ b x = some (σ1, r) := e1
    exact x_cBV (C := RX17) (owner := RX14) (x := ⟨RX14, "countsIt", "(I)I"⟩) (As := [.int x]) (rest := rest) C0 hG (mtX_Beat_countsIt l hst e2) (lw_O q1280 q2139 q1222 q2146 q1222 q128 q1224) q1224 yd_X14_countsIt.2 hrc ⟨by omega, by omega⟩ hRc rfl rfl hsz hrm hdg kk
  · have e2 : fX_Legs_countsIt N σ b x = some (σ1, r) := e1
    exact x_cBV (C := RX18) (owner := RX14) (x := ⟨RX14, "countsIt", "(I)I"⟩) (As := [.int x]) (rest := rest) C0 hG (mtX_Legs_countsIt l hst e2) (lw_O q1280 q2139 q1222 q2145 q1243 q129 q1245) q1224 yd_X14_countsIt.2 hrc ⟨by omega, by omega⟩ hRc rfl rfl hsz hrm hdg kk
  · have e2 : fX_Beat_countsIt N σ b x = some (σ1, r) := e1
    exact x_cBV (C := RX19) (owner := RX14) (x := ⟨RX14, "countsIt", "(I)I"⟩) (As := [.int x]) (rest := rest) C0 hG (mtX_Beat_countsIt l hst e2) (lw_O q1280 q2139 q1222 q2147 q1222 q128 q1224) q1224 yd_X14_countsIt.2 hrc ⟨by omega, by omega⟩ hRc rfl rfl hsz hrm hdg kk
  · have e2 : fX_Echo_countsIt N σ b x = some (σ1, r) := e1
    exact x_cBV (C := RX20) (owner := RX14) (x := ⟨RX14, "countsIt", "(I)I"⟩) (As := [.int x]) (rest := rest) C0 hG (mtX_Echo_countsIt l hst e2) (lw_O q1280 q2139 q1222 q2142 q1235 q134 q1237) q1224 yd_X14_countsIt.2 hrc ⟨by omega, by omega⟩ hRc rfl rfl hsz hrm hdg kk
  · have e2 : fX_Legs_countsIt N σ b x = some (σ1, r) := e1
    exact x_cBV (C := RX21) (owner := RX14) (x := ⟨RX14, "countsIt", "(I)I"⟩) (As := [.int x]) (rest := rest) C0 hG (mtX_Legs_countsIt l hst e2) (lw_O q1280 q2139 q1222 q2143 q1243 q129 q1245) q1224 yd_X14_countsIt.2 hrc ⟨by omega, by omega⟩ hRc rfl rfl hsz hrm hdg kk
def fX_Beat_turns (N : Nat) (σ : xS) (b0 : Nat) (a0 : Int32) : Option (xS × Int32) :=
  chl b0 (xk σ) <| chB 0 (xB σ b0) <|
  obi (fX_ran N σ 10) fun σ_3 r_4 =>
  chl b0 (xk σ_3) <| chB 0 (xB σ_3 b0) <| obi (fXv_countsIt N σ_3 b0 a0) fun σ_6 r_7 =>
  some (σ_6, r_7 * 2)
theorem bX_Beat_turns_e {N : Nat} (C0 : xCx p l s m args meth c RX14 cX14_turns 2 (some .int) L A) (hRo : 3 ≤ R.frames ∧ 63 ≤ R.locals) {σ' : xS} {r : Int32} (σ : xS) (b0 : Nat) (a0 : Int32) (H : Heap) (locs : List Loc) (ls : Array Slot) (hG : xG A L g s σ H locs) (hl : lv_has ls 2 [(0, .ref (g.2.2.1 b0)), (1, .int a0)]) (hF : fX_Beat_turns N σ b0 a0 = some (σ', r)) : W p l e R s m args below meth c H locs 0 0 (xZ below L g A s args σ' (some (.int r)) 0 0) (F0 m 0 ls []) := by
  have hx := C0.1
  have hb := C0.2.1
  have hst := C0.2.2.2.2.2.2.2.2.2.2
  unfold fX_Beat_turns at hF
  refine lv_aload_n hx hb dX14_turns_0 rfl (lv_at hl 0 rfl) ?_
  obtain ⟨h_1, hF⟩ := chl_of hF
  obtain ⟨h_2, hF⟩ := chB_of hF
  refine x_bdthis (ci := 0) C0 hG (by decide) rfl q1116 dX14_turns_1 h_1 h_2 ?_
  refine lv_bipush (v := 10) hx hb dX14_turns_4 (by decide) ?_
  obtain ⟨σ_3, r_4, e_5, hF⟩ := obi_of hF
  refine x_cVN (As := [.int 10]) (rest := []) C0 hG (mtX_ran l hst e_5) q1228 q100 q1225 q1227 qs51 yd_X0_ran (x_rc0 C0 hG) ⟨by omega, by omega⟩ ⟨by omega, by omega⟩ rfl rfl hl.1 (Nat.le_of_ble_eq_true rfl) dX14_turns_6 (fun H locs hG => ?_)
  refine lv_aload_n hx hb dX14_turns_9 rfl (lv_at hl 0 rfl) ?_
  refine lv_iload_n hx hb dX14_turns_10 rfl (lv_at hl 1 rfl) ?_
  obtain ⟨h_9, hF⟩ := chl_of hF
  obtain ⟨h_10, hF⟩ := chB_of hF
  obtain ⟨σ_6, r_7, e_8, hF⟩ := obi_of hF
  refine site_X14_27 (rest := []) C0 hst hG h_9 h_10 e_8 ⟨by omega, by omega⟩ ⟨by omega, by omega⟩ hl.1 (Nat.le_of_ble_eq_true rfl) dX14_turns_11 (fun H locs hG => ?_)
  refine lv_iconst (v := 2) hx hb dX14_turns_14 (by decide) ?_
  refine lv_imul hx hb dX14_turns_15 ?_
  exact x_iret C0 hG ⟨by omega, by omega⟩ dX14_turns_16 hF
theorem mtX_Beat_turns (l : Launch) (hst : l.stackTraces = false) {N : Nat} {L : xL} {g : xg} {σ σ' : xS} {r : Int32} {b0 : Nat} {a0 : Int32} (hF : fX_Beat_turns N σ b0 a0 = some (σ', r)) : xMet l yX14_turns cX14_turns 2 (some .int) (3) (63) 0 0 [.ref (g.2.2.1 b0), .int a0] L g σ (some (.int r)) σ' := by
  refine x_head hst (by decide) rfl ?_
  intro p e s m below meth c A C0 hG
  have hl := lv_entry ([.ref (g.2.2.1 b0), .int a0]) (n := 2) (Nat.le_of_ble_eq_true rfl)
  rw [lg_entry_eq]
  generalize (lg_sl ([.ref (g.2.2.1 b0), .int a0]) ++ List.replicate (2 - (lg_sl ([.ref (g.2.2.1 b0), .int a0])).length) Slot.unset).toArray = ls at hl ⊢
  have hl : lv_has ls 2 [(0, .ref (g.2.2.1 b0)), (1, .int a0)] := hl
  exact bX_Beat_turns_e C0 ⟨Nat.le_refl _, Nat.le_refl _⟩ _ _ _ _ [] ls hG hl hF
def fX_Breath_turns (N : Nat) (σ : xS) (b0 : Nat) (a0 : Int32) : Option (xS × Int32) :=
  chl b0 (xk σ) <| chB 2 (xB σ b0) <|
  obi (fX_ran N σ 30) fun σ_3 r_4 =>
  chl b0 (xk σ_3) <| obi (fX_Beat_turns N σ_3 b0 a0) fun σ_6 r_7 =>
  some (σ_6, -r_7)
theorem bX_Breath_turns_e {N : Nat} (C0 : xCx p l s m args meth c RX16 cX16_turns 2 (some .int) L A) (hRo : 4 ≤ R.frames ∧ 84 ≤ R.locals) {σ' : xS} {r : Int32} (σ : xS) (b0 : Nat) (a0 : Int32) (H : Heap) (locs : List Loc) (ls : Array Slot) (hG : xG A L g s σ H locs) (hl : lv_has ls 2 [(0, .ref (g.2.2.1 b0)), (1, .int a0)]) (hF : fX_Breath_turns N σ b0 a0 = some (σ', r)) : W p l e R s m args below meth c H locs 0 0 (xZ below L g A s args σ' (some (.int r)) 0 0) (F0 m 0 ls []) := by
  have hx := C0.1
  have hb := C0.2.1
  have hst := C0.2.2.2.2.2.2.2.2.2.2
  unfold fX_Breath_turns at hF
  refine lv_aload_n hx hb dX16_turns_0 rfl (lv_at hl 0 rfl) ?_
  obtain ⟨h_1, hF⟩ := chl_of hF
  obtain ⟨h_2, hF⟩ := chB_of hF
  refine x_bdthis (ci := 2) C0 hG (by decide) rfl q1130 dX16_turns_1 h_1 h_2 ?_
  refine lv_bipush (v := 30) hx hb dX16_turns_4 (by decide) ?_
  obtain ⟨σ_3, r_4, e_5, hF⟩ := obi_of hF
  refine x_cVN (As := [.int 30]) (rest := []) C0 hG (mtX_ran l hst e_5) q1228 q100 q1277 q1227 qs51 yd_X0_ran (x_rc0 C0 hG) ⟨by omega, by omega⟩ ⟨by omega, by omega⟩ rfl rfl hl.1 (Nat.le_of_ble_eq_true rfl) dX16_turns_6 (fun H locs hG => ?_)
  refine lv_aload_n hx hb dX16_turns_9 rfl (lv_at hl 0 rfl) ?_
  refine lv_iload_n hx hb dX16_turns_10 rfl (lv_at hl 1 rfl) ?_
  obtain ⟨h_9, hF⟩ := chl_of hF
  obtain ⟨σ_6, r_7, e_8, hF⟩ := obi_of hF
  refine x_cBS (As := [.int a0]) (rest := []) C0 hG h_9 (mtX_Beat_turns l hst e_8) (lw_SU q1278 q1273 q1135 q1271 q128 q1279) ⟨by decide, yd_X14_turns.2.2.2⟩ ⟨by omega, by omega⟩ ⟨by omega, by omega⟩ rfl rfl hl.1 (Nat.le_of_ble_eq_true rfl) dX16_turns_11 (fun H locs hG => ?_)
  refine lv_ineg hx hb dX16_turns_14 ?_
  exact x_iret C0 hG ⟨by omega, by omega⟩ dX16_turns_15 hF
theorem mtX_Breath_turns (l : Launch) (hst : l.stackTraces = false) {N : Nat} {L : xL} {g : xg} {σ σ' : xS} {r : Int32} {b0 : Nat} {a0 : Int32} (hF : fX_Breath_turns N σ b0 a0 = some (σ', r)) : xMet l yX16_turns cX16_turns 2 (some .int) (4) (84) 0 0 [.ref (g.2.2.1 b0), .int a0] L g σ (some (.int r)) σ' := by
  refine x_head hst (by decide) rfl ?_
  intro p e s m below meth c A C0 hG
  have hl := lv_entry ([.ref (g.2.2.1 b0), .int a0]) (n := 2) (Nat.le_of_ble_eq_true rfl)
  rw [lg_entry_eq]
  generalize (lg_sl ([.ref (g.2.2.1 b0), .int a0]) ++ List.replicate (2 - (lg_sl ([.ref (g.2.2.1 b0), .int a0])).length) Slot.unset).toArray = ls at hl ⊢
  have hl : lv_has ls 2 [(0, .ref (g.2.2.1 b0)), (1, .int a0)] := hl
  exact bX_Breath_turns_e C0 ⟨Nat.le_refl _, Nat.le_refl _⟩ _ _ _ _ [] ls hG hl hF
def fX_Smile_turns (N : Nat) (σ : xS) (b0 : Nat) (a0 : Int32) : Option (xS × Int32) :=
  chl b0 (xk σ) <| chB 3 (xB σ b0) <|
  obi (fX_ran N σ 41) fun σ_3 r_4 =>
  chl b0 (xk σ_3) <| obi (fX_Breath_turns N σ_3 b0 (a0 + 1)) fun σ_6 r_7 =>
  some (σ_6, r_7)
theorem bX_Smile_turns_e {N : Nat} (C0 : xCx p l s m args meth c RX17 cX17_turns 2 (some .int) L A) (hRo : 5 ≤ R.frames ∧ 105 ≤ R.locals) {σ' : xS} {r : Int32} (σ : xS) (b0 : Nat) (a0 : Int32) (H : Heap) (locs : List Loc) (ls : Array Slot) (hG : xG A L g s σ H locs) (hl : lv_has ls 2 [(0, .ref (g.2.2.1 b0)), (1, .int a0)]) (hF : fX_Smile_turns N σ b0 a0 = some (σ', r)) : W p l e R s m args below meth c H locs 0 0 (xZ below L g A s args σ' (some (.int r)) 0 0) (F0 m 0 ls []) := by
  have hx := C0.1
  have hb := C0.2.1
  have hst := C0.2.2.2.2.2.2.2.2.2.2
  unfold fX_Smile_turns at hF
  refine lv_aload_n hx hb dX17_turns_0 rfl (lv_at hl 0 rfl) ?_
  obtain ⟨h_1, hF⟩ := chl_of hF
  obtain ⟨h_2, hF⟩ := chB_of hF
  refine x_bdthis (ci := 3) C0 hG (by decide) rfl q1142 dX17_turns_1 h_1 h_2 ?_
  refine lv_bipush (v := 41) hx hb dX17_turns_4 (by decide) ?_
  obtain ⟨σ_3, r_4, e_5, hF⟩ := obi_of hF
  refine x_cVN (As := [.int 41]) (rest := []) C0 hG (mtX_ran l hst e_5) q1228 q100 q1311 q1227 qs51 yd_X0_ran (x_rc0 C0 hG) ⟨by omega, by omega⟩ ⟨by omega, by omega⟩ rfl rfl hl.1 (Nat.le_of_ble_eq_true rfl) dX17_turns_6 (fun H locs hG => ?_)
  refine lv_aload_n hx hb dX17_turns_9 rfl (lv_at hl 0 rfl) ?_
  refine lv_iload_n hx hb dX17_turns_10 rfl (lv_at hl 1 rfl) ?_
  refine lv_iconst (v := 1) hx hb dX17_turns_11 (by decide) ?_
  refine lv_iadd hx hb dX17_turns_12 ?_
  obtain ⟨h_9, hF⟩ := chl_of hF
  obtain ⟨σ_6, r_7, e_8, hF⟩ := obi_of hF
  refine x_cBS (As := [.int (a0 + 1)]) (rest := []) C0 hG h_9 (mtX_Breath_turns l hst e_8) (lw_SU q1312 q2148 q1148 q1275 q130 q1276) ⟨by decide, yd_X16_turns.2.2.2⟩ ⟨by omega, by omega⟩ ⟨by omega, by omega⟩ rfl rfl hl.1 (Nat.le_of_ble_eq_true rfl) dX17_turns_13 (fun H locs hG => ?_)
  exact x_iret C0 hG ⟨by omega, by omega⟩ dX17_turns_16 hF
theorem mtX_Smile_turns (l : Launch) (hst : l.stackTraces = false) {N : Nat} {L : xL} {g : xg} {σ σ' : xS} {r : Int32} {b0 : Nat} {a0 : Int32} (hF : fX_Smile_turns N σ b0 a0 = some (σ', r)) : xMet l yX17_turns cX17_turns 2 (some .int) (5) (105) 0 0 [.ref (g.2.2.1 b0), .int a0] L g σ (some (.int r)) σ' := by
  refine x_head hst (by decide) rfl ?_
  intro p e s m below meth c A C0 hG
  have hl := lv_entry ([.ref (g.2.2.1 b0), .int a0]) (n := 2) (Nat.le_of_ble_eq_true rfl)
  rw [lg_entry_eq]
  generalize (lg_sl ([.ref (g.2.2.1 b0), .int a0]) ++ List.replicate (2 - (lg_sl ([.ref (g.2.2.1 b0), .int a0])).length) Slot.unset).toArray = ls at hl ⊢
  have hl : lv_has ls 2 [(0, .ref (g.2.2.1 b0)), (1, .int a0)] := hl
  exact bX_Smile_turns_e C0 ⟨Nat.le_refl _, Nat.le_refl _⟩ _ _ _ _ [] ls hG hl hF

theorem site_X21_23 {p : Program} {l : Launch} {e : Env} {R : Room} {s : State} {m : MethodId} {args : Array Value} {below : List Frame} {meth : Method} {c : Code} {A : Nat → Prop} {L : xL} {g : xg} {N : Nat} {cc : ByteArray} {nL : Nat} {ret : Option FieldType} {pc : Nat} {ls : Array Slot} {rest : List Value} {σ σ1 : xS} {H : Heap} {locs : List Loc} {cells slots : Nat} {Q : State → Prop} {b : Nat} {x : Int32} {r : Int32} (C0 : xCx p l s m args meth c RX21 cc nL ret L A) (hst : l.stackTraces = false) (hG : xG A L g s σ H locs) (hb : b < xk σ) (hA0 : xbA 7 (xB σ b) ≠ 0) (e1 : fXv_sinks N σ b x = some (σ1, r)) (hR : 4 ≤ R.frames ∧ 85 ≤ R.locals) (hRc : cells ≤ R.cells ∧ slots ≤ R.slots) (hsz : ls.size = nL) (hrm : (rest.map fun v => v.category).sum ≤ 8) (hdg : decode cc pc = .ok (.invokevirtual 23, 3))
    (kk : ∀ (H1 : Heap) (locs1 : List Loc), xG A L g s σ1 H1 locs1 → W p l e R s m args below meth c H1 locs1 cells slots Q (F0 m (pc + 3) ls (.int r :: rest))) : W p l e R s m args below meth c H locs cells slots Q (F0 m pc ls (.int x :: .ref (g.2.2.1 b) :: rest)) := by
  have h8 := (hG.bd hb).1
  have hrc := x_rcb C0 hG hb
  unfold fXv_sinks at e1
  generalize xB σ b = kd at h8 hA0 hrc e1
  have h9 : kd = 0 ∨ kd = 1 ∨ kd = 2 ∨ kd = 3 ∨ kd = 4 ∨ kd = 5 ∨ kd = 6 ∨ kd = 7 := by omega
  rcases h9 with rfl | rfl | rfl | rfl | rfl | rfl | rfl | rfl
  · exact absurd rfl hA0
  · exact absurd rfl hA0
  · exact absurd rfl hA0
  · exact absurd rfl hA0
  · exact absurd rfl hA0
  · exact absurd rfl hA0
  · exact absurd rfl hA0
  · have e2 : fX_Lift_sinks N σ b x = some (σ1, r) := e1
    exact x_cBV (C := RX21) (owner := RX18) (x := ⟨RX21, "sinks", "(I)I"⟩) (As := [.int x]) (rest := rest) C0 hG (mtX_Lift_sinks l hst e2) (lw_O q1289 q1290 q1293 q1292 q1293 q132 q1294) q1294 yd_X18_sinks.2 hrc ⟨by omega, by omega⟩ hRc rfl rfl hsz hrm hdg kk
def fX_Judge_turns (N : Nat) (σ : xS) (b0 : Nat) (a0 : Int32) : Option (xS × Int32) :=
  chl b0 (xk σ) <| chB 7 (xB σ b0) <|
  obi (fX_ran N σ 80) fun σ_3 r_4 =>
  chl b0 (xk σ_3) <| obi (fX_Beat_turns N σ_3 b0 a0) fun σ_6 r_7 =>
  chl b0 (xk σ_6) <| chB 7 (xB σ_6 b0) <| obi (fXv_sinks N σ_6 b0 2) fun σ_11 r_12 =>
  some (σ_11, r_7 + r_12)
theorem bX_Judge_turns_e {N : Nat} (C0 : xCx p l s m args meth c RX21 cX21_turns 3 (some .int) L A) (hRo : 4 ≤ R.frames ∧ 85 ≤ R.locals) {σ' : xS} {r : Int32} (σ : xS) (b0 : Nat) (a0 : Int32) (H : Heap) (locs : List Loc) (ls : Array Slot) (hG : xG A L g s σ H locs) (hl : lv_has ls 3 [(0, .ref (g.2.2.1 b0)), (1, .int a0)]) (hF : fX_Judge_turns N σ b0 a0 = some (σ', r)) : W p l e R s m args below meth c H locs 0 0 (xZ below L g A s args σ' (some (.int r)) 0 0) (F0 m 0 ls []) := by
  have hx := C0.1
  have hb := C0.2.1
  have hst := C0.2.2.2.2.2.2.2.2.2.2
  unfold fX_Judge_turns at hF
  refine lv_aload_n hx hb dX21_turns_0 rfl (lv_at hl 0 rfl) ?_
  obtain ⟨h_1, hF⟩ := chl_of hF
  obtain ⟨h_2, hF⟩ := chB_of hF
  refine x_bdthis (ci := 7) C0 hG (by decide) rfl q1194 dX21_turns_1 h_1 h_2 ?_
  refine lv_bipush (v := 80) hx hb dX21_turns_4 (by decide) ?_
  obtain ⟨σ_3, r_4, e_5, hF⟩ := obi_of hF
  refine x_cVN (As := [.int 80]) (rest := []) C0 hG (mtX_ran l hst e_5) q1228 q100 q1285 q1227 qs51 yd_X0_ran (x_rc0 C0 hG) ⟨by omega, by omega⟩ ⟨by omega, by omega⟩ rfl rfl hl.1 (Nat.le_of_ble_eq_true rfl) dX21_turns_6 (fun H locs hG => ?_)
  refine lv_aload_n hx hb dX21_turns_9 rfl (lv_at hl 0 rfl) ?_
  refine lv_iload_n hx hb dX21_turns_10 rfl (lv_at hl 1 rfl) ?_
  obtain ⟨h_9, hF⟩ := chl_of hF
  obtain ⟨σ_6, r_7, e_8, hF⟩ := obi_of hF
  refine x_cBI (As := [.int a0]) (rest := []) (ci := 4) (x := ⟨"EightLegs$Lift", "turns", "(I)I"⟩) C0 hG h_9 (mtX_Beat_turns l hst e_8) q1286 q1287 q1201 (by decide) rfl rfl q2170 q1206 rfl (lw_meth q1279) q1271 q128 q1279 ⟨by decide, yd_X14_turns.2.2.2⟩ ⟨by omega, by omega⟩ ⟨by omega, by omega⟩ rfl rfl hl.1 (Nat.le_of_ble_eq_true rfl) dX21_turns_11 (fun H locs hG => ?_)
  refine lv_istore_n (lv' := [(2, .int r_7), (0, .ref (g.2.2.1 b0)), (1, .int a0)]) hx hb dX21_turns_14 rfl hl (by decide) rfl (fun ls hl => ?_)
  refine lv_iload_n hx hb dX21_turns_15 rfl (lv_at hl 0 rfl) ?_
  refine lv_aload_n hx hb dX21_turns_16 rfl (lv_at hl 1 rfl) ?_
  refine lv_iconst (v := 2) hx hb dX21_turns_17 (by decide) ?_
  obtain ⟨h_14, hF⟩ := chl_of hF
  obtain ⟨h_15, hF⟩ := chB_of hF
  obtain ⟨σ_11, r_12, e_13, hF⟩ := obi_of hF
  refine site_X21_23 (rest := [.int r_7]) C0 hst hG h_14 h_15 e_13 ⟨by omega, by omega⟩ ⟨by omega, by omega⟩ hl.1 (Nat.le_of_ble_eq_true rfl) dX21_turns_18 (fun H locs hG => ?_)
  refine lv_iadd hx hb dX21_turns_21 ?_
  exact x_iret C0 hG ⟨by omega, by omega⟩ dX21_turns_22 hF
theorem mtX_Judge_turns (l : Launch) (hst : l.stackTraces = false) {N : Nat} {L : xL} {g : xg} {σ σ' : xS} {r : Int32} {b0 : Nat} {a0 : Int32} (hF : fX_Judge_turns N σ b0 a0 = some (σ', r)) : xMet l yX21_turns cX21_turns 3 (some .int) (4) (85) 0 0 [.ref (g.2.2.1 b0), .int a0] L g σ (some (.int r)) σ' := by
  refine x_head hst (by decide) rfl ?_
  intro p e s m below meth c A C0 hG
  have hl := lv_entry ([.ref (g.2.2.1 b0), .int a0]) (n := 3) (Nat.le_of_ble_eq_true rfl)
  rw [lg_entry_eq]
  generalize (lg_sl ([.ref (g.2.2.1 b0), .int a0]) ++ List.replicate (3 - (lg_sl ([.ref (g.2.2.1 b0), .int a0])).length) Slot.unset).toArray = ls at hl ⊢
  have hl : lv_has ls 3 [(0, .ref (g.2.2.1 b0)), (1, .int a0)] := hl
  exact bX_Judge_turns_e C0 ⟨Nat.le_refl _, Nat.le_refl _⟩ _ _ _ _ [] ls hG hl hF
def fXd_turns (N : Nat) (kd : Nat) (σ : xS) (b : Nat) (x : Int32) : Option (xS × Int32) := match kd with
  | 0 => fX_Beat_turns N σ b x
  | 1 => fX_Beat_turns N σ b x
  | 2 => fX_Breath_turns N σ b x
  | 3 => fX_Smile_turns N σ b x
  | 4 => fX_Beat_turns N σ b x
  | 5 => fX_Smile_turns N σ b x
  | 6 => fX_Beat_turns N σ b x
  | _ => fX_Judge_turns N σ b x
def fXv_turns (N : Nat) (σ : xS) (b : Nat) (x : Int32) : Option (xS × Int32) := fXd_turns N (xB σ b) σ b x


theorem site_X14_31 {p : Program} {l : Launch} {e : Env} {R : Room} {s : State} {m : MethodId} {args : Array Value} {below : List Frame} {meth : Method} {c : Code} {A : Nat → Prop} {L : xL} {g : xg} {N : Nat} {cc : ByteArray} {nL : Nat} {ret : Option FieldType} {pc : Nat} {ls : Array Slot} {rest : List Value} {σ σ1 : xS} {H : Heap} {locs : List Loc} {cells slots : Nat} {Q : State → Prop} {b : Nat} {x : Int32} {r : Int32} (C0 : xCx p l s m args meth c RX14 cc nL ret L A) (hst : l.stackTraces = false) (hG : xG A L g s σ H locs) (hb : b < xk σ) (hA0 : xbA 0 (xB σ b) ≠ 0) (e1 : fXv_turns N σ b x = some (σ1, r)) (hR : 6 ≤ R.frames ∧ 126 ≤ R.locals) (hRc : cells ≤ R.cells ∧ slots ≤ R.slots) (hsz : ls.size = nL) (hrm : (rest.map fun v => v.category).sum ≤ 8) (hdg : decode cc pc = .ok (.invokevirtual 31, 3))
    (kk : ∀ (H1 : Heap) (locs1 : List Loc), xG A L g s σ1 H1 locs1 → W p l e R s m args below meth c H1 locs1 cells slots Q (F0 m (pc + 3) ls (.int r :: rest))) : W p l e R s m args below meth c H locs cells slots Q (F0 m pc ls (.int x :: .ref (g.2.2.1 b) :: rest)) := by
  have h8 := (hG.bd hb).1
  have hrc := x_rcb C0 hG hb
  unfold fXv_turns at e1
  generalize xB σ b = kd at h8 hA0 hrc e1
  have h9 : kd = 0 ∨ kd = 1 ∨ kd = 2 ∨ kd = 3 ∨ kd = 4 ∨ kd = 5 ∨ kd = 6 ∨ kd = 7 := by omega
  rcases h9 with rfl | rfl | rfl | rfl | rfl | rfl | rfl | rfl
  · have e2 : fX_Beat_turns N σ b x = some (σ1, r) := e1
    exact x_cBV (C := RX14) (owner := RX14) (x := ⟨RX14, "turns", "(I)I"⟩) (As := [.int x]) (rest := rest) C0 hG (mtX_Beat_turns l hst e2) (lw_O q1270 q1273 q1271 q1272 q1271 q128 q1279) q1279 yd_X14_turns.2 hrc ⟨by omega, by omega⟩ hRc rfl rfl hsz hrm hdg kk
  · have e2 : fX_Beat_turns N σ b x = some (σ1, r) := e1
    exact x_cBV (C := RX15) (owner := RX14) (x := ⟨RX14, "turns", "(I)I"⟩) (As := [.int x]) (rest := rest) C0 hG (mtX_Beat_turns l hst e2) (lw_O q1270 q1273 q1271 q1306 q1271 q128 q1279) q1279 yd_X14_turns.2 hrc ⟨by omega, by omega⟩ hRc rfl rfl hsz hrm hdg kk
  · have e2 : fX_Breath_turns N σ b x = some (σ1, r) := e1
    exact x_cBV (C := RX16) (owner := RX14) (x := ⟨RX14, "turns", "(I)I"⟩) (As := [.int x]) (rest := rest) C0 hG (mtX_Breath_turns l hst e2) (lw_O q1270 q1273 q1271 q1274 q1275 q130 q1276) q1279 yd_X14_turns.2 hrc ⟨by omega, by omega⟩ hRc rfl rfl hsz hrm hdg kk
  · have e2 : fX_Smile_turns N σ b x = some (σ1, r) := e1
    exact x_cBV (C := RX17) (owner := RX14) (x := ⟨RX14, "turns", "(I)I"⟩) (As := [.int x]) (rest := rest) C0 hG (mtX_Smile_turns l hst e2) (lw_O q1270 q1273 q1271 q1308 q1309 q131 q1310) q1279 yd_X14_turns.2 hrc ⟨by omega, by omega⟩ hRc rfl rfl hsz hrm hdg kk
  · have e2 : fX_Beat_turns N σ b x = some (σ1, r) := e1
    exact x_cBV (C := RX18) (owner := RX14) (x := ⟨RX14, "turns", "(I)I"⟩) (As := [.int x]) (rest := rest) C0 hG (mtX_Beat_turns l hst e2) (lw_O q1270 q1273 q1271 q1307 q1271 q128 q1279) q1279 yd_X14_turns.2 hrc ⟨by omega, by omega⟩ hRc rfl rfl hsz hrm hdg kk
  · have e2 : fX_Smile_turns N σ b x = some (σ1, r) := e1
    exact x_cBV (C := RX19) (owner := RX14) (x := ⟨RX14, "turns", "(I)I"⟩) (As := [.int x]) (rest := rest) C0 hG (mtX_Smile_turns l hst e2) (lw_O q1270 q1273 q1271 q1313 q1309 q131 q1310) q1279 yd_X14_turns.2 hrc ⟨by omega, by omega⟩ hRc rfl rfl hsz hrm hdg kk
  · have e2 : fX_Beat_turns N σ b x = some (σ1, r) := e1
    exact x_cBV (C := RX20) (owner := RX14) (x := ⟨RX14, "turns", "(I)I"⟩) (As := [.int x]) (rest := rest) C0 hG (mtX_Beat_turns l hst e2) (lw_O q1270 q1273 q1271 q1281 q1271 q128 q1279) q1279 yd_X14_turns.2 hrc ⟨by omega, by omega⟩ hRc rfl rfl hsz hrm hdg kk
  · have e2 : fX_Judge_turns N σ b x = some (σ1, r) := e1
    exact x_cBV (C := RX21) (owner := RX14) (x := ⟨RX14, "turns", "(I)I"⟩) (As := [.int x]) (rest := rest) C0 hG (mtX_Judge_turns l hst e2) (lw_O q1270 q1273 q1271 q1282 q1283 q135 q1284) q1279 yd_X14_turns.2 hrc ⟨by omega, by omega⟩ hRc rfl rfl hsz hrm hdg kk

theorem site_X14_34 {p : Program} {l : Launch} {e : Env} {R : Room} {s : State} {m : MethodId} {args : Array Value} {below : List Frame} {meth : Method} {c : Code} {A : Nat → Prop} {L : xL} {g : xg} {N : Nat} {cc : ByteArray} {nL : Nat} {ret : Option FieldType} {pc : Nat} {ls : Array Slot} {rest : List Value} {σ σ1 : xS} {H : Heap} {locs : List Loc} {cells slots : Nat} {Q : State → Prop} {b : Nat} {x : Int32} {r : Int32} (C0 : xCx p l s m args meth c RX14 cc nL ret L A) (hst : l.stackTraces = false) (hG : xG A L g s σ H locs) (hb : b < xk σ) (hA0 : xbA 0 (xB σ b) ≠ 0) (e1 : fXv_sinks N σ b x = some (σ1, r)) (hR : 4 ≤ R.frames ∧ 85 ≤ R.locals) (hRc : cells ≤ R.cells ∧ slots ≤ R.slots) (hsz : ls.size = nL) (hrm : (rest.map fun v => v.category).sum ≤ 8) (hdg : decode cc pc = .ok (.invokevirtual 34, 3))
    (kk : ∀ (H1 : Heap) (locs1 : List Loc), xG A L g s σ1 H1 locs1 → W p l e R s m args below meth c H1 locs1 cells slots Q (F0 m (pc + 3) ls (.int r :: rest))) : W p l e R s m args below meth c H locs cells slots Q (F0 m pc ls (.int x :: .ref (g.2.2.1 b) :: rest)) := by
  have h8 := (hG.bd hb).1
  have hrc := x_rcb C0 hG hb
  unfold fXv_sinks at e1
  generalize xB σ b = kd at h8 hA0 hrc e1
  have h9 : kd = 0 ∨ kd = 1 ∨ kd = 2 ∨ kd = 3 ∨ kd = 4 ∨ kd = 5 ∨ kd = 6 ∨ kd = 7 := by omega
  rcases h9 with rfl | rfl | rfl | rfl | rfl | rfl | rfl | rfl
  · have e2 : fX_Beat_sinks N σ b x = some (σ1, r) := e1
    exact x_cBV (C := RX14) (owner := RX14) (x := ⟨RX14, "sinks", "(I)I"⟩) (As := [.int x]) (rest := rest) C0 hG (mtX_Beat_sinks l hst e2) (lw_O q1314 q2149 q1299 q2150 q1299 q128 q1300) q1300 yd_X14_sinks.2 hrc ⟨by omega, by omega⟩ hRc rfl rfl hsz hrm hdg kk
  · have e2 : fX_Beat_sinks N σ b x = some (σ1, r) := e1
    exact x_cBV (C := RX15) (owner := RX14) (x := ⟨RX14, "sinks", "(I)I"⟩) (As := [.int x]) (rest := rest) C0 hG (mtX_Beat_sinks l hst e2) (lw_O q1314 q2149 q1299 q2154 q1299 q128 q1300) q1300 yd_X14_sinks.2 hrc ⟨by omega, by omega⟩ hRc rfl rfl hsz hrm hdg kk
  · have e2 : fX_Beat_sinks N σ b x = some (σ1, r) := e1
    exact x_cBV (C := RX16) (owner := RX14) (x := ⟨RX14, "sinks", "(I)I"⟩) (As := [.int x]) (rest := rest) C0 hG (mtX_Beat_sinks l hst e2) (lw_O q1314 q2149 q1299 q2151 q1299 q128 q1300) q1300 yd_X14_sinks.2 hrc ⟨by omega, by omega⟩ hRc rfl rfl hsz hrm hdg kk
  · have e2 : fX_Smile_sinks N σ b x = some (σ1, r) := e1
    exact x_cBV (C := RX17) (owner := RX14) (x := ⟨RX14, "sinks", "(I)I"⟩) (As := [.int x]) (rest := rest) C0 hG (mtX_Smile_sinks l hst e2) (lw_O q1314 q2149 q1299 q2156 q1315 q131 q1316) q1300 yd_X14_sinks.2 hrc ⟨by omega, by omega⟩ hRc rfl rfl hsz hrm hdg kk
  · have e2 : fX_Lift_sinks N σ b x = some (σ1, r) := e1
    exact x_cBV (C := RX18) (owner := RX14) (x := ⟨RX14, "sinks", "(I)I"⟩) (As := [.int x]) (rest := rest) C0 hG (mtX_Lift_sinks l hst e2) (lw_O q1314 q2149 q1299 q2155 q1293 q132 q1294) q1300 yd_X14_sinks.2 hrc ⟨by omega, by omega⟩ hRc rfl rfl hsz hrm hdg kk
  · have e2 : fX_Smile_sinks N σ b x = some (σ1, r) := e1
    exact x_cBV (C := RX19) (owner := RX14) (x := ⟨RX14, "sinks", "(I)I"⟩) (As := [.int x]) (rest := rest) C0 hG (mtX_Smile_sinks l hst e2) (lw_O q1314 q2149 q1299 q2157 q1315 q131 q1316) q1300 yd_X14_sinks.2 hrc ⟨by omega, by omega⟩ hRc rfl rfl hsz hrm hdg kk
  · have e2 : fX_Beat_sinks N σ b x = some (σ1, r) := e1
    exact x_cBV (C := RX20) (owner := RX14) (x := ⟨RX14, "sinks", "(I)I"⟩) (As := [.int x]) (rest := rest) C0 hG (mtX_Beat_sinks l hst e2) (lw_O q1314 q2149 q1299 q2152 q1299 q128 q1300) q1300 yd_X14_sinks.2 hrc ⟨by omega, by omega⟩ hRc rfl rfl hsz hrm hdg kk
  · have e2 : fX_Lift_sinks N σ b x = some (σ1, r) := e1
    exact x_cBV (C := RX21) (owner := RX14) (x := ⟨RX14, "sinks", "(I)I"⟩) (As := [.int x]) (rest := rest) C0 hG (mtX_Lift_sinks l hst e2) (lw_O q1314 q2149 q1299 q2153 q1293 q132 q1294) q1300 yd_X14_sinks.2 hrc ⟨by omega, by omega⟩ hRc rfl rfl hsz hrm hdg kk
def fX_Beat_tells (N : Nat) (σ : xS) (b0 : Nat) (a0 : Int32) : Option (xS × Int32) :=
  chl b0 (xk σ) <| chB 0 (xB σ b0) <|
  obi (fX_ran N σ 2) fun σ_3 r_4 =>
  chl b0 (xk σ_3) <| chB 0 (xB σ_3 b0) <| obi (fXv_turns N σ_3 b0 a0) fun σ_6 r_7 =>
  chl b0 (xk σ_6) <| chB 0 (xB σ_6 b0) <| obi (fXv_sinks N σ_6 b0 1) fun σ_11 r_12 =>
  some (σ_11, r_7 - r_12)
theorem bX_Beat_tells_e {N : Nat} (C0 : xCx p l s m args meth c RX14 cX14_tells 3 (some .int) L A) (hRo : 6 ≤ R.frames ∧ 126 ≤ R.locals) {σ' : xS} {r : Int32} (σ : xS) (b0 : Nat) (a0 : Int32) (H : Heap) (locs : List Loc) (ls : Array Slot) (hG : xG A L g s σ H locs) (hl : lv_has ls 3 [(0, .ref (g.2.2.1 b0)), (1, .int a0)]) (hF : fX_Beat_tells N σ b0 a0 = some (σ', r)) : W p l e R s m args below meth c H locs 0 0 (xZ below L g A s args σ' (some (.int r)) 0 0) (F0 m 0 ls []) := by
  have hx := C0.1
  have hb := C0.2.1
  have hst := C0.2.2.2.2.2.2.2.2.2.2
  unfold fX_Beat_tells at hF
  refine lv_aload_n hx hb dX14_tells_0 rfl (lv_at hl 0 rfl) ?_
  obtain ⟨h_1, hF⟩ := chl_of hF
  obtain ⟨h_2, hF⟩ := chB_of hF
  refine x_bdthis (ci := 0) C0 hG (by decide) rfl q1116 dX14_tells_1 h_1 h_2 ?_
  refine lv_iconst (v := 2) hx hb dX14_tells_4 (by decide) ?_
  obtain ⟨σ_3, r_4, e_5, hF⟩ := obi_of hF
  refine x_cVN (As := [.int 2]) (rest := []) C0 hG (mtX_ran l hst e_5) q1228 q100 q1225 q1227 qs51 yd_X0_ran (x_rc0 C0 hG) ⟨by omega, by omega⟩ ⟨by omega, by omega⟩ rfl rfl hl.1 (Nat.le_of_ble_eq_true rfl) dX14_tells_5 (fun H locs hG => ?_)
  refine lv_aload_n hx hb dX14_tells_8 rfl (lv_at hl 0 rfl) ?_
  refine lv_iload_n hx hb dX14_tells_9 rfl (lv_at hl 1 rfl) ?_
  obtain ⟨h_9, hF⟩ := chl_of hF
  obtain ⟨h_10, hF⟩ := chB_of hF
  obtain ⟨σ_6, r_7, e_8, hF⟩ := obi_of hF
  refine site_X14_31 (rest := []) C0 hst hG h_9 h_10 e_8 ⟨by omega, by omega⟩ ⟨by omega, by omega⟩ hl.1 (Nat.le_of_ble_eq_true rfl) dX14_tells_10 (fun H locs hG => ?_)
  refine lv_istore_n (lv' := [(2, .int r_7), (0, .ref (g.2.2.1 b0)), (1, .int a0)]) hx hb dX14_tells_13 rfl hl (by decide) rfl (fun ls hl => ?_)
  refine lv_iload_n hx hb dX14_tells_14 rfl (lv_at hl 0 rfl) ?_
  refine lv_aload_n hx hb dX14_tells_15 rfl (lv_at hl 1 rfl) ?_
  refine lv_iconst (v := 1) hx hb dX14_tells_16 (by decide) ?_
  obtain ⟨h_14, hF⟩ := chl_of hF
  obtain ⟨h_15, hF⟩ := chB_of hF
  obtain ⟨σ_11, r_12, e_13, hF⟩ := obi_of hF
  refine site_X14_34 (rest := [.int r_7]) C0 hst hG h_14 h_15 e_13 ⟨by omega, by omega⟩ ⟨by omega, by omega⟩ hl.1 (Nat.le_of_ble_eq_true rfl) dX14_tells_17 (fun H locs hG => ?_)
  refine lv_isub hx hb dX14_tells_20 ?_
  exact x_iret C0 hG ⟨by omega, by omega⟩ dX14_tells_21 hF
theorem mtX_Beat_tells (l : Launch) (hst : l.stackTraces = false) {N : Nat} {L : xL} {g : xg} {σ σ' : xS} {r : Int32} {b0 : Nat} {a0 : Int32} (hF : fX_Beat_tells N σ b0 a0 = some (σ', r)) : xMet l yX14_tells cX14_tells 3 (some .int) (6) (126) 0 0 [.ref (g.2.2.1 b0), .int a0] L g σ (some (.int r)) σ' := by
  refine x_head hst (by decide) rfl ?_
  intro p e s m below meth c A C0 hG
  have hl := lv_entry ([.ref (g.2.2.1 b0), .int a0]) (n := 3) (Nat.le_of_ble_eq_true rfl)
  rw [lg_entry_eq]
  generalize (lg_sl ([.ref (g.2.2.1 b0), .int a0]) ++ List.replicate (3 - (lg_sl ([.ref (g.2.2.1 b0), .int a0])).length) Slot.unset).toArray = ls at hl ⊢
  have hl : lv_has ls 3 [(0, .ref (g.2.2.1 b0)), (1, .int a0)] := hl
  exact bX_Beat_tells_e C0 ⟨Nat.le_refl _, Nat.le_refl _⟩ _ _ _ _ [] ls hG hl hF
def fX_Star_tells (N : Nat) (σ : xS) (b0 : Nat) (a0 : Int32) : Option (xS × Int32) :=
  chl b0 (xk σ) <| chB 5 (xB σ b0) <|
  obi (fX_ran N σ 60) fun σ_3 r_4 =>
  chl b0 (xk σ_3) <| obi (fX_Beat_tells N σ_3 b0 a0) fun σ_6 r_7 =>
  some (σ_6, r_7 ^^^ 5)
theorem bX_Star_tells_e {N : Nat} (C0 : xCx p l s m args meth c RX19 cX19_tells 2 (some .int) L A) (hRo : 7 ≤ R.frames ∧ 148 ≤ R.locals) {σ' : xS} {r : Int32} (σ : xS) (b0 : Nat) (a0 : Int32) (H : Heap) (locs : List Loc) (ls : Array Slot) (hG : xG A L g s σ H locs) (hl : lv_has ls 2 [(0, .ref (g.2.2.1 b0)), (1, .int a0)]) (hF : fX_Star_tells N σ b0 a0 = some (σ', r)) : W p l e R s m args below meth c H locs 0 0 (xZ below L g A s args σ' (some (.int r)) 0 0) (F0 m 0 ls []) := by
  have hx := C0.1
  have hb := C0.2.1
  have hst := C0.2.2.2.2.2.2.2.2.2.2
  unfold fX_Star_tells at hF
  refine lv_aload_n hx hb dX19_tells_0 rfl (lv_at hl 0 rfl) ?_
  obtain ⟨h_1, hF⟩ := chl_of hF
  obtain ⟨h_2, hF⟩ := chB_of hF
  refine x_bdthis (ci := 5) C0 hG (by decide) rfl q1168 dX19_tells_1 h_1 h_2 ?_
  refine lv_bipush (v := 60) hx hb dX19_tells_4 (by decide) ?_
  obtain ⟨σ_3, r_4, e_5, hF⟩ := obi_of hF
  refine x_cVN (As := [.int 60]) (rest := []) C0 hG (mtX_ran l hst e_5) q1228 q100 q1349 q1227 qs51 yd_X0_ran (x_rc0 C0 hG) ⟨by omega, by omega⟩ ⟨by omega, by omega⟩ rfl rfl hl.1 (Nat.le_of_ble_eq_true rfl) dX19_tells_6 (fun H locs hG => ?_)
  refine lv_aload_n hx hb dX19_tells_9 rfl (lv_at hl 0 rfl) ?_
  refine lv_iload_n hx hb dX19_tells_10 rfl (lv_at hl 1 rfl) ?_
  obtain ⟨h_9, hF⟩ := chl_of hF
  obtain ⟨σ_6, r_7, e_8, hF⟩ := obi_of hF
  refine x_cBI (As := [.int a0]) (rest := []) (ci := 3) (x := ⟨"EightLegs$Smile", "tells", "(I)I"⟩) C0 hG h_9 (mtX_Beat_tells l hst e_8) q1350 q1351 q1175 (by decide) rfl rfl q2171 q1206 rfl (lw_meth q1269) q1267 q128 q1269 ⟨by decide, yd_X14_tells.2.2.2⟩ ⟨by omega, by omega⟩ ⟨by omega, by omega⟩ rfl rfl hl.1 (Nat.le_of_ble_eq_true rfl) dX19_tells_11 (fun H locs hG => ?_)
  refine lv_iconst (v := 5) hx hb dX19_tells_14 (by decide) ?_
  refine lv_ixor hx hb dX19_tells_15 ?_
  exact x_iret C0 hG ⟨by omega, by omega⟩ dX19_tells_16 hF
theorem mtX_Star_tells (l : Launch) (hst : l.stackTraces = false) {N : Nat} {L : xL} {g : xg} {σ σ' : xS} {r : Int32} {b0 : Nat} {a0 : Int32} (hF : fX_Star_tells N σ b0 a0 = some (σ', r)) : xMet l yX19_tells cX19_tells 2 (some .int) (7) (148) 0 0 [.ref (g.2.2.1 b0), .int a0] L g σ (some (.int r)) σ' := by
  refine x_head hst (by decide) rfl ?_
  intro p e s m below meth c A C0 hG
  have hl := lv_entry ([.ref (g.2.2.1 b0), .int a0]) (n := 2) (Nat.le_of_ble_eq_true rfl)
  rw [lg_entry_eq]
  generalize (lg_sl ([.ref (g.2.2.1 b0), .int a0]) ++ List.replicate (2 - (lg_sl ([.ref (g.2.2.1 b0), .int a0])).length) Slot.unset).toArray = ls at hl ⊢
  have hl : lv_has ls 2 [(0, .ref (g.2.2.1 b0)), (1, .int a0)] := hl
  exact bX_Star_tells_e C0 ⟨Nat.le_refl _, Nat.le_refl _⟩ _ _ _ _ [] ls hG hl hF
def fX_Judge_tells (N : Nat) (σ : xS) (b0 : Nat) (a0 : Int32) : Option (xS × Int32) :=
  chl b0 (xk σ) <| chB 7 (xB σ b0) <|
  obi (fX_ran N σ 81) fun σ_3 r_4 =>
  chl b0 (xk σ_3) <| obi (fX_Beat_tells N σ_3 b0 a0) fun σ_6 r_7 =>
  some (σ_6, r_7 - 1)
theorem bX_Judge_tells_e {N : Nat} (C0 : xCx p l s m args meth c RX21 cX21_tells 2 (some .int) L A) (hRo : 7 ≤ R.frames ∧ 148 ≤ R.locals) {σ' : xS} {r : Int32} (σ : xS) (b0 : Nat) (a0 : Int32) (H : Heap) (locs : List Loc) (ls : Array Slot) (hG : xG A L g s σ H locs) (hl : lv_has ls 2 [(0, .ref (g.2.2.1 b0)), (1, .int a0)]) (hF : fX_Judge_tells N σ b0 a0 = some (σ', r)) : W p l e R s m args below meth c H locs 0 0 (xZ below L g A s args σ' (some (.int r)) 0 0) (F0 m 0 ls []) := by
  have hx := C0.1
  have hb := C0.2.1
  have hst := C0.2.2.2.2.2.2.2.2.2.2
  unfold fX_Judge_tells at hF
  refine lv_aload_n hx hb dX21_tells_0 rfl (lv_at hl 0 rfl) ?_
  obtain ⟨h_1, hF⟩ := chl_of hF
  obtain ⟨h_2, hF⟩ := chB_of hF
  refine x_bdthis (ci := 7) C0 hG (by decide) rfl q1194 dX21_tells_1 h_1 h_2 ?_
  refine lv_bipush (v := 81) hx hb dX21_tells_4 (by decide) ?_
  obtain ⟨σ_3, r_4, e_5, hF⟩ := obi_of hF
  refine x_cVN (As := [.int 81]) (rest := []) C0 hG (mtX_ran l hst e_5) q1228 q100 q1285 q1227 qs51 yd_X0_ran (x_rc0 C0 hG) ⟨by omega, by omega⟩ ⟨by omega, by omega⟩ rfl rfl hl.1 (Nat.le_of_ble_eq_true rfl) dX21_tells_6 (fun H locs hG => ?_)
  refine lv_aload_n hx hb dX21_tells_9 rfl (lv_at hl 0 rfl) ?_
  refine lv_iload_n hx hb dX21_tells_10 rfl (lv_at hl 1 rfl) ?_
  obtain ⟨h_9, hF⟩ := chl_of hF
  obtain ⟨σ_6, r_7, e_8, hF⟩ := obi_of hF
  refine x_cBI (As := [.int a0]) (rest := []) (ci := 4) (x := ⟨"EightLegs$Lift", "tells", "(I)I"⟩) C0 hG h_9 (mtX_Beat_tells l hst e_8) q1331 q1332 q1201 (by decide) rfl rfl q2170 q1206 rfl (lw_meth q1269) q1267 q128 q1269 ⟨by decide, yd_X14_tells.2.2.2⟩ ⟨by omega, by omega⟩ ⟨by omega, by omega⟩ rfl rfl hl.1 (Nat.le_of_ble_eq_true rfl) dX21_tells_11 (fun H locs hG => ?_)
  refine lv_iconst (v := 1) hx hb dX21_tells_14 (by decide) ?_
  refine lv_isub hx hb dX21_tells_15 ?_
  exact x_iret C0 hG ⟨by omega, by omega⟩ dX21_tells_16 hF
theorem mtX_Judge_tells (l : Launch) (hst : l.stackTraces = false) {N : Nat} {L : xL} {g : xg} {σ σ' : xS} {r : Int32} {b0 : Nat} {a0 : Int32} (hF : fX_Judge_tells N σ b0 a0 = some (σ', r)) : xMet l yX21_tells cX21_tells 2 (some .int) (7) (148) 0 0 [.ref (g.2.2.1 b0), .int a0] L g σ (some (.int r)) σ' := by
  refine x_head hst (by decide) rfl ?_
  intro p e s m below meth c A C0 hG
  have hl := lv_entry ([.ref (g.2.2.1 b0), .int a0]) (n := 2) (Nat.le_of_ble_eq_true rfl)
  rw [lg_entry_eq]
  generalize (lg_sl ([.ref (g.2.2.1 b0), .int a0]) ++ List.replicate (2 - (lg_sl ([.ref (g.2.2.1 b0), .int a0])).length) Slot.unset).toArray = ls at hl ⊢
  have hl : lv_has ls 2 [(0, .ref (g.2.2.1 b0)), (1, .int a0)] := hl
  exact bX_Judge_tells_e C0 ⟨Nat.le_refl _, Nat.le_refl _⟩ _ _ _ _ [] ls hG hl hF
def fXd_tells (N : Nat) (kd : Nat) (σ : xS) (b : Nat) (x : Int32) : Option (xS × Int32) := match kd with
  | 0 => fX_Beat_tells N σ b x
  | 1 => fX_Beat_tells N σ b x
  | 2 => fX_Beat_tells N σ b x
  | 3 => fX_Beat_tells N σ b x
  | 4 => fX_Beat_tells N σ b x
  | 5 => fX_Star_tells N σ b x
  | 6 => fX_Beat_tells N σ b x
  | _ => fX_Judge_tells N σ b x
def fXv_tells (N : Nat) (σ : xS) (b : Nat) (x : Int32) : Option (xS × Int32) := fXd_tells N (xB σ b) σ b x

def fX_Beat_kind (N : Nat) (σ : xS) (b0 : Nat) : Option (xS × Int32) :=
  some (σ, 0)
theorem bX_Beat_kind_e {N : Nat} (C0 : xCx p l s m args meth c RX14 cX14_kind 1 (some .int) L A) (hRo : 0 ≤ R.frames ∧ 0 ≤ R.locals) {σ' : xS} {r : Int32} (σ : xS) (b0 : Nat) (H : Heap) (locs : List Loc) (ls : Array Slot) (hG : xG A L g s σ H locs) (hl : lv_has ls 1 [(0, .ref (g.2.2.1 b0))]) (hF : fX_Beat_kind N σ b0 = some (σ', r)) : W p l e R s m args below meth c H locs 0 0 (xZ below L g A s args σ' (some (.int r)) 0 0) (F0 m 0 ls []) := by
  have hx := C0.1
  have hb := C0.2.1
  have hst := C0.2.2.2.2.2.2.2.2.2.2
  unfold fX_Beat_kind at hF
  refine lv_iconst (v := 0) hx hb dX14_kind_0 (by decide) ?_
  exact x_iret C0 hG ⟨by omega, by omega⟩ dX14_kind_1 hF
theorem mtX_Beat_kind (l : Launch) (hst : l.stackTraces = false) {N : Nat} {L : xL} {g : xg} {σ σ' : xS} {r : Int32} {b0 : Nat} (hF : fX_Beat_kind N σ b0 = some (σ', r)) : xMet l yX14_kind cX14_kind 1 (some .int) (0) (0) 0 0 [.ref (g.2.2.1 b0)] L g σ (some (.int r)) σ' := by
  refine x_head hst (by decide) rfl ?_
  intro p e s m below meth c A C0 hG
  have hl := lv_entry ([.ref (g.2.2.1 b0)]) (n := 1) (Nat.le_of_ble_eq_true rfl)
  rw [lg_entry_eq]
  generalize (lg_sl ([.ref (g.2.2.1 b0)]) ++ List.replicate (1 - (lg_sl ([.ref (g.2.2.1 b0)])).length) Slot.unset).toArray = ls at hl ⊢
  have hl : lv_has ls 1 [(0, .ref (g.2.2.1 b0))] := hl
  exact bX_Beat_kind_e C0 ⟨Nat.le_refl _, Nat.le_refl _⟩ _ _ _ [] ls hG hl hF
def fX_Legs_kind (N : Nat) (σ : xS) (b0 : Nat) : Option (xS × Int32) :=
  some (σ, 1)
theorem bX_Legs_kind_e {N : Nat} (C0 : xCx p l s m args meth c RX15 cX15_kind 1 (some .int) L A) (hRo : 0 ≤ R.frames ∧ 0 ≤ R.locals) {σ' : xS} {r : Int32} (σ : xS) (b0 : Nat) (H : Heap) (locs : List Loc) (ls : Array Slot) (hG : xG A L g s σ H locs) (hl : lv_has ls 1 [(0, .ref (g.2.2.1 b0))]) (hF : fX_Legs_kind N σ b0 = some (σ', r)) : W p l e R s m args below meth c H locs 0 0 (xZ below L g A s args σ' (some (.int r)) 0 0) (F0 m 0 ls []) := by
  have hx := C0.1
  have hb := C0.2.1
  have hst := C0.2.2.2.2.2.2.2.2.2.2
  unfold fX_Legs_kind at hF
  refine lv_iconst (v := 1) hx hb dX15_kind_0 (by decide) ?_
  exact x_iret C0 hG ⟨by omega, by omega⟩ dX15_kind_1 hF
theorem mtX_Legs_kind (l : Launch) (hst : l.stackTraces = false) {N : Nat} {L : xL} {g : xg} {σ σ' : xS} {r : Int32} {b0 : Nat} (hF : fX_Legs_kind N σ b0 = some (σ', r)) : xMet l yX15_kind cX15_kind 1 (some .int) (0) (0) 0 0 [.ref (g.2.2.1 b0)] L g σ (some (.int r)) σ' := by
  refine x_head hst (by decide) rfl ?_
  intro p e s m below meth c A C0 hG
  have hl := lv_entry ([.ref (g.2.2.1 b0)]) (n := 1) (Nat.le_of_ble_eq_true rfl)
  rw [lg_entry_eq]
  generalize (lg_sl ([.ref (g.2.2.1 b0)]) ++ List.replicate (1 - (lg_sl ([.ref (g.2.2.1 b0)])).length) Slot.unset).toArray = ls at hl ⊢
  have hl : lv_has ls 1 [(0, .ref (g.2.2.1 b0))] := hl
  exact bX_Legs_kind_e C0 ⟨Nat.le_refl _, Nat.le_refl _⟩ _ _ _ [] ls hG hl hF
def fX_Breath_kind (N : Nat) (σ : xS) (b0 : Nat) : Option (xS × Int32) :=
  some (σ, 2)
theorem bX_Breath_kind_e {N : Nat} (C0 : xCx p l s m args meth c RX16 cX16_kind 1 (some .int) L A) (hRo : 0 ≤ R.frames ∧ 0 ≤ R.locals) {σ' : xS} {r : Int32} (σ : xS) (b0 : Nat) (H : Heap) (locs : List Loc) (ls : Array Slot) (hG : xG A L g s σ H locs) (hl : lv_has ls 1 [(0, .ref (g.2.2.1 b0))]) (hF : fX_Breath_kind N σ b0 = some (σ', r)) : W p l e R s m args below meth c H locs 0 0 (xZ below L g A s args σ' (some (.int r)) 0 0) (F0 m 0 ls []) := by
  have hx := C0.1
  have hb := C0.2.1
  have hst := C0.2.2.2.2.2.2.2.2.2.2
  unfold fX_Breath_kind at hF
  refine lv_iconst (v := 2) hx hb dX16_kind_0 (by decide) ?_
  exact x_iret C0 hG ⟨by omega, by omega⟩ dX16_kind_1 hF
theorem mtX_Breath_kind (l : Launch) (hst : l.stackTraces = false) {N : Nat} {L : xL} {g : xg} {σ σ' : xS} {r : Int32} {b0 : Nat} (hF : fX_Breath_kind N σ b0 = some (σ', r)) : xMet l yX16_kind cX16_kind 1 (some .int) (0) (0) 0 0 [.ref (g.2.2.1 b0)] L g σ (some (.int r)) σ' := by
  refine x_head hst (by decide) rfl ?_
  intro p e s m below meth c A C0 hG
  have hl := lv_entry ([.ref (g.2.2.1 b0)]) (n := 1) (Nat.le_of_ble_eq_true rfl)
  rw [lg_entry_eq]
  generalize (lg_sl ([.ref (g.2.2.1 b0)]) ++ List.replicate (1 - (lg_sl ([.ref (g.2.2.1 b0)])).length) Slot.unset).toArray = ls at hl ⊢
  have hl : lv_has ls 1 [(0, .ref (g.2.2.1 b0))] := hl
  exact bX_Breath_kind_e C0 ⟨Nat.le_refl _, Nat.le_refl _⟩ _ _ _ [] ls hG hl hF
def fX_Smile_kind (N : Nat) (σ : xS) (b0 : Nat) : Option (xS × Int32) :=
  some (σ, 3)
theorem bX_Smile_kind_e {N : Nat} (C0 : xCx p l s m args meth c RX17 cX17_kind 1 (some .int) L A) (hRo : 0 ≤ R.frames ∧ 0 ≤ R.locals) {σ' : xS} {r : Int32} (σ : xS) (b0 : Nat) (H : Heap) (locs : List Loc) (ls : Array Slot) (hG : xG A L g s σ H locs) (hl : lv_has ls 1 [(0, .ref (g.2.2.1 b0))]) (hF : fX_Smile_kind N σ b0 = some (σ', r)) : W p l e R s m args below meth c H locs 0 0 (xZ below L g A s args σ' (some (.int r)) 0 0) (F0 m 0 ls []) := by
  have hx := C0.1
  have hb := C0.2.1
  have hst := C0.2.2.2.2.2.2.2.2.2.2
  unfold fX_Smile_kind at hF
  refine lv_iconst (v := 3) hx hb dX17_kind_0 (by decide) ?_
  exact x_iret C0 hG ⟨by omega, by omega⟩ dX17_kind_1 hF
theorem mtX_Smile_kind (l : Launch) (hst : l.stackTraces = false) {N : Nat} {L : xL} {g : xg} {σ σ' : xS} {r : Int32} {b0 : Nat} (hF : fX_Smile_kind N σ b0 = some (σ', r)) : xMet l yX17_kind cX17_kind 1 (some .int) (0) (0) 0 0 [.ref (g.2.2.1 b0)] L g σ (some (.int r)) σ' := by
  refine x_head hst (by decide) rfl ?_
  intro p e s m below meth c A C0 hG
  have hl := lv_entry ([.ref (g.2.2.1 b0)]) (n := 1) (Nat.le_of_ble_eq_true rfl)
  rw [lg_entry_eq]
  generalize (lg_sl ([.ref (g.2.2.1 b0)]) ++ List.replicate (1 - (lg_sl ([.ref (g.2.2.1 b0)])).length) Slot.unset).toArray = ls at hl ⊢
  have hl : lv_has ls 1 [(0, .ref (g.2.2.1 b0))] := hl
  exact bX_Smile_kind_e C0 ⟨Nat.le_refl _, Nat.le_refl _⟩ _ _ _ [] ls hG hl hF
def fX_Lift_kind (N : Nat) (σ : xS) (b0 : Nat) : Option (xS × Int32) :=
  some (σ, 4)
theorem bX_Lift_kind_e {N : Nat} (C0 : xCx p l s m args meth c RX18 cX18_kind 1 (some .int) L A) (hRo : 0 ≤ R.frames ∧ 0 ≤ R.locals) {σ' : xS} {r : Int32} (σ : xS) (b0 : Nat) (H : Heap) (locs : List Loc) (ls : Array Slot) (hG : xG A L g s σ H locs) (hl : lv_has ls 1 [(0, .ref (g.2.2.1 b0))]) (hF : fX_Lift_kind N σ b0 = some (σ', r)) : W p l e R s m args below meth c H locs 0 0 (xZ below L g A s args σ' (some (.int r)) 0 0) (F0 m 0 ls []) := by
  have hx := C0.1
  have hb := C0.2.1
  have hst := C0.2.2.2.2.2.2.2.2.2.2
  unfold fX_Lift_kind at hF
  refine lv_iconst (v := 4) hx hb dX18_kind_0 (by decide) ?_
  exact x_iret C0 hG ⟨by omega, by omega⟩ dX18_kind_1 hF
theorem mtX_Lift_kind (l : Launch) (hst : l.stackTraces = false) {N : Nat} {L : xL} {g : xg} {σ σ' : xS} {r : Int32} {b0 : Nat} (hF : fX_Lift_kind N σ b0 = some (σ', r)) : xMet l yX18_kind cX18_kind 1 (some .int) (0) (0) 0 0 [.ref (g.2.2.1 b0)] L g σ (some (.int r)) σ' := by
  refine x_head hst (by decide) rfl ?_
  intro p e s m below meth c A C0 hG
  have hl := lv_entry ([.ref (g.2.2.1 b0)]) (n := 1) (Nat.le_of_ble_eq_true rfl)
  rw [lg_entry_eq]
  generalize (lg_sl ([.ref (g.2.2.1 b0)]) ++ List.replicate (1 - (lg_sl ([.ref (g.2.2.1 b0)])).length) Slot.unset).toArray = ls at hl ⊢
  have hl : lv_has ls 1 [(0, .ref (g.2.2.1 b0))] := hl
  exact bX_Lift_kind_e C0 ⟨Nat.le_refl _, Nat.le_refl _⟩ _ _ _ [] ls hG hl hF
def fX_Star_kind (N : Nat) (σ : xS) (b0 : Nat) : Option (xS × Int32) :=
  some (σ, 5)
theorem bX_Star_kind_e {N : Nat} (C0 : xCx p l s m args meth c RX19 cX19_kind 1 (some .int) L A) (hRo : 0 ≤ R.frames ∧ 0 ≤ R.locals) {σ' : xS} {r : Int32} (σ : xS) (b0 : Nat) (H : Heap) (locs : List Loc) (ls : Array Slot) (hG : xG A L g s σ H locs) (hl : lv_has ls 1 [(0, .ref (g.2.2.1 b0))]) (hF : fX_Star_kind N σ b0 = some (σ', r)) : W p l e R s m args below meth c H locs 0 0 (xZ below L g A s args σ' (some (.int r)) 0 0) (F0 m 0 ls []) := by
  have hx := C0.1
  have hb := C0.2.1
  have hst := C0.2.2.2.2.2.2.2.2.2.2
  unfold fX_Star_kind at hF
  refine lv_iconst (v := 5) hx hb dX19_kind_0 (by decide) ?_
  exact x_iret C0 hG ⟨by omega, by omega⟩ dX19_kind_1 hF
theorem mtX_Star_kind (l : Launch) (hst : l.stackTraces = false) {N : Nat} {L : xL} {g : xg} {σ σ' : xS} {r : Int32} {b0 : Nat} (hF : fX_Star_kind N σ b0 = some (σ', r)) : xMet l yX19_kind cX19_kind 1 (some .int) (0) (0) 0 0 [.ref (g.2.2.1 b0)] L g σ (some (.int r)) σ' := by
  refine x_head hst (by decide) rfl ?_
  intro p e s m below meth c A C0 hG
  have hl := lv_entry ([.ref (g.2.2.1 b0)]) (n := 1) (Nat.le_of_ble_eq_true rfl)
  rw [lg_entry_eq]
  generalize (lg_sl ([.ref (g.2.2.1 b0)]) ++ List.replicate (1 - (lg_sl ([.ref (g.2.2.1 b0)])).length) Slot.unset).toArray = ls at hl ⊢
  have hl : lv_has ls 1 [(0, .ref (g.2.2.1 b0))] := hl
  exact bX_Star_kind_e C0 ⟨Nat.le_refl _, Nat.le_refl _⟩ _ _ _ [] ls hG hl hF
def fX_Echo_kind (N : Nat) (σ : xS) (b0 : Nat) : Option (xS × Int32) :=
  some (σ, 6)
theorem bX_Echo_kind_e {N : Nat} (C0 : xCx p l s m args meth c RX20 cX20_kind 1 (some .int) L A) (hRo : 0 ≤ R.frames ∧ 0 ≤ R.locals) {σ' : xS} {r : Int32} (σ : xS) (b0 : Nat) (H : Heap) (locs : List Loc) (ls : Array Slot) (hG : xG A L g s σ H locs) (hl : lv_has ls 1 [(0, .ref (g.2.2.1 b0))]) (hF : fX_Echo_kind N σ b0 = some (σ', r)) : W p l e R s m args below meth c H locs 0 0 (xZ below L g A s args σ' (some (.int r)) 0 0) (F0 m 0 ls []) := by
  have hx := C0.1
  have hb := C0.2.1
  have hst := C0.2.2.2.2.2.2.2.2.2.2
  unfold fX_Echo_kind at hF
  refine lv_bipush (v := 6) hx hb dX20_kind_0 (by decide) ?_
  exact x_iret C0 hG ⟨by omega, by omega⟩ dX20_kind_2 hF
theorem mtX_Echo_kind (l : Launch) (hst : l.stackTraces = false) {N : Nat} {L : xL} {g : xg} {σ σ' : xS} {r : Int32} {b0 : Nat} (hF : fX_Echo_kind N σ b0 = some (σ', r)) : xMet l yX20_kind cX20_kind 1 (some .int) (0) (0) 0 0 [.ref (g.2.2.1 b0)] L g σ (some (.int r)) σ' := by
  refine x_head hst (by decide) rfl ?_
  intro p e s m below meth c A C0 hG
  have hl := lv_entry ([.ref (g.2.2.1 b0)]) (n := 1) (Nat.le_of_ble_eq_true rfl)
  rw [lg_entry_eq]
  generalize (lg_sl ([.ref (g.2.2.1 b0)]) ++ List.replicate (1 - (lg_sl ([.ref (g.2.2.1 b0)])).length) Slot.unset).toArray = ls at hl ⊢
  have hl : lv_has ls 1 [(0, .ref (g.2.2.1 b0))] := hl
  exact bX_Echo_kind_e C0 ⟨Nat.le_refl _, Nat.le_refl _⟩ _ _ _ [] ls hG hl hF
def fX_Judge_kind (N : Nat) (σ : xS) (b0 : Nat) : Option (xS × Int32) :=
  some (σ, 7)
theorem bX_Judge_kind_e {N : Nat} (C0 : xCx p l s m args meth c RX21 cX21_kind 1 (some .int) L A) (hRo : 0 ≤ R.frames ∧ 0 ≤ R.locals) {σ' : xS} {r : Int32} (σ : xS) (b0 : Nat) (H : Heap) (locs : List Loc) (ls : Array Slot) (hG : xG A L g s σ H locs) (hl : lv_has ls 1 [(0, .ref (g.2.2.1 b0))]) (hF : fX_Judge_kind N σ b0 = some (σ', r)) : W p l e R s m args below meth c H locs 0 0 (xZ below L g A s args σ' (some (.int r)) 0 0) (F0 m 0 ls []) := by
  have hx := C0.1
  have hb := C0.2.1
  have hst := C0.2.2.2.2.2.2.2.2.2.2
  unfold fX_Judge_kind at hF
  refine lv_bipush (v := 7) hx hb dX21_kind_0 (by decide) ?_
  exact x_iret C0 hG ⟨by omega, by omega⟩ dX21_kind_2 hF
theorem mtX_Judge_kind (l : Launch) (hst : l.stackTraces = false) {N : Nat} {L : xL} {g : xg} {σ σ' : xS} {r : Int32} {b0 : Nat} (hF : fX_Judge_kind N σ b0 = some (σ', r)) : xMet l yX21_kind cX21_kind 1 (some .int) (0) (0) 0 0 [.ref (g.2.2.1 b0)] L g σ (some (.int r)) σ' := by
  refine x_head hst (by decide) rfl ?_
  intro p e s m below meth c A C0 hG
  have hl := lv_entry ([.ref (g.2.2.1 b0)]) (n := 1) (Nat.le_of_ble_eq_true rfl)
  rw [lg_entry_eq]
  generalize (lg_sl ([.ref (g.2.2.1 b0)]) ++ List.replicate (1 - (lg_sl ([.ref (g.2.2.1 b0)])).length) Slot.unset).toArray = ls at hl ⊢
  have hl : lv_has ls 1 [(0, .ref (g.2.2.1 b0))] := hl
  exact bX_Judge_kind_e C0 ⟨Nat.le_refl _, Nat.le_refl _⟩ _ _ _ [] ls hG hl hF
def fXd_kind (N : Nat) (kd : Nat) (σ : xS) (b : Nat) : Option (xS × Int32) := match kd with
  | 0 => fX_Beat_kind N σ b
  | 1 => fX_Legs_kind N σ b
  | 2 => fX_Breath_kind N σ b
  | 3 => fX_Smile_kind N σ b
  | 4 => fX_Lift_kind N σ b
  | 5 => fX_Star_kind N σ b
  | 6 => fX_Echo_kind N σ b
  | _ => fX_Judge_kind N σ b
def fXv_kind (N : Nat) (σ : xS) (b : Nat) : Option (xS × Int32) := fXd_kind N (xB σ b) σ b


theorem site_X14_19 {p : Program} {l : Launch} {e : Env} {R : Room} {s : State} {m : MethodId} {args : Array Value} {below : List Frame} {meth : Method} {c : Code} {A : Nat → Prop} {L : xL} {g : xg} {N : Nat} {cc : ByteArray} {nL : Nat} {ret : Option FieldType} {pc : Nat} {ls : Array Slot} {rest : List Value} {σ σ1 : xS} {H : Heap} {locs : List Loc} {cells slots : Nat} {Q : State → Prop} {b : Nat} {r : Int32} (C0 : xCx p l s m args meth c RX14 cc nL ret L A) (hst : l.stackTraces = false) (hG : xG A L g s σ H locs) (hb : b < xk σ) (hA0 : xbA 0 (xB σ b) ≠ 0) (e1 : fXv_kind N σ b = some (σ1, r)) (hR : 1 ≤ R.frames ∧ 20 ≤ R.locals) (hRc : cells ≤ R.cells ∧ slots ≤ R.slots) (hsz : ls.size = nL) (hrm : (rest.map fun v => v.category).sum ≤ 8) (hdg : decode cc pc = .ok (.invokevirtual 19, 3))
    (kk : ∀ (H1 : Heap) (locs1 : List Loc), xG A L g s σ1 H1 locs1 → W p l e R s m args below meth c H1 locs1 cells slots Q (F0 m (pc + 3) ls (.int r :: rest))) : W p l e R s m args below meth c H locs cells slots Q (F0 m pc ls (.ref (g.2.2.1 b) :: rest)) := by
  have h8 := (hG.bd hb).1
  have hrc := x_rcb C0 hG hb
  unfold fXv_kind at e1
  generalize xB σ b = kd at h8 hA0 hrc e1
  have h9 : kd = 0 ∨ kd = 1 ∨ kd = 2 ∨ kd = 3 ∨ kd = 4 ∨ kd = 5 ∨ kd = 6 ∨ kd = 7 := by omega
  rcases h9 with rfl | rfl | rfl | rfl | rfl | rfl | rfl | rfl
  · have e2 : fX_Beat_kind N σ b = some (σ1, r) := e1
    exact x_cBV (C := RX14) (owner := RX14) (x := ⟨RX14, "kind", "()I"⟩) (As := []) (rest := rest) C0 hG (mtX_Beat_kind l hst e2) (lw_O q1526 q1529 q1527 q1528 q1527 q128 q1551) q1551 yd_X14_kind.2 hrc ⟨by omega, by omega⟩ hRc rfl rfl hsz hrm hdg kk
  · have e2 : fX_Legs_kind N σ b = some (σ1, r) := e1
    exact x_cBV (C := RX15) (owner := RX14) (x := ⟨RX14, "kind", "()I"⟩) (As := []) (rest := rest) C0 hG (mtX_Legs_kind l hst e2) (lw_O q1526 q1529 q1527 q1539 q1540 q129 q1541) q1551 yd_X14_kind.2 hrc ⟨by omega, by omega⟩ hRc rfl rfl hsz hrm hdg kk
  · have e2 : fX_Breath_kind N σ b = some (σ1, r) := e1
    exact x_cBV (C := RX16) (owner := RX14) (x := ⟨RX14, "kind", "()I"⟩) (As := []) (rest := rest) C0 hG (mtX_Breath_kind l hst e2) (lw_O q1526 q1529 q1527 q1530 q1531 q130 q1532) q1551 yd_X14_kind.2 hrc ⟨by omega, by omega⟩ hRc rfl rfl hsz hrm hdg kk
  · have e2 : fX_Smile_kind N σ b = some (σ1, r) := e1
    exact x_cBV (C := RX17) (owner := RX14) (x := ⟨RX14, "kind", "()I"⟩) (As := []) (rest := rest) C0 hG (mtX_Smile_kind l hst e2) (lw_O q1526 q1529 q1527 q1545 q1546 q131 q1547) q1551 yd_X14_kind.2 hrc ⟨by omega, by omega⟩ hRc rfl rfl hsz hrm hdg kk
  · have e2 : fX_Lift_kind N σ b = some (σ1, r) := e1
    exact x_cBV (C := RX18) (owner := RX14) (x := ⟨RX14, "kind", "()I"⟩) (As := []) (rest := rest) C0 hG (mtX_Lift_kind l hst e2) (lw_O q1526 q1529 q1527 q1542 q1543 q132 q1544) q1551 yd_X14_kind.2 hrc ⟨by omega, by omega⟩ hRc rfl rfl hsz hrm hdg kk
  · have e2 : fX_Star_kind N σ b = some (σ1, r) := e1
    exact x_cBV (C := RX19) (owner := RX14) (x := ⟨RX14, "kind", "()I"⟩) (As := []) (rest := rest) C0 hG (mtX_Star_kind l hst e2) (lw_O q1526 q1529 q1527 q1548 q1549 q133 q1550) q1551 yd_X14_kind.2 hrc ⟨by omega, by omega⟩ hRc rfl rfl hsz hrm hdg kk
  · have e2 : fX_Echo_kind N σ b = some (σ1, r) := e1
    exact x_cBV (C := RX20) (owner := RX14) (x := ⟨RX14, "kind", "()I"⟩) (As := []) (rest := rest) C0 hG (mtX_Echo_kind l hst e2) (lw_O q1526 q1529 q1527 q1533 q1534 q134 q1535) q1551 yd_X14_kind.2 hrc ⟨by omega, by omega⟩ hRc rfl rfl hsz hrm hdg kk
  · have e2 : fX_Judge_kind N σ b = some (σ1, r) := e1
    exact x_cBV (C := RX21) (owner := RX14) (x := ⟨RX14, "kind", "()I"⟩) (As := []) (rest := rest) C0 hG (mtX_Judge_kind l hst e2) (lw_O q1526 q1529 q1527 q1536 q1537 q135 q1538) q1551 yd_X14_kind.2 hrc ⟨by omega, by omega⟩ hRc rfl rfl hsz hrm hdg kk
def fX_Beat_isUnder (N : Nat) (σ : xS) (b0 : Nat) (a0 : Int32) : Option (xS × Int32) :=
  if a0 = 0 then (
    chb 1 (some (σ, 1)))
  else (
    chl b0 (xk σ) <| chB 0 (xB σ b0) <| obi (fXv_kind N σ b0) fun σ_2 r_3 =>
    if a0 = r_3 then (
      chb 1 (some (σ_2, 1)))
    else (
      chb 0 (some (σ_2, 0))))
theorem bX_Beat_isUnder_e {N : Nat} (C0 : xCx p l s m args meth c RX14 cX14_isUnder 2 (some .boolean) L A) (hRo : 1 ≤ R.frames ∧ 20 ≤ R.locals) {σ' : xS} {r : Int32} (σ : xS) (b0 : Nat) (a0 : Int32) (H : Heap) (locs : List Loc) (ls : Array Slot) (hG : xG A L g s σ H locs) (hl : lv_has ls 2 [(0, .ref (g.2.2.1 b0)), (1, .int a0)]) (hF : fX_Beat_isUnder N σ b0 a0 = some (σ', r)) : W p l e R s m args below meth c H locs 0 0 (xZ below L g A s args σ' (some (.int r)) 0 0) (F0 m 0 ls []) := by
  have hx := C0.1
  have hb := C0.2.1
  have hst := C0.2.2.2.2.2.2.2.2.2.2
  unfold fX_Beat_isUnder at hF
  refine lv_iload_n hx hb dX14_isUnder_0 rfl (lv_at hl 1 rfl) ?_
  refine lv_if_eq (tgt := 12) hx hb dX14_isUnder_1 (by decide) (fun c_1 => ?_) (fun c_1 => ?_)
  · have hF := ifp hF c_1
    refine lv_iconst (v := 1) hx hb dX14_isUnder_12 (by decide) ?_
    refine lv_goto (tgt := 17) hx hb dX14_isUnder_13 (by decide) ?_
    exact x_zret C0 hG ⟨by omega, by omega⟩ dX14_isUnder_17 hF
  · have hF := ifn hF c_1
    refine lv_iload_n hx hb dX14_isUnder_4 rfl (lv_at hl 1 rfl) ?_
    refine lv_aload_n hx hb dX14_isUnder_5 rfl (lv_at hl 0 rfl) ?_
    obtain ⟨h_5, hF⟩ := chl_of hF
    obtain ⟨h_6, hF⟩ := chB_of hF
    obtain ⟨σ_2, r_3, e_4, hF⟩ := obi_of hF
    refine site_X14_19 (rest := [.int a0]) C0 hst hG h_5 h_6 e_4 ⟨by omega, by omega⟩ ⟨by omega, by omega⟩ hl.1 (Nat.le_of_ble_eq_true rfl) dX14_isUnder_6 (fun H locs hG => ?_)
    refine lv_icmp_ne (tgt := 16) hx hb dX14_isUnder_9 (by decide) (fun c_7 => ?_) (fun c_7 => ?_)
    · have hF := ifn hF c_7
      refine lv_iconst (v := 0) hx hb dX14_isUnder_16 (by decide) ?_
      exact x_zret C0 hG ⟨by omega, by omega⟩ dX14_isUnder_17 hF
    · have hF := ifp hF c_7
      refine lv_iconst (v := 1) hx hb dX14_isUnder_12 (by decide) ?_
      refine lv_goto (tgt := 17) hx hb dX14_isUnder_13 (by decide) ?_
      exact x_zret C0 hG ⟨by omega, by omega⟩ dX14_isUnder_17 hF
theorem mtX_Beat_isUnder (l : Launch) (hst : l.stackTraces = false) {N : Nat} {L : xL} {g : xg} {σ σ' : xS} {r : Int32} {b0 : Nat} {a0 : Int32} (hF : fX_Beat_isUnder N σ b0 a0 = some (σ', r)) : xMet l yX14_isUnder cX14_isUnder 2 (some .boolean) (1) (20) 0 0 [.ref (g.2.2.1 b0), .int a0] L g σ (some (.int r)) σ' := by
  refine x_head hst (by decide) rfl ?_
  intro p e s m below meth c A C0 hG
  have hl := lv_entry ([.ref (g.2.2.1 b0), .int a0]) (n := 2) (Nat.le_of_ble_eq_true rfl)
  rw [lg_entry_eq]
  generalize (lg_sl ([.ref (g.2.2.1 b0), .int a0]) ++ List.replicate (2 - (lg_sl ([.ref (g.2.2.1 b0), .int a0])).length) Slot.unset).toArray = ls at hl ⊢
  have hl : lv_has ls 2 [(0, .ref (g.2.2.1 b0)), (1, .int a0)] := hl
  exact bX_Beat_isUnder_e C0 ⟨Nat.le_refl _, Nat.le_refl _⟩ _ _ _ _ [] ls hG hl hF
def fX_Legs_isUnder (N : Nat) (σ : xS) (b0 : Nat) (a0 : Int32) : Option (xS × Int32) :=
  if a0 = 1 then (
    chb 1 (some (σ, 1)))
  else (
    chl b0 (xk σ) <| obi (fX_Beat_isUnder N σ b0 a0) fun σ_2 r_3 =>
    if r_3 = 0 then (
      chb 0 (some (σ_2, 0)))
    else (
      chb 1 (some (σ_2, 1))))
theorem bX_Legs_isUnder_e {N : Nat} (C0 : xCx p l s m args meth c RX15 cX15_isUnder 2 (some .boolean) L A) (hRo : 2 ≤ R.frames ∧ 41 ≤ R.locals) {σ' : xS} {r : Int32} (σ : xS) (b0 : Nat) (a0 : Int32) (H : Heap) (locs : List Loc) (ls : Array Slot) (hG : xG A L g s σ H locs) (hl : lv_has ls 2 [(0, .ref (g.2.2.1 b0)), (1, .int a0)]) (hF : fX_Legs_isUnder N σ b0 a0 = some (σ', r)) : W p l e R s m args below meth c H locs 0 0 (xZ below L g A s args σ' (some (.int r)) 0 0) (F0 m 0 ls []) := by
  have hx := C0.1
  have hb := C0.2.1
  have hst := C0.2.2.2.2.2.2.2.2.2.2
  unfold fX_Legs_isUnder at hF
  refine lv_iload_n hx hb dX15_isUnder_0 rfl (lv_at hl 1 rfl) ?_
  refine lv_iconst (v := 1) hx hb dX15_isUnder_1 (by decide) ?_
  refine lv_icmp_eq (tgt := 13) hx hb dX15_isUnder_2 (by decide) (fun c_1 => ?_) (fun c_1 => ?_)
  · have hF := ifp hF c_1
    refine lv_iconst (v := 1) hx hb dX15_isUnder_13 (by decide) ?_
    refine lv_goto (tgt := 18) hx hb dX15_isUnder_14 (by decide) ?_
    exact x_zret C0 hG ⟨by omega, by omega⟩ dX15_isUnder_18 hF
  · have hF := ifn hF c_1
    refine lv_aload_n hx hb dX15_isUnder_5 rfl (lv_at hl 0 rfl) ?_
    refine lv_iload_n hx hb dX15_isUnder_6 rfl (lv_at hl 1 rfl) ?_
    obtain ⟨h_5, hF⟩ := chl_of hF
    obtain ⟨σ_2, r_3, e_4, hF⟩ := obi_of hF
    refine x_cBS (As := [.int a0]) (rest := []) C0 hG h_5 (mtX_Beat_isUnder l hst e_4) (lw_SU q1559 q1520 q1123 q1518 q128 q1525) ⟨by decide, yd_X14_isUnder.2.2.2⟩ ⟨by omega, by omega⟩ ⟨by omega, by omega⟩ rfl rfl hl.1 (Nat.le_of_ble_eq_true rfl) dX15_isUnder_7 (fun H locs hG => ?_)
    refine lv_if_eq (tgt := 17) hx hb dX15_isUnder_10 (by decide) (fun c_7 => ?_) (fun c_7 => ?_)
    · have hF := ifp hF c_7
      refine lv_iconst (v := 0) hx hb dX15_isUnder_17 (by decide) ?_
      exact x_zret C0 hG ⟨by omega, by omega⟩ dX15_isUnder_18 hF
    · have hF := ifn hF c_7
      refine lv_iconst (v := 1) hx hb dX15_isUnder_13 (by decide) ?_
      refine lv_goto (tgt := 18) hx hb dX15_isUnder_14 (by decide) ?_
      exact x_zret C0 hG ⟨by omega, by omega⟩ dX15_isUnder_18 hF
theorem mtX_Legs_isUnder (l : Launch) (hst : l.stackTraces = false) {N : Nat} {L : xL} {g : xg} {σ σ' : xS} {r : Int32} {b0 : Nat} {a0 : Int32} (hF : fX_Legs_isUnder N σ b0 a0 = some (σ', r)) : xMet l yX15_isUnder cX15_isUnder 2 (some .boolean) (2) (41) 0 0 [.ref (g.2.2.1 b0), .int a0] L g σ (some (.int r)) σ' := by
  refine x_head hst (by decide) rfl ?_
  intro p e s m below meth c A C0 hG
  have hl := lv_entry ([.ref (g.2.2.1 b0), .int a0]) (n := 2) (Nat.le_of_ble_eq_true rfl)
  rw [lg_entry_eq]
  generalize (lg_sl ([.ref (g.2.2.1 b0), .int a0]) ++ List.replicate (2 - (lg_sl ([.ref (g.2.2.1 b0), .int a0])).length) Slot.unset).toArray = ls at hl ⊢
  have hl : lv_has ls 2 [(0, .ref (g.2.2.1 b0)), (1, .int a0)] := hl
  exact bX_Legs_isUnder_e C0 ⟨Nat.le_refl _, Nat.le_refl _⟩ _ _ _ _ [] ls hG hl hF
def fX_Breath_isUnder (N : Nat) (σ : xS) (b0 : Nat) (a0 : Int32) : Option (xS × Int32) :=
  if a0 = 2 then (
    chb 1 (some (σ, 1)))
  else (
    chl b0 (xk σ) <| obi (fX_Beat_isUnder N σ b0 a0) fun σ_2 r_3 =>
    if r_3 = 0 then (
      chb 0 (some (σ_2, 0)))
    else (
      chb 1 (some (σ_2, 1))))
theorem bX_Breath_isUnder_e {N : Nat} (C0 : xCx p l s m args meth c RX16 cX16_isUnder 2 (some .boolean) L A) (hRo : 2 ≤ R.frames ∧ 41 ≤ R.locals) {σ' : xS} {r : Int32} (σ : xS) (b0 : Nat) (a0 : Int32) (H : Heap) (locs : List Loc) (ls : Array Slot) (hG : xG A L g s σ H locs) (hl : lv_has ls 2 [(0, .ref (g.2.2.1 b0)), (1, .int a0)]) (hF : fX_Breath_isUnder N σ b0 a0 = some (σ', r)) : W p l e R s m args below meth c H locs 0 0 (xZ below L g A s args σ' (some (.int r)) 0 0) (F0 m 0 ls []) := by
  have hx := C0.1
  have hb := C0.2.1
  have hst := C0.2.2.2.2.2.2.2.2.2.2
  unfold fX_Breath_isUnder at hF
  refine lv_iload_n hx hb dX16_isUnder_0 rfl (lv_at hl 1 rfl) ?_
  refine lv_iconst (v := 2) hx hb dX16_isUnder_1 (by decide) ?_
  refine lv_icmp_eq (tgt := 13) hx hb dX16_isUnder_2 (by decide) (fun c_1 => ?_) (fun c_1 => ?_)
  · have hF := ifp hF c_1
    refine lv_iconst (v := 1) hx hb dX16_isUnder_13 (by decide) ?_
    refine lv_goto (tgt := 18) hx hb dX16_isUnder_14 (by decide) ?_
    exact x_zret C0 hG ⟨by omega, by omega⟩ dX16_isUnder_18 hF
  · have hF := ifn hF c_1
    refine lv_aload_n hx hb dX16_isUnder_5 rfl (lv_at hl 0 rfl) ?_
    refine lv_iload_n hx hb dX16_isUnder_6 rfl (lv_at hl 1 rfl) ?_
    obtain ⟨h_5, hF⟩ := chl_of hF
    obtain ⟨σ_2, r_3, e_4, hF⟩ := obi_of hF
    refine x_cBS (As := [.int a0]) (rest := []) C0 hG h_5 (mtX_Beat_isUnder l hst e_4) (lw_SU q1524 q1520 q1135 q1518 q128 q1525) ⟨by decide, yd_X14_isUnder.2.2.2⟩ ⟨by omega, by omega⟩ ⟨by omega, by omega⟩ rfl rfl hl.1 (Nat.le_of_ble_eq_true rfl) dX16_isUnder_7 (fun H locs hG => ?_)
    refine lv_if_eq (tgt := 17) hx hb dX16_isUnder_10 (by decide) (fun c_7 => ?_) (fun c_7 => ?_)
    · have hF := ifp hF c_7
      refine lv_iconst (v := 0) hx hb dX16_isUnder_17 (by decide) ?_
      exact x_zret C0 hG ⟨by omega, by omega⟩ dX16_isUnder_18 hF
    · have hF := ifn hF c_7
      refine lv_iconst (v := 1) hx hb dX16_isUnder_13 (by decide) ?_
      refine lv_goto (tgt := 18) hx hb dX16_isUnder_14 (by decide) ?_
      exact x_zret C0 hG ⟨by omega, by omega⟩ dX16_isUnder_18 hF
theorem mtX_Breath_isUnder (l : Launch) (hst : l.stackTraces = false) {N : Nat} {L : xL} {g : xg} {σ σ' : xS} {r : Int32} {b0 : Nat} {a0 : Int32} (hF : fX_Breath_isUnder N σ b0 a0 = some (σ', r)) : xMet l yX16_isUnder cX16_isUnder 2 (some .boolean) (2) (41) 0 0 [.ref (g.2.2.1 b0), .int a0] L g σ (some (.int r)) σ' := by
  refine x_head hst (by decide) rfl ?_
  intro p e s m below meth c A C0 hG
  have hl := lv_entry ([.ref (g.2.2.1 b0), .int a0]) (n := 2) (Nat.le_of_ble_eq_true rfl)
  rw [lg_entry_eq]
  generalize (lg_sl ([.ref (g.2.2.1 b0), .int a0]) ++ List.replicate (2 - (lg_sl ([.ref (g.2.2.1 b0), .int a0])).length) Slot.unset).toArray = ls at hl ⊢
  have hl : lv_has ls 2 [(0, .ref (g.2.2.1 b0)), (1, .int a0)] := hl
  exact bX_Breath_isUnder_e C0 ⟨Nat.le_refl _, Nat.le_refl _⟩ _ _ _ _ [] ls hG hl hF
def fX_Smile_isUnder (N : Nat) (σ : xS) (b0 : Nat) (a0 : Int32) : Option (xS × Int32) :=
  if a0 = 3 then (
    chb 1 (some (σ, 1)))
  else (
    chl b0 (xk σ) <| obi (fX_Breath_isUnder N σ b0 a0) fun σ_2 r_3 =>
    if r_3 = 0 then (
      chb 0 (some (σ_2, 0)))
    else (
      chb 1 (some (σ_2, 1))))
theorem bX_Smile_isUnder_e {N : Nat} (C0 : xCx p l s m args meth c RX17 cX17_isUnder 2 (some .boolean) L A) (hRo : 3 ≤ R.frames ∧ 62 ≤ R.locals) {σ' : xS} {r : Int32} (σ : xS) (b0 : Nat) (a0 : Int32) (H : Heap) (locs : List Loc) (ls : Array Slot) (hG : xG A L g s σ H locs) (hl : lv_has ls 2 [(0, .ref (g.2.2.1 b0)), (1, .int a0)]) (hF : fX_Smile_isUnder N σ b0 a0 = some (σ', r)) : W p l e R s m args below meth c H locs 0 0 (xZ below L g A s args σ' (some (.int r)) 0 0) (F0 m 0 ls []) := by
  have hx := C0.1
  have hb := C0.2.1
  have hst := C0.2.2.2.2.2.2.2.2.2.2
  unfold fX_Smile_isUnder at hF
  refine lv_iload_n hx hb dX17_isUnder_0 rfl (lv_at hl 1 rfl) ?_
  refine lv_iconst (v := 3) hx hb dX17_isUnder_1 (by decide) ?_
  refine lv_icmp_eq (tgt := 13) hx hb dX17_isUnder_2 (by decide) (fun c_1 => ?_) (fun c_1 => ?_)
  · have hF := ifp hF c_1
    refine lv_iconst (v := 1) hx hb dX17_isUnder_13 (by decide) ?_
    refine lv_goto (tgt := 18) hx hb dX17_isUnder_14 (by decide) ?_
    exact x_zret C0 hG ⟨by omega, by omega⟩ dX17_isUnder_18 hF
  · have hF := ifn hF c_1
    refine lv_aload_n hx hb dX17_isUnder_5 rfl (lv_at hl 0 rfl) ?_
    refine lv_iload_n hx hb dX17_isUnder_6 rfl (lv_at hl 1 rfl) ?_
    obtain ⟨h_5, hF⟩ := chl_of hF
    obtain ⟨σ_2, r_3, e_4, hF⟩ := obi_of hF
    refine x_cBS (As := [.int a0]) (rest := []) C0 hG h_5 (mtX_Breath_isUnder l hst e_4) (lw_SU q1565 q2159 q1148 q1522 q130 q1523) ⟨by decide, yd_X16_isUnder.2.2.2⟩ ⟨by omega, by omega⟩ ⟨by omega, by omega⟩ rfl rfl hl.1 (Nat.le_of_ble_eq_true rfl) dX17_isUnder_7 (fun H locs hG => ?_)
    refine lv_if_eq (tgt := 17) hx hb dX17_isUnder_10 (by decide) (fun c_7 => ?_) (fun c_7 => ?_)
    · have hF := ifp hF c_7
      refine lv_iconst (v := 0) hx hb dX17_isUnder_17 (by decide) ?_
      exact x_zret C0 hG ⟨by omega, by omega⟩ dX17_isUnder_18 hF
    · have hF := ifn hF c_7
      refine lv_iconst (v := 1) hx hb dX17_isUnder_13 (by decide) ?_
      refine lv_goto (tgt := 18) hx hb dX17_isUnder_14 (by decide) ?_
      exact x_zret C0 hG ⟨by omega, by omega⟩ dX17_isUnder_18 hF
theorem mtX_Smile_isUnder (l : Launch) (hst : l.stackTraces = false) {N : Nat} {L : xL} {g : xg} {σ σ' : xS} {r : Int32} {b0 : Nat} {a0 : Int32} (hF : fX_Smile_isUnder N σ b0 a0 = some (σ', r)) : xMet l yX17_isUnder cX17_isUnder 2 (some .boolean) (3) (62) 0 0 [.ref (g.2.2.1 b0), .int a0] L g σ (some (.int r)) σ' := by
  refine x_head hst (by decide) rfl ?_
  intro p e s m below meth c A C0 hG
  have hl := lv_entry ([.ref (g.2.2.1 b0), .int a0]) (n := 2) (Nat.le_of_ble_eq_true rfl)
  rw [lg_entry_eq]
  generalize (lg_sl ([.ref (g.2.2.1 b0), .int a0]) ++ List.replicate (2 - (lg_sl ([.ref (g.2.2.1 b0), .int a0])).length) Slot.unset).toArray = ls at hl ⊢
  have hl : lv_has ls 2 [(0, .ref (g.2.2.1 b0)), (1, .int a0)] := hl
  exact bX_Smile_isUnder_e C0 ⟨Nat.le_refl _, Nat.le_refl _⟩ _ _ _ _ [] ls hG hl hF
def fX_Lift_isUnder (N : Nat) (σ : xS) (b0 : Nat) (a0 : Int32) : Option (xS × Int32) :=
  if a0 = 4 then (
    chb 1 (some (σ, 1)))
  else (
    chl b0 (xk σ) <| obi (fX_Legs_isUnder N σ b0 a0) fun σ_2 r_3 =>
    if r_3 = 0 then (
      chb 0 (some (σ_2, 0)))
    else (
      chb 1 (some (σ_2, 1))))
theorem bX_Lift_isUnder_e {N : Nat} (C0 : xCx p l s m args meth c RX18 cX18_isUnder 2 (some .boolean) L A) (hRo : 3 ≤ R.frames ∧ 62 ≤ R.locals) {σ' : xS} {r : Int32} (σ : xS) (b0 : Nat) (a0 : Int32) (H : Heap) (locs : List Loc) (ls : Array Slot) (hG : xG A L g s σ H locs) (hl : lv_has ls 2 [(0, .ref (g.2.2.1 b0)), (1, .int a0)]) (hF : fX_Lift_isUnder N σ b0 a0 = some (σ', r)) : W p l e R s m args below meth c H locs 0 0 (xZ below L g A s args σ' (some (.int r)) 0 0) (F0 m 0 ls []) := by
  have hx := C0.1
  have hb := C0.2.1
  have hst := C0.2.2.2.2.2.2.2.2.2.2
  unfold fX_Lift_isUnder at hF
  refine lv_iload_n hx hb dX18_isUnder_0 rfl (lv_at hl 1 rfl) ?_
  refine lv_iconst (v := 4) hx hb dX18_isUnder_1 (by decide) ?_
  refine lv_icmp_eq (tgt := 13) hx hb dX18_isUnder_2 (by decide) (fun c_1 => ?_) (fun c_1 => ?_)
  · have hF := ifp hF c_1
    refine lv_iconst (v := 1) hx hb dX18_isUnder_13 (by decide) ?_
    refine lv_goto (tgt := 18) hx hb dX18_isUnder_14 (by decide) ?_
    exact x_zret C0 hG ⟨by omega, by omega⟩ dX18_isUnder_18 hF
  · have hF := ifn hF c_1
    refine lv_aload_n hx hb dX18_isUnder_5 rfl (lv_at hl 0 rfl) ?_
    refine lv_iload_n hx hb dX18_isUnder_6 rfl (lv_at hl 1 rfl) ?_
    obtain ⟨h_5, hF⟩ := chl_of hF
    obtain ⟨σ_2, r_3, e_4, hF⟩ := obi_of hF
    refine x_cBS (As := [.int a0]) (rest := []) C0 hG h_5 (mtX_Legs_isUnder l hst e_4) (lw_SU q1556 q2158 q1161 q1557 q129 q1558) ⟨by decide, yd_X15_isUnder.2.2.2⟩ ⟨by omega, by omega⟩ ⟨by omega, by omega⟩ rfl rfl hl.1 (Nat.le_of_ble_eq_true rfl) dX18_isUnder_7 (fun H locs hG => ?_)
    refine lv_if_eq (tgt := 17) hx hb dX18_isUnder_10 (by decide) (fun c_7 => ?_) (fun c_7 => ?_)
    · have hF := ifp hF c_7
      refine lv_iconst (v := 0) hx hb dX18_isUnder_17 (by decide) ?_
      exact x_zret C0 hG ⟨by omega, by omega⟩ dX18_isUnder_18 hF
    · have hF := ifn hF c_7
      refine lv_iconst (v := 1) hx hb dX18_isUnder_13 (by decide) ?_
      refine lv_goto (tgt := 18) hx hb dX18_isUnder_14 (by decide) ?_
      exact x_zret C0 hG ⟨by omega, by omega⟩ dX18_isUnder_18 hF
theorem mtX_Lift_isUnder (l : Launch) (hst : l.stackTraces = false) {N : Nat} {L : xL} {g : xg} {σ σ' : xS} {r : Int32} {b0 : Nat} {a0 : Int32} (hF : fX_Lift_isUnder N σ b0 a0 = some (σ', r)) : xMet l yX18_isUnder cX18_isUnder 2 (some .boolean) (3) (62) 0 0 [.ref (g.2.2.1 b0), .int a0] L g σ (some (.int r)) σ' := by
  refine x_head hst (by decide) rfl ?_
  intro p e s m below meth c A C0 hG
  have hl := lv_entry ([.ref (g.2.2.1 b0), .int a0]) (n := 2) (Nat.le_of_ble_eq_true rfl)
  rw [lg_entry_eq]
  generalize (lg_sl ([.ref (g.2.2.1 b0), .int a0]) ++ List.replicate (2 - (lg_sl ([.ref (g.2.2.1 b0), .int a0])).length) Slot.unset).toArray = ls at hl ⊢
  have hl : lv_has ls 2 [(0, .ref (g.2.2.1 b0)), (1, .int a0)] := hl
  exact bX_Lift_isUnder_e C0 ⟨Nat.le_refl _, Nat.le_refl _⟩ _ _ _ _ [] ls hG hl hF
def fXd_isUnder (N : Nat) (kd : Nat) (σ : xS) (b : Nat) (x : Int32) : Option (xS × Int32) := match kd with
  | 0 => fX_Beat_isUnder N σ b x
  | 1 => fX_Legs_isUnder N σ b x
  | 2 => fX_Breath_isUnder N σ b x
  | 3 => fX_Smile_isUnder N σ b x
  | 4 => fX_Lift_isUnder N σ b x
  | 5 => fX_Smile_isUnder N σ b x
  | 6 => fX_Beat_isUnder N σ b x
  | _ => fX_Lift_isUnder N σ b x
def fXv_isUnder (N : Nat) (σ : xS) (b : Nat) (x : Int32) : Option (xS × Int32) := fXd_isUnder N (xB σ b) σ b x

end XBWALK
