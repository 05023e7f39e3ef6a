theorem yd_X0_act : (yX0_act).cls = RX0 ∧ (yX0_act).cls ≠ "java/lang/invoke/MethodHandle" ∧ (yX0_act).cls ≠ "java/lang/invoke/VarHandle" ∧ (parseMethodDescriptor (yX0_act).desc).map (fun d => d.parameters.length) = some 3 := by decide +kernel
theorem yd_X0_keep : (yX0_keep).cls = RX0 ∧ (yX0_keep).cls ≠ "java/lang/invoke/MethodHandle" ∧ (yX0_keep).cls ≠ "java/lang/invoke/VarHandle" ∧ (parseMethodDescriptor (yX0_keep).desc).map (fun d => d.parameters.length) = some 2 := by decide +kernel
section XKWALK
variable {p : Program} {l : Launch} {e : Env} {R : Room} {s : State} {m : MethodId} {args : Array Value} {below : List Frame} {meth : Method} {c : Code} {A : Nat → Prop}
variable {L : xL} {g : xg}

theorem site_X0_473 {p : Program} {l : Launch} {e : Env} {R : Room} {s : State} {m : MethodId} {args : Array Value} {below : List Frame} {meth : Method} {c : Code} {A : Nat → Prop} {L : xL} {g : xg} {N : Nat} {cc : ByteArray} {nL : Nat} {ret : Option FieldType} {pc : Nat} {ls : Array Slot} {rest : List Value} {σ σ1 : xS} {H : Heap} {locs : List Loc} {cells slots : Nat} {Q : State → Prop} {b : Nat} {x : Int32} {r : Int32} (C0 : xCx p l s m args meth c RX0 cc nL ret L A) (hst : l.stackTraces = false) (hG : xG A L g s σ H locs) (hb : b < xk σ) (hA0 : xbA 0 (xB σ b) ≠ 0) (e1 : fXv_sinks N σ b x = some (σ1, r)) (hR : 4 ≤ R.frames ∧ 85 ≤ R.locals) (hRc : cells ≤ R.cells ∧ slots ≤ R.slots) (hsz : ls.size = nL) (hrm : (rest.map fun v => v.category).sum ≤ 8) (hdg : decode cc pc = .ok (.invokevirtual 473, 3))
    (kk : ∀ (H1 : Heap) (locs1 : List Loc), xG A L g s σ1 H1 locs1 → W p l e R s m args below meth c H1 locs1 cells slots Q (F0 m (pc + 3) ls (.int r :: rest))) : W p l e R s m args below meth c H locs cells slots Q (F0 m pc ls (.int x :: .ref (g.2.2.1 b) :: rest)) := by
  have h8 := (hG.bd hb).1
  have hrc := x_rcb C0 hG hb
  unfold fXv_sinks at e1
  generalize xB σ b = kd at h8 hA0 hrc e1
  have h9 : kd = 0 ∨ kd = 1 ∨ kd = 2 ∨ kd = 3 ∨ kd = 4 ∨ kd = 5 ∨ kd = 6 ∨ kd = 7 := by omega
  rcases h9 with rfl | rfl | rfl | rfl | rfl | rfl | rfl | rfl
  · have e2 : fX_Beat_sinks N σ b x = some (σ1, r) := e1
    exact x_cBV (C := RX14) (owner := RX14) (x := ⟨RX14, "sinks", "(I)I"⟩) (As := [.int x]) (rest := rest) C0 hG (mtX_Beat_sinks l hst e2) (lw_O q1353 q2149 q1299 q2150 q1299 q128 q1300) q1300 yd_X14_sinks.2 hrc ⟨by omega, by omega⟩ hRc rfl rfl hsz hrm hdg kk
  · have e2 : fX_Beat_sinks N σ b x = some (σ1, r) := e1
    exact x_cBV (C := RX15) (owner := RX14) (x := ⟨RX14, "sinks", "(I)I"⟩) (As := [.int x]) (rest := rest) C0 hG (mtX_Beat_sinks l hst e2) (lw_O q1353 q2149 q1299 q2154 q1299 q128 q1300) q1300 yd_X14_sinks.2 hrc ⟨by omega, by omega⟩ hRc rfl rfl hsz hrm hdg kk
  · have e2 : fX_Beat_sinks N σ b x = some (σ1, r) := e1
    exact x_cBV (C := RX16) (owner := RX14) (x := ⟨RX14, "sinks", "(I)I"⟩) (As := [.int x]) (rest := rest) C0 hG (mtX_Beat_sinks l hst e2) (lw_O q1353 q2149 q1299 q2151 q1299 q128 q1300) q1300 yd_X14_sinks.2 hrc ⟨by omega, by omega⟩ hRc rfl rfl hsz hrm hdg kk
  · have e2 : fX_Smile_sinks N σ b x = some (σ1, r) := e1
    exact x_cBV (C := RX17) (owner := RX14) (x := ⟨RX14, "sinks", "(I)I"⟩) (As := [.int x]) (rest := rest) C0 hG (mtX_Smile_sinks l hst e2) (lw_O q1353 q2149 q1299 q2156 q1315 q131 q1316) q1300 yd_X14_sinks.2 hrc ⟨by omega, by omega⟩ hRc rfl rfl hsz hrm hdg kk
  · have e2 : fX_Lift_sinks N σ b x = some (σ1, r) := e1
    exact x_cBV (C := RX18) (owner := RX14) (x := ⟨RX14, "sinks", "(I)I"⟩) (As := [.int x]) (rest := rest) C0 hG (mtX_Lift_sinks l hst e2) (lw_O q1353 q2149 q1299 q2155 q1293 q132 q1294) q1300 yd_X14_sinks.2 hrc ⟨by omega, by omega⟩ hRc rfl rfl hsz hrm hdg kk
  · have e2 : fX_Smile_sinks N σ b x = some (σ1, r) := e1
    exact x_cBV (C := RX19) (owner := RX14) (x := ⟨RX14, "sinks", "(I)I"⟩) (As := [.int x]) (rest := rest) C0 hG (mtX_Smile_sinks l hst e2) (lw_O q1353 q2149 q1299 q2157 q1315 q131 q1316) q1300 yd_X14_sinks.2 hrc ⟨by omega, by omega⟩ hRc rfl rfl hsz hrm hdg kk
  · have e2 : fX_Beat_sinks N σ b x = some (σ1, r) := e1
    exact x_cBV (C := RX20) (owner := RX14) (x := ⟨RX14, "sinks", "(I)I"⟩) (As := [.int x]) (rest := rest) C0 hG (mtX_Beat_sinks l hst e2) (lw_O q1353 q2149 q1299 q2152 q1299 q128 q1300) q1300 yd_X14_sinks.2 hrc ⟨by omega, by omega⟩ hRc rfl rfl hsz hrm hdg kk
  · have e2 : fX_Lift_sinks N σ b x = some (σ1, r) := e1
    exact x_cBV (C := RX21) (owner := RX14) (x := ⟨RX14, "sinks", "(I)I"⟩) (As := [.int x]) (rest := rest) C0 hG (mtX_Lift_sinks l hst e2) (lw_O q1353 q2149 q1299 q2153 q1293 q132 q1294) q1300 yd_X14_sinks.2 hrc ⟨by omega, by omega⟩ hRc rfl rfl hsz hrm hdg kk

theorem site_X0_470 {p : Program} {l : Launch} {e : Env} {R : Room} {s : State} {m : MethodId} {args : Array Value} {below : List Frame} {meth : Method} {c : Code} {A : Nat → Prop} {L : xL} {g : xg} {N : Nat} {cc : ByteArray} {nL : Nat} {ret : Option FieldType} {pc : Nat} {ls : Array Slot} {rest : List Value} {σ σ1 : xS} {H : Heap} {locs : List Loc} {cells slots : Nat} {Q : State → Prop} {b : Nat} {x : Int32} {r : Int32} (C0 : xCx p l s m args meth c RX0 cc nL ret L A) (hst : l.stackTraces = false) (hG : xG A L g s σ H locs) (hb : b < xk σ) (hA0 : xbA 0 (xB σ b) ≠ 0) (e1 : fXv_turns N σ b x = some (σ1, r)) (hR : 6 ≤ R.frames ∧ 126 ≤ R.locals) (hRc : cells ≤ R.cells ∧ slots ≤ R.slots) (hsz : ls.size = nL) (hrm : (rest.map fun v => v.category).sum ≤ 8) (hdg : decode cc pc = .ok (.invokevirtual 470, 3))
    (kk : ∀ (H1 : Heap) (locs1 : List Loc), xG A L g s σ1 H1 locs1 → W p l e R s m args below meth c H1 locs1 cells slots Q (F0 m (pc + 3) ls (.int r :: rest))) : W p l e R s m args below meth c H locs cells slots Q (F0 m pc ls (.int x :: .ref (g.2.2.1 b) :: rest)) := by
  have h8 := (hG.bd hb).1
  have hrc := x_rcb C0 hG hb
  unfold fXv_turns at e1
  generalize xB σ b = kd at h8 hA0 hrc e1
  have h9 : kd = 0 ∨ kd = 1 ∨ kd = 2 ∨ kd = 3 ∨ kd = 4 ∨ kd = 5 ∨ kd = 6 ∨ kd = 7 := by omega
  rcases h9 with rfl | rfl | rfl | rfl | rfl | rfl | rfl | rfl
  · have e2 : fX_Beat_turns N σ b x = some (σ1, r) := e1
    exact x_cBV (C := RX14) (owner := RX14) (x := ⟨RX14, "turns", "(I)I"⟩) (As := [.int x]) (rest := rest) C0 hG (mtX_Beat_turns l hst e2) (lw_O q1352 q1273 q1271 q1272 q1271 q128 q1279) q1279 yd_X14_turns.2 hrc ⟨by omega, by omega⟩ hRc rfl rfl hsz hrm hdg kk
  · have e2 : fX_Beat_turns N σ b x = some (σ1, r) := e1
    exact x_cBV (C := RX15) (owner := RX14) (x := ⟨RX14, "turns", "(I)I"⟩) (As := [.int x]) (rest := rest) C0 hG (mtX_Beat_turns l hst e2) (lw_O q1352 q1273 q1271 q1306 q1271 q128 q1279) q1279 yd_X14_turns.2 hrc ⟨by omega, by omega⟩ hRc rfl rfl hsz hrm hdg kk
  · have e2 : fX_Breath_turns N σ b x = some (σ1, r) := e1
    exact x_cBV (C := RX16) (owner := RX14) (x := ⟨RX14, "turns", "(I)I"⟩) (As := [.int x]) (rest := rest) C0 hG (mtX_Breath_turns l hst e2) (lw_O q1352 q1273 q1271 q1274 q1275 q130 q1276) q1279 yd_X14_turns.2 hrc ⟨by omega, by omega⟩ hRc rfl rfl hsz hrm hdg kk
  · have e2 : fX_Smile_turns N σ b x = some (σ1, r) := e1
    exact x_cBV (C := RX17) (owner := RX14) (x := ⟨RX14, "turns", "(I)I"⟩) (As := [.int x]) (rest := rest) C0 hG (mtX_Smile_turns l hst e2) (lw_O q1352 q1273 q1271 q1308 q1309 q131 q1310) q1279 yd_X14_turns.2 hrc ⟨by omega, by omega⟩ hRc rfl rfl hsz hrm hdg kk
  · have e2 : fX_Beat_turns N σ b x = some (σ1, r) := e1
    exact x_cBV (C := RX18) (owner := RX14) (x := ⟨RX14, "turns", "(I)I"⟩) (As := [.int x]) (rest := rest) C0 hG (mtX_Beat_turns l hst e2) (lw_O q1352 q1273 q1271 q1307 q1271 q128 q1279) q1279 yd_X14_turns.2 hrc ⟨by omega, by omega⟩ hRc rfl rfl hsz hrm hdg kk
  · have e2 : fX_Smile_turns N σ b x = some (σ1, r) := e1
    exact x_cBV (C := RX19) (owner := RX14) (x := ⟨RX14, "turns", "(I)I"⟩) (As := [.int x]) (rest := rest) C0 hG (mtX_Smile_turns l hst e2) (lw_O q1352 q1273 q1271 q1313 q1309 q131 q1310) q1279 yd_X14_turns.2 hrc ⟨by omega, by omega⟩ hRc rfl rfl hsz hrm hdg kk
  · have e2 : fX_Beat_turns N σ b x = some (σ1, r) := e1
    exact x_cBV (C := RX20) (owner := RX14) (x := ⟨RX14, "turns", "(I)I"⟩) (As := [.int x]) (rest := rest) C0 hG (mtX_Beat_turns l hst e2) (lw_O q1352 q1273 q1271 q1281 q1271 q128 q1279) q1279 yd_X14_turns.2 hrc ⟨by omega, by omega⟩ hRc rfl rfl hsz hrm hdg kk
  · have e2 : fX_Judge_turns N σ b x = some (σ1, r) := e1
    exact x_cBV (C := RX21) (owner := RX14) (x := ⟨RX14, "turns", "(I)I"⟩) (As := [.int x]) (rest := rest) C0 hG (mtX_Judge_turns l hst e2) (lw_O q1352 q1273 q1271 q1282 q1283 q135 q1284) q1279 yd_X14_turns.2 hrc ⟨by omega, by omega⟩ hRc rfl rfl hsz hrm hdg kk

theorem siteF_465 {p : Program} {l : Launch} {e : Env} {R : Room} {s : State} {m : MethodId} {args : Array Value} {below : List Frame} {meth : Method} {c : Code} {A : Nat → Prop} {L : xL} {g : xg} {N : Nat} {cc : ByteArray} {nL : Nat} {ret : Option FieldType} {pc count : Nat} {ls : Array Slot} {rest : List Value} {σ σ1 : xS} {H : Heap} {locs : List Loc} {cells slots : Nat} {Q : State → Prop} {b : Nat} {x : Int32} {r : Int32} (C0 : xCx p l s m args meth c RX0 cc nL ret L A) (hst : l.stackTraces = false) (hG : xG A L g s σ H locs) (hb : b < xk σ) (e1 : fXv_tells N σ b x = some (σ1, r)) (hR : 8 ≤ R.frames ∧ 169 ≤ R.locals) (hRc : cells ≤ R.cells ∧ slots ≤ R.slots) (hsz : ls.size = nL) (hrm : (rest.map fun v => v.category).sum ≤ 8) (hdg : decode cc pc = .ok (.invokeinterface 465 count, 5))
    (kk : ∀ (H1 : Heap) (locs1 : List Loc), xG A L g s σ1 H1 locs1 → W p l e R s m args below meth c H1 locs1 cells slots Q (F0 m (pc + 5) ls (.int r :: rest))) : W p l e R s m args below meth c H locs cells slots Q (F0 m pc ls (.int x :: .ref (g.2.2.1 b) :: rest)) := by
  have h8 := (hG.bd hb).1
  have hrc := x_rcb C0 hG hb
  have hfw := C0.2.2.2.2.2.2.2.2.2.1.2.2.2.1
  have hat := fun kd (h : kd < 8) => xb_known (L := L) h C0.2.2.2.2.2.1
  unfold fXv_tells at e1
  generalize xB σ b = kd at h8 hrc e1
  have h9 : kd = 0 ∨ kd = 1 ∨ kd = 2 ∨ kd = 3 ∨ kd = 4 ∨ kd = 5 ∨ kd = 6 ∨ kd = 7 := by omega
  rcases h9 with rfl | rfl | rfl | rfl | rfl | rfl | rfl | rfl
  · have e2 : fX_Beat_tells N σ b x = some (σ1, r) := e1
    exact x_cBF (C := RX14) (cC := L.2.2.1 14) (x := ⟨"EightLegs$Tells", "tells", "(I)I"⟩) (As := [.int x]) (rest := rest) (hat 0 h8) C0 hG (mtX_Beat_tells l hst e2) (lw_F q1261 q1265 q1267 q128 q1269) (hfw 0 h8).2 ⟨by decide, by decide, yd_X14_tells.2.2.2⟩ hrc ⟨by omega, by omega⟩ hRc rfl rfl hsz hrm hdg kk
  · have e2 : fX_Beat_tells N σ b x = some (σ1, r) := e1
    exact x_cBF (C := RX15) (cC := L.2.2.1 15) (x := ⟨"EightLegs$Tells", "tells", "(I)I"⟩) (As := [.int x]) (rest := rest) (hat 1 h8) C0 hG (mtX_Beat_tells l hst e2) (lw_F q1261 q1335 q1267 q128 q1269) (hfw 1 h8).2 ⟨by decide, by decide, yd_X14_tells.2.2.2⟩ hrc ⟨by omega, by omega⟩ hRc rfl rfl hsz hrm hdg kk
  · have e2 : fX_Beat_tells N σ b x = some (σ1, r) := e1
    exact x_cBF (C := RX16) (cC := L.2.2.1 16) (x := ⟨"EightLegs$Tells", "tells", "(I)I"⟩) (As := [.int x]) (rest := rest) (hat 2 h8) C0 hG (mtX_Beat_tells l hst e2) (lw_F q1261 q1320 q1267 q128 q1269) (hfw 2 h8).2 ⟨by decide, by decide, yd_X14_tells.2.2.2⟩ hrc ⟨by omega, by omega⟩ hRc rfl rfl hsz hrm hdg kk
  · have e2 : fX_Beat_tells N σ b x = some (σ1, r) := e1
    exact x_cBF (C := RX17) (cC := L.2.2.1 17) (x := ⟨"EightLegs$Tells", "tells", "(I)I"⟩) (As := [.int x]) (rest := rest) (hat 3 h8) C0 hG (mtX_Beat_tells l hst e2) (lw_F q1261 q1341 q1267 q128 q1269) (hfw 3 h8).2 ⟨by decide, by decide, yd_X14_tells.2.2.2⟩ hrc ⟨by omega, by omega⟩ hRc rfl rfl hsz hrm hdg kk
  · have e2 : fX_Beat_tells N σ b x = some (σ1, r) := e1
    exact x_cBF (C := RX18) (cC := L.2.2.1 18) (x := ⟨"EightLegs$Tells", "tells", "(I)I"⟩) (As := [.int x]) (rest := rest) (hat 4 h8) C0 hG (mtX_Beat_tells l hst e2) (lw_F q1261 q1338 q1267 q128 q1269) (hfw 4 h8).2 ⟨by decide, by decide, yd_X14_tells.2.2.2⟩ hrc ⟨by omega, by omega⟩ hRc rfl rfl hsz hrm hdg kk
  · have e2 : fX_Star_tells N σ b x = some (σ1, r) := e1
    exact x_cBF (C := RX19) (cC := L.2.2.1 19) (x := ⟨"EightLegs$Tells", "tells", "(I)I"⟩) (As := [.int x]) (rest := rest) (hat 5 h8) C0 hG (mtX_Star_tells l hst e2) (lw_F q1261 q1344 q1346 q133 q1348) (hfw 5 h8).2 ⟨by decide, by decide, yd_X19_tells.2.2.2⟩ hrc ⟨by omega, by omega⟩ hRc rfl rfl hsz hrm hdg kk
  · have e2 : fX_Beat_tells N σ b x = some (σ1, r) := e1
    exact x_cBF (C := RX20) (cC := L.2.2.1 20) (x := ⟨"EightLegs$Tells", "tells", "(I)I"⟩) (As := [.int x]) (rest := rest) (hat 6 h8) C0 hG (mtX_Beat_tells l hst e2) (lw_F q1261 q1323 q1267 q128 q1269) (hfw 6 h8).2 ⟨by decide, by decide, yd_X14_tells.2.2.2⟩ hrc ⟨by omega, by omega⟩ hRc rfl rfl hsz hrm hdg kk
  · have e2 : fX_Judge_tells N σ b x = some (σ1, r) := e1
    exact x_cBF (C := RX21) (cC := L.2.2.1 21) (x := ⟨"EightLegs$Tells", "tells", "(I)I"⟩) (As := [.int x]) (rest := rest) (hat 7 h8) C0 hG (mtX_Judge_tells l hst e2) (lw_F q1261 q1326 q1328 q135 q1330) (hfw 7 h8).2 ⟨by decide, by decide, yd_X21_tells.2.2.2⟩ hrc ⟨by omega, by omega⟩ hRc rfl rfl hsz hrm hdg kk

theorem siteF_460 {p : Program} {l : Launch} {e : Env} {R : Room} {s : State} {m : MethodId} {args : Array Value} {below : List Frame} {meth : Method} {c : Code} {A : Nat → Prop} {L : xL} {g : xg} {N : Nat} {cc : ByteArray} {nL : Nat} {ret : Option FieldType} {pc count : Nat} {ls : Array Slot} {rest : List Value} {σ σ1 : xS} {H : Heap} {locs : List Loc} {cells slots : Nat} {Q : State → Prop} {b : Nat} {x : Int32} {r : Int32} (C0 : xCx p l s m args meth c RX0 cc nL ret L A) (hst : l.stackTraces = false) (hG : xG A L g s σ H locs) (hb : b < xk σ) (e1 : fXv_countsIt N σ b x = some (σ1, r)) (hR : 3 ≤ R.frames ∧ 63 ≤ R.locals) (hRc : cells ≤ R.cells ∧ slots ≤ R.slots) (hsz : ls.size = nL) (hrm : (rest.map fun v => v.category).sum ≤ 8) (hdg : decode cc pc = .ok (.invokeinterface 460 count, 5))
    (kk : ∀ (H1 : Heap) (locs1 : List Loc), xG A L g s σ1 H1 locs1 → W p l e R s m args below meth c H1 locs1 cells slots Q (F0 m (pc + 5) ls (.int r :: rest))) : W p l e R s m args below meth c H locs cells slots Q (F0 m pc ls (.int x :: .ref (g.2.2.1 b) :: rest)) := by
  have h8 := (hG.bd hb).1
  have hrc := x_rcb C0 hG hb
  have hfw := C0.2.2.2.2.2.2.2.2.2.1.2.2.2.1
  have hat := fun kd (h : kd < 8) => xb_known (L := L) h C0.2.2.2.2.2.1
  unfold fXv_countsIt at e1
  generalize xB σ b = kd at h8 hrc e1
  have h9 : kd = 0 ∨ kd = 1 ∨ kd = 2 ∨ kd = 3 ∨ kd = 4 ∨ kd = 5 ∨ kd = 6 ∨ kd = 7 := by omega
  rcases h9 with rfl | rfl | rfl | rfl | rfl | rfl | rfl | rfl
  · have e2 : fX_Beat_countsIt N σ b x = some (σ1, r) := e1
    exact x_cBF (C := RX14) (cC := L.2.2.1 14) (x := ⟨"EightLegs$Counts", "countsIt", "(I)I"⟩) (As := [.int x]) (rest := rest) (hat 0 h8) C0 hG (mtX_Beat_countsIt l hst e2) (lw_F q1216 q1220 q1222 q128 q1224) (hfw 0 h8).1 ⟨by decide, by decide, yd_X14_countsIt.2.2.2⟩ hrc ⟨by omega, by omega⟩ hRc rfl rfl hsz hrm hdg kk
  · have e2 : fX_Legs_countsIt N σ b x = some (σ1, r) := e1
    exact x_cBF (C := RX15) (cC := L.2.2.1 15) (x := ⟨"EightLegs$Counts", "countsIt", "(I)I"⟩) (As := [.int x]) (rest := rest) (hat 1 h8) C0 hG (mtX_Legs_countsIt l hst e2) (lw_F q1216 q1249 q1243 q129 q1245) (hfw 1 h8).1 ⟨by decide, by decide, yd_X15_countsIt.2.2.2⟩ hrc ⟨by omega, by omega⟩ hRc rfl rfl hsz hrm hdg kk
  · have e2 : fX_Beat_countsIt N σ b x = some (σ1, r) := e1
    exact x_cBF (C := RX16) (cC := L.2.2.1 16) (x := ⟨"EightLegs$Counts", "countsIt", "(I)I"⟩) (As := [.int x]) (rest := rest) (hat 2 h8) C0 hG (mtX_Beat_countsIt l hst e2) (lw_F q1216 q1230 q1222 q128 q1224) (hfw 2 h8).1 ⟨by decide, by decide, yd_X14_countsIt.2.2.2⟩ hrc ⟨by omega, by omega⟩ hRc rfl rfl hsz hrm hdg kk
  · have e2 : fX_Beat_countsIt N σ b x = some (σ1, r) := e1
    exact x_cBF (C := RX17) (cC := L.2.2.1 17) (x := ⟨"EightLegs$Counts", "countsIt", "(I)I"⟩) (As := [.int x]) (rest := rest) (hat 3 h8) C0 hG (mtX_Beat_countsIt l hst e2) (lw_F q1216 q1255 q1222 q128 q1224) (hfw 3 h8).1 ⟨by decide, by decide, yd_X14_countsIt.2.2.2⟩ hrc ⟨by omega, by omega⟩ hRc rfl rfl hsz hrm hdg kk
  · have e2 : fX_Legs_countsIt N σ b x = some (σ1, r) := e1
    exact x_cBF (C := RX18) (cC := L.2.2.1 18) (x := ⟨"EightLegs$Counts", "countsIt", "(I)I"⟩) (As := [.int x]) (rest := rest) (hat 4 h8) C0 hG (mtX_Legs_countsIt l hst e2) (lw_F q1216 q1252 q1243 q129 q1245) (hfw 4 h8).1 ⟨by decide, by decide, yd_X15_countsIt.2.2.2⟩ hrc ⟨by omega, by omega⟩ hRc rfl rfl hsz hrm hdg kk
  · have e2 : fX_Beat_countsIt N σ b x = some (σ1, r) := e1
    exact x_cBF (C := RX19) (cC := L.2.2.1 19) (x := ⟨"EightLegs$Counts", "countsIt", "(I)I"⟩) (As := [.int x]) (rest := rest) (hat 5 h8) C0 hG (mtX_Beat_countsIt l hst e2) (lw_F q1216 q1258 q1222 q128 q1224) (hfw 5 h8).1 ⟨by decide, by decide, yd_X14_countsIt.2.2.2⟩ hrc ⟨by omega, by omega⟩ hRc rfl rfl hsz hrm hdg kk
  · have e2 : fX_Echo_countsIt N σ b x = some (σ1, r) := e1
    exact x_cBF (C := RX20) (cC := L.2.2.1 20) (x := ⟨"EightLegs$Counts", "countsIt", "(I)I"⟩) (As := [.int x]) (rest := rest) (hat 6 h8) C0 hG (mtX_Echo_countsIt l hst e2) (lw_F q1216 q1233 q1235 q134 q1237) (hfw 6 h8).1 ⟨by decide, by decide, yd_X20_countsIt.2.2.2⟩ hrc ⟨by omega, by omega⟩ hRc rfl rfl hsz hrm hdg kk
  · have e2 : fX_Legs_countsIt N σ b x = some (σ1, r) := e1
    exact x_cBF (C := RX21) (cC := L.2.2.1 21) (x := ⟨"EightLegs$Counts", "countsIt", "(I)I"⟩) (As := [.int x]) (rest := rest) (hat 7 h8) C0 hG (mtX_Legs_countsIt l hst e2) (lw_F q1216 q1241 q1243 q129 q1245) (hfw 7 h8).1 ⟨by decide, by decide, yd_X15_countsIt.2.2.2⟩ hrc ⟨by omega, by omega⟩ hRc rfl rfl hsz hrm hdg kk
def fX_act (N : Nat) (σ : xS) (a0 : Int32) (a1 : Int32) (a2 : Int32) : Option (xS × Int32) :=
  nmv (xSi σ 39 0) fun σ_1 =>
  obi (fX_isBody N σ_1 a0) fun σ_2 r_3 =>
  if r_3 = 0 then (
    some (σ_2, 0))
  else (
    obi (fX_in N σ_2 a1 0 3) fun σ_6 r_7 =>
    if r_7 = 0 then (
      some (σ_6, 0))
    else (
      chk a0 50 <| chl a0.toNatClampNeg (xk σ_6) <| nmv a0.toNatClampNeg fun u_10 =>
      if a1 = 0 then (
        chl u_10 (xk σ_6) <| obi (fXv_countsIt N σ_6 u_10 a2) fun σ_29 r_30 =>
        some (σ_29, r_30))
      else (
        if a1 = 3 then (
          chl u_10 (xk σ_6) <| obi (fXv_tells N σ_6 u_10 a2) fun σ_24 r_25 =>
          some (σ_24, r_25))
        else (
          if a1 = 1 then (
            chl u_10 (xk σ_6) <| chB 0 (xB σ_6 u_10) <| obi (fXv_turns N σ_6 u_10 a2) fun σ_19 r_20 =>
            some (σ_19, r_20))
          else (
            chl u_10 (xk σ_6) <| chB 0 (xB σ_6 u_10) <| obi (fXv_sinks N σ_6 u_10 a2) fun σ_14 r_15 =>
            some (σ_14, r_15))))))
theorem bX_act_e {N : Nat} (C0 : xCx p l s m args meth c RX0 cX0_act 6 (some .int) L A) (hRo : 8 ≤ R.frames ∧ 169 ≤ R.locals) {σ' : xS} {r : Int32} (σ : xS) (a0 : Int32) (a1 : Int32) (a2 : Int32) (H : Heap) (locs : List Loc) (ls : Array Slot) (hG : xG A L g s σ H locs) (hl : lv_has ls 6 [(0, .ref L.1), (1, .int a0), (2, .int a1), (3, .int a2)]) (hF : fX_act N σ a0 a1 a2 = some (σ', r)) : W p l e R s m args below meth c H locs 0 0 (xZ below L g A s args σ' (some (.int r)) 0 0) (F0 m 0 ls []) := by
  have hx := C0.1
  have hb := C0.2.1
  have hst := C0.2.2.2.2.2.2.2.2.2.2
  unfold fX_act at hF
  refine lv_aload_n hx hb dX0_act_0 rfl (lv_at hl 0 rfl) ?_
  refine lv_iconst (v := 0) hx hb dX0_act_1 (by decide) ?_
  refine x_puti C0 hG 39 (by decide) rfl q215 dX0_act_2 (Or.inl (by decide)) hF (fun σ_1 H locs hG hF => ?_)
  refine lv_aload_n hx hb dX0_act_5 rfl (lv_at hl 0 rfl) ?_
  refine lv_iload_n hx hb dX0_act_6 rfl (lv_at hl 1 rfl) ?_
  obtain ⟨σ_2, r_3, e_4, hF⟩ := obi_of hF
  refine x_cVi0 (As := [.int a0]) (rest := []) C0 hG (mtX_isBody l hst e_4) (lw_V q1211 q1213 qs50 q100 q1214) yd_X0_isBody (x_rc0 C0 hG) ⟨by omega, by omega⟩ ⟨by omega, by omega⟩ rfl rfl hl.1 (Nat.le_of_ble_eq_true rfl) dX0_act_7 (fun H locs hG => ?_)
  refine lv_if_eq (tgt := 22) hx hb dX0_act_10 (by decide) (fun c_5 => ?_) (fun c_5 => ?_)
  · have hF := ifp hF c_5
    refine lv_iconst (v := 0) hx hb dX0_act_22 (by decide) ?_
    exact x_iret C0 hG ⟨by omega, by omega⟩ dX0_act_23 hF
  · have hF := ifn hF c_5
    refine lv_iload_n hx hb dX0_act_13 rfl (lv_at hl 2 rfl) ?_
    refine lv_iconst (v := 0) hx hb dX0_act_14 (by decide) ?_
    refine lv_iconst (v := 3) hx hb dX0_act_15 (by decide) ?_
    obtain ⟨σ_6, r_7, e_8, hF⟩ := obi_of hF
    refine x_cSi0 (As := [.int a1, .int 0, .int 3]) (rest := []) C0 hG (mtX_in l hst e_8) (lw_S q316 q317 q100 q318) yd_X0_in ⟨by omega, by omega⟩ ⟨by omega, by omega⟩ rfl rfl hl.1 (Nat.le_of_ble_eq_true rfl) dX0_act_16 (fun H locs hG => ?_)
    refine lv_if_ne (tgt := 24) hx hb dX0_act_19 (by decide) (fun c_9 => ?_) (fun c_9 => ?_)
    · have hF := ifn hF c_9
      refine lv_aload_n hx hb dX0_act_24 rfl (lv_at hl 0 rfl) ?_
      refine x_geta C0 hG 41 (by decide) rfl (by decide) q217 dX0_act_25 ?_
      refine lv_iload_n hx hb dX0_act_28 rfl (lv_at hl 1 rfl) ?_
      refine x_bdld C0 hG dX0_act_29 hF (fun u_10 hF => ?_)
      refine lv_astore (lv' := [(4, .ref (g.2.2.1 u_10)), (0, .ref L.1), (1, .int a0), (2, .int a1), (3, .int a2)]) hx hb dX0_act_30 hl (by decide) rfl (fun ls hl => ?_)
      refine lv_iload_n hx hb dX0_act_32 rfl (lv_at hl 3 rfl) ?_
      refine lv_if_ne (tgt := 49) hx hb dX0_act_33 (by decide) (fun c_11 => ?_) (fun c_11 => ?_)
      · have hF := ifn hF c_11
        refine lv_iload_n hx hb dX0_act_49 rfl (lv_at hl 3 rfl) ?_
        refine lv_iconst (v := 3) hx hb dX0_act_50 (by decide) ?_
        refine lv_icmp_ne (tgt := 67) hx hb dX0_act_51 (by decide) (fun c_12 => ?_) (fun c_12 => ?_)
        · have hF := ifn hF c_12
          refine lv_iload_n hx hb dX0_act_67 rfl (lv_at hl 3 rfl) ?_
          refine lv_iconst (v := 1) hx hb dX0_act_68 (by decide) ?_
          refine lv_icmp_ne (tgt := 81) hx hb dX0_act_69 (by decide) (fun c_13 => ?_) (fun c_13 => ?_)
          · have hF := ifn hF c_13
            refine lv_aload hx hb dX0_act_81 (lv_at hl 0 rfl) ?_
            refine lv_iload_n hx hb dX0_act_83 rfl (lv_at hl 4 rfl) ?_
            obtain ⟨h_17, hF⟩ := chl_of hF
            obtain ⟨h_18, hF⟩ := chB_of hF
            obtain ⟨σ_14, r_15, e_16, hF⟩ := obi_of hF
            refine site_X0_473 (rest := []) C0 hst hG h_17 h_18 e_16 ⟨by omega, by omega⟩ ⟨by omega, by omega⟩ hl.1 (Nat.le_of_ble_eq_true rfl) dX0_act_84 (fun H locs hG => ?_)
            exact x_iret C0 hG ⟨by omega, by omega⟩ dX0_act_87 hF
          · have hF := ifp hF c_13
            refine lv_aload hx hb dX0_act_72 (lv_at hl 0 rfl) ?_
            refine lv_iload_n hx hb dX0_act_74 rfl (lv_at hl 4 rfl) ?_
            obtain ⟨h_22, hF⟩ := chl_of hF
            obtain ⟨h_23, hF⟩ := chB_of hF
            obtain ⟨σ_19, r_20, e_21, hF⟩ := obi_of hF
            refine site_X0_470 (rest := []) C0 hst hG h_22 h_23 e_21 ⟨by omega, by omega⟩ ⟨by omega, by omega⟩ hl.1 (Nat.le_of_ble_eq_true rfl) dX0_act_75 (fun H locs hG => ?_)
            refine lv_goto (tgt := 87) hx hb dX0_act_78 (by decide) ?_
            exact x_iret C0 hG ⟨by omega, by omega⟩ dX0_act_87 hF
        · have hF := ifp hF c_12
          refine lv_aload hx hb dX0_act_54 (lv_at hl 0 rfl) ?_
          refine lv_astore (lv' := [(5, .ref (g.2.2.1 u_10)), (4, .ref (g.2.2.1 u_10)), (0, .ref L.1), (1, .int a0), (2, .int a1), (3, .int a2)]) hx hb dX0_act_56 hl (by decide) rfl (fun ls hl => ?_)
          refine lv_aload hx hb dX0_act_58 (lv_at hl 0 rfl) ?_
          refine lv_iload_n hx hb dX0_act_60 rfl (lv_at hl 5 rfl) ?_
          obtain ⟨h_27, hF⟩ := chl_of hF
          obtain ⟨σ_24, r_25, e_26, hF⟩ := obi_of hF
          refine siteF_465 (rest := []) C0 hst hG h_27 e_26 ⟨by omega, by omega⟩ ⟨by omega, by omega⟩ hl.1 (Nat.le_of_ble_eq_true rfl) dX0_act_61 (fun H locs hG => ?_)
          exact x_iret C0 hG ⟨by omega, by omega⟩ dX0_act_66 hF
      · have hF := ifp hF c_11
        refine lv_aload hx hb dX0_act_36 (lv_at hl 0 rfl) ?_
        refine lv_astore (lv' := [(5, .ref (g.2.2.1 u_10)), (4, .ref (g.2.2.1 u_10)), (0, .ref L.1), (1, .int a0), (2, .int a1), (3, .int a2)]) hx hb dX0_act_38 hl (by decide) rfl (fun ls hl => ?_)
        refine lv_aload hx hb dX0_act_40 (lv_at hl 0 rfl) ?_
        refine lv_iload_n hx hb dX0_act_42 rfl (lv_at hl 5 rfl) ?_
        obtain ⟨h_32, hF⟩ := chl_of hF
        obtain ⟨σ_29, r_30, e_31, hF⟩ := obi_of hF
        refine siteF_460 (rest := []) C0 hst hG h_32 e_31 ⟨by omega, by omega⟩ ⟨by omega, by omega⟩ hl.1 (Nat.le_of_ble_eq_true rfl) dX0_act_43 (fun H locs hG => ?_)
        exact x_iret C0 hG ⟨by omega, by omega⟩ dX0_act_48 hF
    · have hF := ifp hF c_9
      refine lv_iconst (v := 0) hx hb dX0_act_22 (by decide) ?_
      exact x_iret C0 hG ⟨by omega, by omega⟩ dX0_act_23 hF
theorem mtX_act (l : Launch) (hst : l.stackTraces = false) {N : Nat} {L : xL} {g : xg} {σ σ' : xS} {r : Int32} {a0 : Int32} {a1 : Int32} {a2 : Int32} (hF : fX_act N σ a0 a1 a2 = some (σ', r)) : xMet l yX0_act cX0_act 6 (some .int) (8) (169) 0 0 [.ref L.1, .int a0, .int a1, .int a2] L g σ (some (.int r)) σ' := by
  refine x_head hst (by decide) rfl ?_
  intro p e s m below meth c A C0 hG
  have hl := lv_entry ([.ref L.1, .int a0, .int a1, .int a2]) (n := 6) (Nat.le_of_ble_eq_true rfl)
  rw [lg_entry_eq]
  generalize (lg_sl ([.ref L.1, .int a0, .int a1, .int a2]) ++ List.replicate (6 - (lg_sl ([.ref L.1, .int a0, .int a1, .int a2])).length) Slot.unset).toArray = ls at hl ⊢
  have hl : lv_has ls 6 [(0, .ref L.1), (1, .int a0), (2, .int a1), (3, .int a2)] := hl
  exact bX_act_e C0 ⟨Nat.le_refl _, Nat.le_refl _⟩ _ _ _ _ _ [] ls hG hl hF
def fX_keep_b22 (N : Nat) (σ : xS) (x1 : Int32) (x2 : Int32) : Option (xS × Int32) :=
  if 0 ≤ x2 then (
    chk x2 50 <| chl x2.toNatClampNeg (xk σ) <| nmv x2.toNatClampNeg fun u_11 =>
    chl u_11 (xk σ) <| chk x1 6 <| nmv (xSh σ x1.toNatClampNeg (6 + u_11, 0, fun _ => 0)) fun σ_12 =>
    some (σ_12, 1))
  else (
    chk x1 6 <| nmv (xSh σ x1.toNatClampNeg (0, 0, fun _ => 0)) fun σ_13 =>
    some (σ_13, 1))
def fX_keep (N : Nat) (σ : xS) (a0 : Int32) (a1 : Int32) : Option (xS × Int32) :=
  obi (fX_isShelf N σ a0) fun σ_1 r_2 =>
  if r_2 = 0 then (
    some (σ_1, (-1)))
  else (
    if a1 = (-1) then (
      fX_keep_b22 N σ_1 a0 a1)
    else (
      obi (fX_isBody N σ_1 a1) fun σ_6 r_7 =>
      if r_7 = 0 then (
        some (σ_6, (-1)))
      else (
        fX_keep_b22 N σ_6 a0 a1)))
theorem bX_keep_22 {N : Nat} (C0 : xCx p l s m args meth c RX0 cX0_keep 3 (some .int) L A) (hRo : 2 ≤ R.frames ∧ 43 ≤ R.locals) {σ' : xS} {r : Int32} (σ : xS) (x1 : Int32) (x2 : Int32) (H : Heap) (locs : List Loc) (ls : Array Slot) (hG : xG A L g s σ H locs) (hl : lv_has ls 3 [(0, .ref L.1), (1, .int x1), (2, .int x2)]) (hF : fX_keep_b22 N σ x1 x2 = some (σ', r)) : W p l e R s m args below meth c H locs 0 0 (xZ below L g A s args σ' (some (.int r)) 0 0) (F0 m 22 ls []) := by
  have hx := C0.1
  have hb := C0.2.1
  have hst := C0.2.2.2.2.2.2.2.2.2.2
  unfold fX_keep_b22 at hF
  refine lv_aload_n hx hb dX0_keep_22 rfl (lv_at hl 0 rfl) ?_
  refine x_geta C0 hG 43 (by decide) rfl (by decide) q219 dX0_keep_23 ?_
  refine lv_iload_n hx hb dX0_keep_26 rfl (lv_at hl 1 rfl) ?_
  refine lv_iload_n hx hb dX0_keep_27 rfl (lv_at hl 2 rfl) ?_
  refine lv_if_ge (tgt := 35) hx hb dX0_keep_28 (by decide) (fun c_10 => ?_) (fun c_10 => ?_)
  · have hF := ifp hF c_10
    refine lv_aload_n hx hb dX0_keep_35 rfl (lv_at hl 0 rfl) ?_
    refine x_geta C0 hG 41 (by decide) rfl (by decide) q217 dX0_keep_36 ?_
    refine lv_iload_n hx hb dX0_keep_39 rfl (lv_at hl 2 rfl) ?_
    refine x_bdld C0 hG dX0_keep_40 hF (fun u_11 hF => ?_)
    refine x_shbd C0 hG dX0_keep_41 hF (fun σ_12 H locs hG hF => ?_)
    refine lv_iconst (v := 1) hx hb dX0_keep_42 (by decide) ?_
    exact x_iret C0 hG ⟨by omega, by omega⟩ dX0_keep_43 hF
  · have hF := ifn hF c_10
    refine lv_null hx hb dX0_keep_31 ?_
    refine lv_goto (tgt := 41) hx hb dX0_keep_32 (by decide) ?_
    refine x_shnl C0 hG dX0_keep_41 hF (fun σ_13 H locs hG hF => ?_)
    refine lv_iconst (v := 1) hx hb dX0_keep_42 (by decide) ?_
    exact x_iret C0 hG ⟨by omega, by omega⟩ dX0_keep_43 hF
theorem bX_keep_e {N : Nat} (C0 : xCx p l s m args meth c RX0 cX0_keep 3 (some .int) L A) (hRo : 2 ≤ R.frames ∧ 43 ≤ R.locals) {σ' : xS} {r : Int32} (σ : xS) (a0 : Int32) (a1 : Int32) (H : Heap) (locs : List Loc) (ls : Array Slot) (hG : xG A L g s σ H locs) (hl : lv_has ls 3 [(0, .ref L.1), (1, .int a0), (2, .int a1)]) (hF : fX_keep N σ a0 a1 = some (σ', r)) : W p l e R s m args below meth c H locs 0 0 (xZ below L g A s args σ' (some (.int r)) 0 0) (F0 m 0 ls []) := by
  have hx := C0.1
  have hb := C0.2.1
  have hst := C0.2.2.2.2.2.2.2.2.2.2
  unfold fX_keep at hF
  refine lv_iload_n hx hb dX0_keep_0 rfl (lv_at hl 1 rfl) ?_
  obtain ⟨σ_1, r_2, e_3, hF⟩ := obi_of hF
  refine x_cSi0 (As := [.int a0]) (rest := []) C0 hG (mtX_isShelf l hst e_3) (lw_S q489 q490 q100 q491) yd_X0_isShelf ⟨by omega, by omega⟩ ⟨by omega, by omega⟩ rfl rfl hl.1 (Nat.le_of_ble_eq_true rfl) dX0_keep_1 (fun H locs hG => ?_)
  refine lv_if_eq (tgt := 20) hx hb dX0_keep_4 (by decide) (fun c_4 => ?_) (fun c_4 => ?_)
  · have hF := ifp hF c_4
    refine lv_iconst (v := (-1)) hx hb dX0_keep_20 (by decide) ?_
    exact x_iret C0 hG ⟨by omega, by omega⟩ dX0_keep_21 hF
  · have hF := ifn hF c_4
    refine lv_iload_n hx hb dX0_keep_7 rfl (lv_at hl 2 rfl) ?_
    refine lv_iconst (v := (-1)) hx hb dX0_keep_8 (by decide) ?_
    refine lv_icmp_eq (tgt := 22) hx hb dX0_keep_9 (by decide) (fun c_5 => ?_) (fun c_5 => ?_)
    · have hF := ifp hF c_5
      exact bX_keep_22 C0 hRo _ _ _ H locs ls hG (lv_sub hl [0, 1, 2] rfl) hF
    · have hF := ifn hF c_5
      refine lv_aload_n hx hb dX0_keep_12 rfl (lv_at hl 0 rfl) ?_
      refine lv_iload_n hx hb dX0_keep_13 rfl (lv_at hl 2 rfl) ?_
      obtain ⟨σ_6, r_7, e_8, hF⟩ := obi_of hF
      refine x_cVi0 (As := [.int a1]) (rest := []) C0 hG (mtX_isBody l hst e_8) (lw_V q1211 q1213 qs50 q100 q1214) yd_X0_isBody (x_rc0 C0 hG) ⟨by omega, by omega⟩ ⟨by omega, by omega⟩ rfl rfl hl.1 (Nat.le_of_ble_eq_true rfl) dX0_keep_14 (fun H locs hG => ?_)
      refine lv_if_ne (tgt := 22) hx hb dX0_keep_17 (by decide) (fun c_9 => ?_) (fun c_9 => ?_)
      · have hF := ifn hF c_9
        exact bX_keep_22 C0 hRo _ _ _ H locs ls hG (lv_sub hl [0, 1, 2] rfl) hF
      · have hF := ifp hF c_9
        refine lv_iconst (v := (-1)) hx hb dX0_keep_20 (by decide) ?_
        exact x_iret C0 hG ⟨by omega, by omega⟩ dX0_keep_21 hF
theorem mtX_keep (l : Launch) (hst : l.stackTraces = false) {N : Nat} {L : xL} {g : xg} {σ σ' : xS} {r : Int32} {a0 : Int32} {a1 : Int32} (hF : fX_keep N σ a0 a1 = some (σ', r)) : xMet l yX0_keep cX0_keep 3 (some .int) (2) (43) 0 0 [.ref L.1, .int a0, .int a1] L g σ (some (.int r)) σ' := by
  refine x_head hst (by decide) rfl ?_
  intro p e s m below meth c A C0 hG
  have hl := lv_entry ([.ref L.1, .int a0, .int a1]) (n := 3) (Nat.le_of_ble_eq_true rfl)
  rw [lg_entry_eq]
  generalize (lg_sl ([.ref L.1, .int a0, .int a1]) ++ List.replicate (3 - (lg_sl ([.ref L.1, .int a0, .int a1])).length) Slot.unset).toArray = ls at hl ⊢
  have hl : lv_has ls 3 [(0, .ref L.1), (1, .int a0), (2, .int a1)] := hl
  exact bX_keep_e C0 ⟨Nat.le_refl _, Nat.le_refl _⟩ _ _ _ _ [] ls hG hl hF
end XKWALK
