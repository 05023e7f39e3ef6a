/-! Bodies called from the class; shelves stored -/
abbrev xSh (σ : xS) (j : Nat) (h : Nat × Nat × (Nat → Int64)) : xS := (σ.1, σ.2.1, σ.2.2.1, σ.2.2.2.1, σ.2.2.2.2.1, σ.2.2.2.2.2.1, σ.2.2.2.2.2.2.1, σ.2.2.2.2.2.2.2.1, va_up (xH σ) j h, σ.2.2.2.2.2.2.2.2.2)
theorem xW.putS {L : xL} {g : xg} {σ : xS} {H H1 : Heap} (h : xW L g σ H) {j : Nat} (hj : j < 6) {k : Nat × Nat × (Nat → Int64)} (hk : k.1 = 0 ∨ (6 ≤ k.1 ∧ k.1 - 6 < xk σ))
    (ea : H1[L.2.1 43]? = some (arrV (L.2.2.2.2 8) 6 (updV (fun i => va_rf (if i < 6 then xShR g i (xH σ i) else none)) j (va_rf (xShR g j k))))) (oz : H1.size = H.size) (oq : ∀ a, a ≠ L.2.1 43 → H1[a]? = H[a]?) : xW L g (xSh σ j k) H1 := by
  obtain ⟨h1, h2, h3, ⟨h4, h5, h6⟩, ⟨⟨a1, a2, a3⟩, ⟨b1, b2, b3⟩, ⟨c1, c2⟩, d1, d2⟩, h8, h9⟩ := h
  have h8' := h8
  obtain ⟨l1, l2, l3, l4, l5⟩ := h8
  have l0 := l2 43 (by decide) (by decide) (Or.inl rfl)
  refine ⟨h1.kept (x_oq g oq ?_), fun i hi ja => ?_, h3.kept (x_oq g oq ?_), ⟨(x_oq g oq ?_).trans h4, h5, fun i hi => (h6 i hi).kept (x_oq g oq ?_)⟩, ⟨⟨(x_oq g oq ?_).trans a1, a2, fun i hi => (a3 i hi).kept (x_oq g oq ?_)⟩, ⟨(x_oq g oq ?_).trans b1, b2, fun i hi => ⟨(b3 i hi).1, (b3 i hi).2.kept (x_oq g oq ?_)⟩⟩, ⟨?_, fun i hi => ?_⟩, xLine.kept (fun a ha => x_oq g oq ?_) _ _ d1, d2⟩, h8', fun a ha => ?_⟩
  · rw [l1, l0]; decide
  · rw [x_oq g oq (by rw [l0, l2 i hi (xPa_44 i hi ja).2.1 (xPa_44 i hi ja).1]; have := (xPa_44 i hi ja).2.2.2.2.2.1; omega), h2 i hi ja]
  · rw [l0, l2 11 (by decide) (by decide) (Or.inl rfl)]; decide
  · rw [l0, l2 0 (by decide) (by decide) (Or.inl rfl)]; decide
  · rw [l0, l3 i hi]; omega
  · rw [l0, l2 5 (by decide) (by decide) (Or.inl rfl)]; decide
  · rw [l0, l4 i hi]; decide
  · rw [l0, l2 41 (by decide) (by decide) (Or.inl rfl)]; decide
  · rw [l0, l5 i hi]; decide
  · rw [ea, vp_cell_q]
    congr 2
    funext i
    show (if i = j then va_rf (xShR g j k) else va_rf (if i < 6 then xShR g i (xH σ i) else none)) = va_rf (if i < 6 then xShR g i (va_up (xH σ) j k i) else none)
    by_cases hij : i = j
    · subst hij
      rw [if_pos rfl, if_pos hj, va_up_s]
    · rw [if_neg hij, va_up_n hij]
  · show xShelf L g (xk σ) H1 i (va_up (xH σ) j k i)
    by_cases hij : i = j
    · subst hij
      rw [va_up_s]
      exact ⟨fun x y => absurd hk (by omega), fun x => by omega⟩
    · rw [va_up_n hij]
      exact xShelf.kept (fun q hq => x_oq g oq (by rw [l0]; omega)) (c2 i hi)
  · rw [l0, ha]; decide
  · rw [oz]; exact h9 a ha
section XKROWS
variable {p : Program} {l : Launch} {e : Env} {R : Room} {s : State} {m : MethodId} {args : Array Value} {below : List Frame} {meth : Method} {c : Code} {H : Heap} {locs : List Loc} {cells slots mc ms : Nat} {Q : State → Prop}
variable {own : String} {cc : ByteArray} {nL : Nat} {ret : Option FieldType} {pc : Nat} {ls : Array Slot} {rest : List Value} {A : Nat → Prop} {L : xL} {g : xg} {σ : xS}
/-- a body out of the row of bodies -/
theorem x_bdld (C0 : xCx p l s m args meth c own cc nL ret L A) (hG : xG A L g s σ H locs) {i : Int32} (hdg : decode cc pc = .ok (.aaload, 1)) {β : Type} {f : Nat → Option β} {z : β} (hF : chk i 50 (chl i.toNatClampNeg (xk σ) (nmv i.toNatClampNeg f)) = some z)
    (kk : ∀ u : Nat, f u = some z → W p l e R s m args below meth c H locs cells slots Q (F0 m (pc + 1) ls (.ref (g.2.2.1 u) :: rest))) : W p l e R s m args below meth c H locs cells slots Q (F0 m pc ls (.int i :: .ref (L.2.1 41) :: rest)) := by
  obtain ⟨hx, hb, hml, hown, hts, hK, hA, hr, hlk, -⟩ := C0
  obtain ⟨hin, hF⟩ := chk_of hF
  obtain ⟨hn, hF⟩ := chl_of hF
  have hlt : i.toNatClampNeg < 50 := Nat.not_le.mp fun q => hin (Or.inr q)
  have hc := hG.1.2.2.2.2.1.2.1.1
  rw [vp_cell_q] at hc
  have kk := kk _ hF
  exact W.aald (v := .ref (g.2.2.1 i.toNatClampNeg)) (ty := .object "EightLegs$Beat") hx hb hc ((hK.2 7 (by decide)).1 _ _) rfl (fun q => by cases q) (by rw [arrV_size]; exact hin) (by rw [arrV_read _ _ hlt, if_pos hn]; rfl) rfl rfl hdg kk
theorem x_call5 {k n : Nat} {st0 : List Value} {a : Array Value} {v : Option Value} {σ1 : xS} (C0 : xCx p l s m args meth c own cc nL ret L A) (hG : xG A L g s σ H locs) (hr : va_Run5 p l e R s m args below meth c H locs cells slots k n (F0 m pc ls st0) rest (xQ L g σ1 v (xA g H.size) a) (xA g H.size))
    (kk : ∀ (H1 : Heap) (locs1 : List Loc), xG A L g s σ1 H1 locs1 → W p l e R s m args below meth c H1 locs1 (cells + k) (slots + n) Q (F0 m (pc + 5) ls (v.toList ++ rest))) : W p l e R s m args below meth c H locs cells slots Q (F0 m pc ls st0) := by
  intro T hT X
  have hsub := xA_sub hG C0.2.2.2.2.2.2.1
  obtain ⟨hGW, hS, hGA⟩ := hG
  obtain ⟨v', st₀, t, T', Lc, h0, X', hL, e1, e2, ⟨⟨hv, hw⟩, hz, hk⟩, st⟩ := hr T hT X
  cases hv
  rw [h0] at hz hk
  obtain ⟨t2, a1, b1⟩ := kk T'.heap (locs ++ Lc) ⟨by rw [e1]; exact hw,
    ⟨Nat.le_trans hS.1 (by rw [e1]; exact hz), fun q h1 h2 => by rw [e1, hk q (Nat.lt_of_lt_of_le h1 hS.1) (fun z => h2 (hsub q z))]; exact hS.2.1 q h1 h2, fun q hq => by
      rcases List.mem_append.mp hq with h | h
      · exact hS.2.2 q h
      · exact hsub _ (hL q h)⟩, hGA⟩ T' rfl X'
  exact ⟨t2, st t2 a1, b1⟩
/-- a call through an interface on a beat -/
theorem x_cBF {C : String} {b count : Nat} {st0 As : List Value} {r : Int32} {σ1 : xS} {x y : MethodName} {cy : ByteArray} {ny n idx fr lo : Nat} {ry : Option FieldType} {cC : ClassId} (hat : ClassAt s C cC) (C0 : xCx p l s m args meth c own cc nL ret L A) (hG : xG A L g s σ H locs) (hM : xMet l y cy ny ry fr lo 0 0 (.ref b :: As) L g σ (some (.int r)) σ1) (hw : GoodIn lw_all (va_wsF own idx C x y (ws_ y cy ny ry))) (hF : va_Fw C x y s) (hd : x.cls ≠ "java/lang/invoke/MethodHandle" ∧ x.cls ≠ "java/lang/invoke/VarHandle" ∧ (parseMethodDescriptor x.desc).map (fun d => d.parameters.length) = some n)
    (hrc : ∃ cell : Cell, H[b]? = some cell ∧ cell.vm.isStatics = false ∧ s.vm.findClass C = some cell.cls) (hR : fr + 1 ≤ R.frames ∧ 8 + (ny + 11) + lo ≤ R.locals) (hRc : cells ≤ R.cells ∧ slots ≤ R.slots) (hst : st0 = As.reverse ++ .ref b :: rest) (hn : As.length = n) (hsz : ls.size = nL) (hrm : (rest.map fun v => v.category).sum ≤ 8) (hdg : decode cc pc = .ok (.invokeinterface idx count, 5))
    (kk : ∀ (H1 : Heap) (locs1 : List Loc), xG A L g s σ1 H1 locs1 → W p l e R s m args below meth c H1 locs1 cells slots Q (F0 m (pc + 5) ls (.int r :: rest))) : W p l e R s m args below meth c H locs cells slots Q (F0 m pc ls st0) := by
  have hts := C0.2.2.2.2.1
  refine x_call5 (v := some (.int r)) (k := 0) (n := 0) (a := (Value.ref b :: As).toArray) C0 hG ?_ kk
  exact va_runF (As := As) (rest := rest) (C := C) hat ⟨C0.1, C0.2.1, C0.2.2.1, C0.2.2.2.1, hts⟩ (hM H.size) (va_cwF n hts hw rfl rfl rfl hF hd hR) ⟨xBlind, hrc, xPre C0 hG⟩ rfl hn hsz hst (lv_room hrm) hdg ⟨hRc.1, hRc.2⟩
/-- a body, nothing, onto a shelf -/
theorem x_shbd (C0 : xCx p l s m args meth c own cc nL ret L A) (hG : xG A L g s σ H locs) {u : Nat} {i : Int32} (hdg : decode cc pc = .ok (.aastore, 1)) {β : Type} {f : xS → Option β} {z : β} (hF : chl u (xk σ) (chk i 6 (nmv (xSh σ i.toNatClampNeg (6 + u, 0, fun _ => 0)) f)) = some z)
    (kk : ∀ (σ1 : xS) (H1 : Heap) (locs1 : List Loc), xG A L g s σ1 H1 locs1 → f σ1 = some z → W p l e R s m args below meth c H1 locs1 cells slots Q (F0 m (pc + 1) ls rest)) : W p l e R s m args below meth c H locs cells slots Q (F0 m pc ls (.ref (g.2.2.1 u) :: .int i :: .ref (L.2.1 43) :: rest)) := by
  obtain ⟨hx, hb, hml, hown, hts, hK, hA, hr, hlk, hst, -⟩ := C0
  obtain ⟨hu, hF⟩ := chl_of hF
  obtain ⟨hin, hF⟩ := chk_of hF
  have hlt : i.toNatClampNeg < 6 := Nat.not_le.mp fun q => hin (Or.inr q)
  have hc := hG.1.2.2.2.2.1.2.2.1.1
  rw [vp_cell_q] at hc
  obtain ⟨h8, cellV, g1, g2, g3, g4⟩ := hG.bd hu
  have hcls := xb_known h8 hK
  refine o_aast hx hb hc (hK.2 8 (by decide)).2 g1 g3 (fun comp hcomp => ?_) hin hdg fun H1 e1 z1 o1 => ?_
  · obtain ⟨kC, hkC, -⟩ := hcls.2
    rw [g2]
    exact ⟨xb_held h8 hK hst.1 comp hcomp, kC, hkC⟩
  · refine kk _ H1 _ ⟨hG.1.putS hlt (Or.inr ⟨by show 6 ≤ 6 + u; omega, by show 6 + u - 6 < xk σ; omega⟩) ?_ z1 o1, hG.2.1.put z1 o1 (hG.ownk (by decide) (by decide) (Or.inl rfl)), hG.2.2⟩ hF
    have e2 : xShR g i.toNatClampNeg (6 + u, 0, fun _ => 0) = some (g.2.2.1 u) := by
      unfold xShR
      rw [if_neg (by show ¬ 6 + u = 0; omega), if_neg (by show ¬ 6 + u < 6; omega), show (6 + u, 0, fun _ => (0 : Int64)).1 - 6 = u from by show 6 + u - 6 = u; omega]
    rw [e2]
    exact e1
theorem x_shnl (C0 : xCx p l s m args meth c own cc nL ret L A) (hG : xG A L g s σ H locs) {i : Int32} (hdg : decode cc pc = .ok (.aastore, 1)) {β : Type} {f : xS → Option β} {z : β} (hF : chk i 6 (nmv (xSh σ i.toNatClampNeg (0, 0, fun _ => 0)) f) = some z)
    (kk : ∀ (σ1 : xS) (H1 : Heap) (locs1 : List Loc), xG A L g s σ1 H1 locs1 → f σ1 = some z → W p l e R s m args below meth c H1 locs1 cells slots Q (F0 m (pc + 1) ls rest)) : W p l e R s m args below meth c H locs cells slots Q (F0 m pc ls (.null :: .int i :: .ref (L.2.1 43) :: rest)) := by
  obtain ⟨hx, hb, hml, hown, hts, hK, hA, hr, hlk, hst, -⟩ := C0
  obtain ⟨hin, hF⟩ := chk_of hF
  have hlt : i.toNatClampNeg < 6 := Nat.not_le.mp fun q => hin (Or.inr q)
  have hc := hG.1.2.2.2.2.1.2.2.1.1
  rw [vp_cell_q] at hc
  refine va_WaastN (C := "EightLegs$Held") hx hb hc ((hK.2 8 (by decide)).1 _ _) (fun q => by cases q) (by rw [arrV_size]; exact hin) rfl rfl hdg fun H1 e1 z1 o1 => ?_
  rw [arrV_store] at e1
  exact kk _ H1 _ ⟨hG.1.putS (k := (0, 0, fun _ => 0)) hlt (Or.inl rfl) e1 z1 o1, hG.2.1.put z1 o1 (hG.ownk (by decide) (by decide) (Or.inl rfl)), hG.2.2⟩ hF
end XKROWS
theorem lw_F {own : String} {idx : Nat} {C : String} {x y : MethodName} {b : ByteArray} {L : Nat} {r : Option FieldType} (h1 : Cond.methodLink own idx x ∈ lw_all) (h2 : Cond.selects C x y ∈ lw_all) (h3 : Cond.instanceMethod y ∈ lw_all) (h4 : Cond.initialized y.cls ∈ lw_all) (h5 : Cond.code y b L r ∈ lw_all) : GoodIn lw_all (va_wsF own idx C x y (ws_ y b L r)) := by
  refine lw_app ?_ (lw_meth h5)
  intro w hw
  simp only [List.mem_cons, List.not_mem_nil, or_false] at hw
  rcases hw with e | e | e | e
  · rw [e]; exact h1
  · rw [e]; exact h2
  · rw [e]; exact h3
  · rw [e]; exact h4
