def ceI {α : Type} (a b : Int32) (o : Option α) : Option α := if a = b then o else none
theorem ceI_of {α : Type} {a b : Int32} {o : Option α} {r : α} (h : ceI a b o = some r) : a = b ∧ o = some r := by
  unfold ceI at h
  split at h
  · exact ⟨by assumption, h⟩
  · cases h
/-! methods that answer a fresh object -/
def xQn (L : xL) (g : xg) (σ : xS) (P : Nat → Heap → Prop) (A : Nat → Prop) : Array Value → State → Outcome → State → Prop := fun _ st oc t => (∃ q : Nat, oc = .returned (some (.ref q)) ∧ xW L g σ t.heap ∧ st.heap.size ≤ q ∧ q < t.heap.size ∧ P q t.heap) ∧ va_F A st t
def xMetn (l : Launch) (y : MethodName) (cc : ByteArray) (nL : Nat) (ret : Option FieldType) (fr lo mc ms : Nat) (av : List Value) (L : xL) (g : xg) (σ : xS) (P : Nat → Heap → Prop) (σ' : xS) : Prop :=
  ∀ sz : Nat, Met l y (ws_ y cc nL ret) ({ frames := fr, cells := mc, slots := ms, locals := lo }) (va_Pc av (fun U => U.heap.size = sz ∧ xW L g σ U.heap ∧ xK L U ∧ xSt (xA g sz) U)) (xQn L g σ' P (xA g sz)) mc ms (xA g sz)
abbrev xZn (below : List Frame) (L : xL) (g : xg) (A : Nat → Prop) (s : State) (args : Array Value) (σ : xS) (P : Nat → Heap → Prop) (mc ms : Nat) : State → Prop := MQ below (xQn L g σ P A) args s mc ms A
section XIROWS
variable {p : Program} {l : Launch} {e : Env} {R : Room} {s : State} {m : MethodId} {args : Array Value} {below : List Frame} {meth : Method} {c : Code} {H : Heap} {locs : List Loc} {cells slots mc ms : Nat} {Q : State → Prop}
variable {own : String} {cc : ByteArray} {nL : Nat} {ret : Option FieldType} {pc : Nat} {ls : Array Slot} {rest : List Value} {A : Nat → Prop} {L : xL} {g : xg} {σ : xS} {P : Nat → Heap → Prop}
theorem x_aretn {rt : FieldType} (C0 : xCx p l s m args meth c own cc nL (some rt) L A) (hrt : (∃ n, rt = .object n) ∨ ∃ t, rt = .array t) (hG : xG A L g s σ H locs) (hcs : cells ≤ mc ∧ slots ≤ ms) {q : Nat} (hq : xFr s A g H q) (hP : P q H) (hdg : decode cc pc = .ok (.areturn, 1)) : W p l e R s m args below meth c H locs cells slots (xZn below L g A s args σ P mc ms) (F0 m pc ls [.ref q]) :=
  W.widen hcs.1 hcs.2 (W.aret C0.1 C0.2.1 C0.2.2.2.2.2.2.2.1 hrt (Or.inr ⟨q, rfl⟩) (fun t ht hW => ⟨⟨q, rfl, by rw [ht]; exact hG.1, hq.2.2.2, by rw [ht]; exact hq.2.1, by rw [ht]; exact hP⟩, hG.2.1.F ht⟩) hG.2.1.2.2 hdg C0.2.2.2.2.2.2.2.2.1)
theorem x_calln {k n : Nat} {st0 : List Value} {a : Array Value} {σ1 : xS} (C0 : xCx p l s m args meth c own cc nL ret L A) (hG : xG A L g s σ H locs) (hr : va_Run p l e R s m args below meth c H locs cells slots k n (F0 m pc ls st0) rest (xQn L g σ1 P (xA g H.size) a) (xA g H.size))
    (kk : ∀ (q : Nat) (H1 : Heap) (locs1 : List Loc), xG A L g s σ1 H1 locs1 → xFr s A g H1 q → P q H1 → W p l e R s m args below meth c H1 locs1 (cells + k) (slots + n) Q (F0 m (pc + 3) ls (.ref q :: rest))) : W p l e R s m args below meth c H locs cells slots Q (F0 m pc ls st0) := by
  intro T hT X
  have hsub := xA_sub hG C0.2.2.2.2.2.2.1
  have hA := C0.2.2.2.2.2.2.1
  obtain ⟨hGW, hS, hGA⟩ := hG
  obtain ⟨v', st₀, t, T', Lc, h0, X', hL, e1, e2, ⟨⟨q, hv, hw, hq1, hq2, hq3⟩, hz, hk⟩, st⟩ := hr T hT X
  cases hv
  rw [h0] at hz hk hq1
  have hq0 : xT g q = 0 := Decidable.not_not.mp (fun h => absurd (hGW.2.2.2.2.2.2 _ h) (by omega))
  obtain ⟨t2, a1, b1⟩ := kk q T'.heap (locs ++ Lc) ⟨by rw [e1]; exact hw,
    ⟨Nat.le_trans hS.1 (by rw [e1]; exact hz), fun q h1 h2 => by rw [e1, hk q (Nat.lt_of_lt_of_le h1 hS.1) (fun z => h2 (hsub q z))]; exact hS.2.1 q h1 h2, fun q hq => by
      rcases List.mem_append.mp hq with h | h
      · exact hS.2.2 q h
      · exact hsub _ (hL q h)⟩, hGA⟩ ⟨hq0, by rw [e1]; exact hq2, hA _ (Nat.le_trans hS.1 hq1), Nat.le_trans hS.1 hq1⟩ (by rw [e1]; exact hq3) T' rfl X'
  exact ⟨t2, st t2 a1, b1⟩
theorem x_cVn {C : String} {b k n' : Nat} {st0 As : List Value} {σ1 : xS} {y : MethodName} {cy : ByteArray} {ny n idx fr lo : Nat} {ry : Option FieldType} (C0 : xCx p l s m args meth c own cc nL ret L A) (hG : xG A L g s σ H locs) (hM : xMetn l y cy ny ry fr lo k n' (.ref b :: As) L g σ P σ1) (hw : GoodIn lw_all (wsV own idx C y (ws_ y cy ny ry))) (hd : y.cls = C ∧ y.cls ≠ "java/lang/invoke/MethodHandle" ∧ y.cls ≠ "java/lang/invoke/VarHandle" ∧ (parseMethodDescriptor y.desc).map (fun d => d.parameters.length) = some n)
    (hrc : ∃ cell : Cell, H[b]? = some cell ∧ cell.vm.isStatics = false ∧ s.vm.findClass C = some cell.cls) (hR : fr + 1 ≤ R.frames ∧ 8 + (ny + 11) + lo ≤ R.locals) (hRc : cells + k ≤ R.cells ∧ slots + n' ≤ R.slots) (hst : st0 = As.reverse ++ .ref b :: rest) (hn : As.length = n) (hsz : ls.size = nL) (hrm : (rest.map fun v => v.category).sum ≤ 8) (hdg : decode cc pc = .ok (.invokevirtual idx, 3))
    (kk : ∀ (q : Nat) (H1 : Heap) (locs1 : List Loc), xG A L g s σ1 H1 locs1 → xFr s A g H1 q → P q H1 → W p l e R s m args below meth c H1 locs1 (cells + k) (slots + n') Q (F0 m (pc + 3) ls (.ref q :: rest))) : W p l e R s m args below meth c H locs cells slots Q (F0 m pc ls st0) := by
  refine x_calln (a := (Value.ref b :: As).toArray) C0 hG ?_ kk
  exact va_runV (As := As) (rest := rest) ⟨C0.1, C0.2.1, C0.2.2.1, C0.2.2.2.1, C0.2.2.2.2.1⟩ (hM H.size) (cwV n C0.2.2.2.2.1 hw rfl rfl rfl hd hR) ⟨xBlind, hrc, xPre C0 hG⟩ rfl hn hsz hst (lv_room hrm) hdg hRc
theorem x_headn {y : MethodName} {own : String} {av : List Value} {σ1 : xS} {fr lo : Nat} (hl : l.stackTraces = false) (hy : plainName y.cls = true) (hcls : y.cls = own)
    (body : ∀ (p : Program) (e : Env) (s : State) (m : MethodId) (below : List Frame) (meth : Method) (c : Code) (A : Nat → Prop), xCx p l s m av.toArray meth c own cc nL ret L A → xG A L g s σ s.heap [] → W p l e ({ frames := fr, cells := mc, slots := ms, locals := lo }) s m av.toArray below meth c s.heap [] 0 0 (xZn below L g A s av.toArray σ1 P mc ms) (entryFrame m av.toArray nL)) : xMetn l y cc nL ret fr lo mc ms av L g σ P σ1 := by
  intro sz
  refine Met.ofW (cc := cc) (maxL := nL) (ret := ret) hy rfl ?_
  intro p e s m args below meth c s₁ B hml hv
  obtain ⟨rfl, hsz, hW, hK, hst⟩ := hv
  subst hsz
  have hts := atoms_spec (ws := ws_ y cc nL ret) B.pre
  have hown : s.vm.findClass own = some m.cls := by rw [← hcls]; exact findClass_of_methodNamed B.named
  exact body p e s m below meth c (xA g s.heap.size) ⟨B.exec, B.bytes, hml, hown, fun w h => hts w (List.mem_cons_of_mem _ h), hK, fun q h => Or.inr h, B.returns, B.notSynchronized, hst, hl⟩ ⟨hW, va_S.rf, fun q h => Or.inl h⟩
theorem xb_known {kd : Nat} (h : kd < 8) (hK : xK L s) : ClassAt s (xbC kd) (L.2.2.1 (14 + kd)) := by
  match kd, h with
  | 0, _ => exact (hK.1 14 rfl).2
  | 1, _ => exact (hK.1 15 rfl).2
  | 2, _ => exact (hK.1 16 rfl).2
  | 3, _ => exact (hK.1 17 rfl).2
  | 4, _ => exact (hK.1 18 rfl).2
  | 5, _ => exact (hK.1 19 rfl).2
  | 6, _ => exact (hK.1 20 rfl).2
  | 7, _ => exact (hK.1 21 rfl).2
theorem xb_beat {kd : Nat} (h : kd < 8) (hK : xK L s) (hN : xNw s) (comp : ClassId) (hc : s.vm.findClass RX14 = some comp) : s.vm.assignable (L.2.2.1 (14 + kd)) comp = true := by
  have h0 : s.vm.assignable (L.2.2.1 14) comp = true := by
    have e1 : s.vm.findClass RX14 = some (L.2.2.1 14) := (hK.1 14 rfl).2.1
    have e2 : comp = L.2.2.1 14 := Option.some.inj (hc.symm.trans e1)
    rw [e2]
    exact va_assign (hK.1 14 rfl).2
  have h1 : s.vm.assignable (L.2.2.1 15) comp = true := vb_asgC (C := RX15) (E := RX14) (hN.2.2.1 RX15 RX14 q2169) comp (L.2.2.1 15) hc (hK.1 15 rfl).2.1
  have h2 : s.vm.assignable (L.2.2.1 16) comp = true := vb_asgC (C := RX16) (E := RX14) (hN.2.2.1 RX16 RX14 q2166) comp (L.2.2.1 16) hc (hK.1 16 rfl).2.1
  have h3 : s.vm.assignable (L.2.2.1 17) comp = true := vb_asgC (C := RX17) (E := RX14) (hN.2.2.1 RX17 RX14 q2171) comp (L.2.2.1 17) hc (hK.1 17 rfl).2.1
  have h4 : s.vm.assignable (L.2.2.1 18) comp = true := vb_asgC (C := RX18) (E := RX14) (hN.2.2.1 RX18 RX14 q2170) comp (L.2.2.1 18) hc (hK.1 18 rfl).2.1
  have h5 : s.vm.assignable (L.2.2.1 19) comp = true := vb_asgC (C := RX19) (E := RX14) (hN.2.2.1 RX19 RX14 q2172) comp (L.2.2.1 19) hc (hK.1 19 rfl).2.1
  have h6 : s.vm.assignable (L.2.2.1 20) comp = true := vb_asgC (C := RX20) (E := RX14) (hN.2.2.1 RX20 RX14 q2167) comp (L.2.2.1 20) hc (hK.1 20 rfl).2.1
  have h7 : s.vm.assignable (L.2.2.1 21) comp = true := vb_asgC (C := RX21) (E := RX14) (hN.2.2.1 RX21 RX14 q2168) comp (L.2.2.1 21) hc (hK.1 21 rfl).2.1
  match kd, h with
  | 0, _ => exact h0
  | 1, _ => exact h1
  | 2, _ => exact h2
  | 3, _ => exact h3
  | 4, _ => exact h4
  | 5, _ => exact h5
  | 6, _ => exact h6
  | 7, _ => exact h7
theorem xb_held {kd : Nat} (h : kd < 8) (hK : xK L s) (hN : xNw s) (comp : ClassId) (hc : s.vm.findClass RX13 = some comp) : s.vm.assignable (L.2.2.1 (14 + kd)) comp = true := by
  have h0 : s.vm.assignable (L.2.2.1 14) comp = true := vb_asgC (C := RX14) (E := RX13) (hN.2.2.1 RX14 RX13 q2180) comp (L.2.2.1 14) hc (hK.1 14 rfl).2.1
  have h1 : s.vm.assignable (L.2.2.1 15) comp = true := vb_asgC (C := RX15) (E := RX13) (hN.2.2.1 RX15 RX13 q2173) comp (L.2.2.1 15) hc (hK.1 15 rfl).2.1
  have h2 : s.vm.assignable (L.2.2.1 16) comp = true := vb_asgC (C := RX16) (E := RX13) (hN.2.2.1 RX16 RX13 q2174) comp (L.2.2.1 16) hc (hK.1 16 rfl).2.1
  have h3 : s.vm.assignable (L.2.2.1 17) comp = true := vb_asgC (C := RX17) (E := RX13) (hN.2.2.1 RX17 RX13 q2175) comp (L.2.2.1 17) hc (hK.1 17 rfl).2.1
  have h4 : s.vm.assignable (L.2.2.1 18) comp = true := vb_asgC (C := RX18) (E := RX13) (hN.2.2.1 RX18 RX13 q2176) comp (L.2.2.1 18) hc (hK.1 18 rfl).2.1
  have h5 : s.vm.assignable (L.2.2.1 19) comp = true := vb_asgC (C := RX19) (E := RX13) (hN.2.2.1 RX19 RX13 q2177) comp (L.2.2.1 19) hc (hK.1 19 rfl).2.1
  have h6 : s.vm.assignable (L.2.2.1 20) comp = true := vb_asgC (C := RX20) (E := RX13) (hN.2.2.1 RX20 RX13 q2178) comp (L.2.2.1 20) hc (hK.1 20 rfl).2.1
  have h7 : s.vm.assignable (L.2.2.1 21) comp = true := vb_asgC (C := RX21) (E := RX13) (hN.2.2.1 RX21 RX13 q2179) comp (L.2.2.1 21) hc (hK.1 21 rfl).2.1
  match kd, h with
  | 0, _ => exact h0
  | 1, _ => exact h1
  | 2, _ => exact h2
  | 3, _ => exact h3
  | 4, _ => exact h4
  | 5, _ => exact h5
  | 6, _ => exact h6
  | 7, _ => exact h7
theorem x_bdst (C0 : xCx p l s m args meth c own cc nL ret L A) (hG : xG A L g s σ H locs) {q : Nat} (hq : xFr s A g H q) {kd : Nat} (hO : xBody L H kd (xk σ) q) {i : Int32} (hdg : decode cc pc = .ok (.aastore, 1)) {β : Type} {f : xS → Option β} {z : β} (hF : chk i 50 (ceq i.toNatClampNeg (xk σ) (nmv (xSb σ kd) f)) = some z)
    (kk : ∀ (g1 : xg) (σ1 : xS) (H1 : Heap) (locs1 : List Loc), xG A L g1 s σ1 H1 locs1 → f σ1 = some z → W p l e R s m args below meth c H1 locs1 cells slots Q (F0 m (pc + 1) ls rest)) : W p l e R s m args below meth c H locs cells slots Q (F0 m pc ls (.ref q :: .int i :: .ref (L.2.1 41) :: rest)) := by
  obtain ⟨hx, hb, hml, hown, hts, hK, hA, hr, hlk, hst, -⟩ := C0
  obtain ⟨hin, hF⟩ := chk_of hF
  obtain ⟨hn, hF⟩ := ceq_of hF
  have hlt : i.toNatClampNeg < 50 := Nat.not_le.mp fun q => hin (Or.inr q)
  have hc := hG.1.2.2.2.2.1.2.1.1
  rw [vp_cell_q] at hc
  obtain ⟨h8, cellV, g1, g2, g3, g4⟩ := hO
  have hcls := xb_known h8 hK
  refine o_aast hx hb hc (hK.2 7 (by decide)).2 g1 g3 (fun comp hcomp => ?_) hin hdg fun H1 e1 z1 o1 => ?_
  · obtain ⟨kC, hkC, -⟩ := hcls.2
    rw [g2]
    exact ⟨xb_beat h8 hK hst.1 comp hcomp, kC, hkC⟩
  · rw [hn] at e1
    refine kk _ _ H1 _ ⟨hG.1.pushB (by rw [← hn]; exact hlt) hq.1 hq.2.1 ⟨h8, cellV, g1, g2, g3, g4⟩ e1 z1 o1, hG.2.1.put z1 o1 (hG.ownk (by decide) (by decide) (Or.inl rfl)), fun a ha => ?_⟩ hF
    by_cases haq : a = q
    · rw [haq]; exact hq.2.2.1
    · exact hG.2.2 a (fun z => ha ((va_up_n haq).trans z))
end XIROWS
