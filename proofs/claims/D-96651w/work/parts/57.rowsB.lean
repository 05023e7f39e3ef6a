/-! Bodies: beats -/
def xbT (kd : Nat) : u_T := match kd with
  | 0 => TX14
  | 1 => TX15
  | 2 => TX16
  | 3 => TX17
  | 4 => TX18
  | 5 => TX19
  | 6 => TX20
  | _ => TX21
/-- where the field this$0 that class ci declares lies in an object of kind kd -/
def xbA (ci kd : Nat) : Nat := match ci with
  | 0 => 1
  | 1 => if kd = 1 ∨ kd = 4 ∨ kd = 7 then 2 else 0
  | 2 => if kd = 2 ∨ kd = 3 ∨ kd = 5 then 2 else 0
  | 3 => if kd = 3 ∨ kd = 5 then 3 else 0
  | 4 => if kd = 4 ∨ kd = 7 then 3 else 0
  | 5 => if kd = 5 then 4 else 0
  | 6 => if kd = 6 then 2 else 0
  | _ => if kd = 7 then 4 else 0
theorem xb_this0 : ∀ ci, ci < 8 → ∀ kd, kd < 8 → (xbA ci kd = 0 ∨ xbA ci kd < xbN kd) := by decide +kernel
theorem xb_this1 : ∀ ci, ci < 8 → ∀ kd, kd < 8 → (xbA ci kd = 0 ∨ (xbT kd (xbA ci kd)).1 = xbC ci) := by decide +kernel
theorem xb_this2 : ∀ ci, ci < 8 → ∀ kd, kd < 8 → (xbA ci kd = 0 ∨ (xbT kd (xbA ci kd)).2.1 = "this$0") := by decide +kernel
theorem xb_this3 : ∀ ci, ci < 8 → ∀ kd, kd < 8 → (xbA ci kd = 0 ∨ (xbT kd (xbA ci kd)).2.2.1 = "LEightLegs;") := by decide +kernel
theorem xb_num : ∀ kd, kd < 8 → 0 < xbN kd ∧ xbT kd 0 = (RX14, "number", "I", true) := by decide +kernel
theorem xb_Kn {s : State} {L : xL} {kd : Nat} (h : kd < 8) (hK : xK L s) : u_Kn s (xbC kd) (xbT kd) (xbN kd) (L.2.2.1 (14 + kd)) (L.2.2.2.1 (14 + kd)) := by
  match kd, h with
  | 0, _ => exact hK.1 14 rfl
  | 1, _ => exact hK.1 15 rfl
  | 2, _ => exact hK.1 16 rfl
  | 3, _ => exact hK.1 17 rfl
  | 4, _ => exact hK.1 18 rfl
  | 5, _ => exact hK.1 19 rfl
  | 6, _ => exact hK.1 20 rfl
  | 7, _ => exact hK.1 21 rfl
theorem xb_in {kd : Nat} (h : kd < 8) : ∀ w ∈ u_ws (xbC kd) (xbT kd) (xbN kd), w ∈ lw_all := by
  match kd, h with
  | 0, _ => exact in_X14
  | 1, _ => exact in_X15
  | 2, _ => exact in_X16
  | 3, _ => exact in_X17
  | 4, _ => exact in_X18
  | 5, _ => exact in_X19
  | 6, _ => exact in_X20
  | 7, _ => exact in_X21
def chB {α : Type} (ci kd : Nat) (o : Option α) : Option α := if xbA ci kd ≠ 0 then o else none
theorem chB_of {α : Type} {ci kd : Nat} {o : Option α} {r : α} (h : chB ci kd o = some r) : xbA ci kd ≠ 0 ∧ o = some r := by
  unfold chB at h
  split at h
  · exact ⟨by assumption, h⟩
  · cases h
/-! super.m(..), inherited by the superclass -/
section VSI
variable {p : Program} {l : Launch} {e : Env} {R : Room} {s : State} {m : MethodId} {args : Array Value} {below : List Frame} {meth : Method} {c : Code}
theorem va_callSI {T : State} {locs : List Loc} {cells slots : Nat} (X : Stand p l e R s m args below meth c T locs cells slots) (hexec : p.tables.exec = Jvm.exec) {own : String} {index : Nat} {x y : MethodName} {bytes : ByteArray} {maxL : Nat} {ret : Option FieldType}
    (hown : s.vm.findClass own = some m.cls) (hlink : (Cond.methodLink own index x).before args s = true) (hsame : (Cond.sameMethod x.cls y.cls x.name x.desc).before args s = true) (hsup : (Cond.superclass own x.cls).before args s = true)
    (hsub0 : ∀ c0 t1, s.vm.findClass x.cls = some c0 → s.vm.findClass y.cls = some t1 → s.vm.isSubclass c0 t1 = true) (hyx : y = ⟨y.cls, x.name, x.desc⟩)
    (hinst : (Cond.instanceMethod y).before args s = true) (hcode : (Cond.code y bytes maxL ret).before args s = true) (hno : x.name ≠ "<init>")
    {W : Nat} {Pre : Pt → Array Value → Prop} {Post : Pt → Array Value → Option Value → Pt → Prop} (hK : Back l R p e below s args y 3 W Pre Post)
    {b : Addr} {cellB : Cell} {kB : Class} (hcell : T.heap[b]? = some cellB) (hobj : cellB.vm.isStatics = false) (hkB : s.vm.classes[cellB.cls]? = some kB)
    {g : JFrame} (hg : g.method = m) (hsize : g.locals.size = c.maxLocals) {argsL rest : List Value} (hlen : ∀ sig, parseMethodDescriptor y.desc = some sig → argsL.length = sig.parameters.length)
    (hstack : g.stack = argsL.reverse ++ .ref b :: rest) (hW : 2 * g.monitorRoom + (rest.map fun v => v.category).sum ≤ W) (hdg : decode c.code g.pc = .ok (.invokespecial index, 3))
    (hpre : ∀ vm₁, s.WarmedH vm₁ → Pre ⟨T.setVm vm₁, locs, cells, slots⟩ (Value.ref b :: argsL).toArray) :
    ∃ (v : Option Value) (vm₁ : Vm) (B : Pt), s.WarmedH vm₁ ∧ Stand p l e R s m args below meth c B.U B.locs B.cells B.slots ∧ Post ⟨T.setVm vm₁, locs, cells, slots⟩ (Value.ref b :: argsL).toArray v B ∧
      ∀ target, Steps p.tables e below (B.U.setTop { g with pc := g.pc + 3, stack := v.toList ++ rest }) target → Steps p.tables e below (T.setTop g) target := by
  obtain ⟨mk, methM, hnamed, hmethM, hstM, habM⟩ := Cond.instanceMethod_spec hinst
  obtain ⟨methM', cM, hmethM', -, -, -, -, -, -, hsigM⟩ := Cond.code_spec hnamed hcode
  cases hmethM.symm.trans hmethM'
  obtain ⟨ps, dk, kp, hps, hdk, hkp, hsuper, -, -, hnid⟩ := Cond.superclass_spec hown hsup
  have hn : s.methodNamed? ⟨y.cls, x.name, x.desc⟩ = some mk := by rw [← hyx]; exact hnamed
  have hsub : s.vm.isSubclass ps mk.cls = true := hsub0 _ _ hps (findClass_of_methodNamed hnamed)
  obtain ⟨vm₁, X₁, hstep₁⟩ := X.invokespecialUp hexec (owner := y.cls) hown hlink hsame hn hmethM hstM habM hno hdk hnid hps hsuper hsub (a := b) (cell := cellB) hcell
    (fun z h => by rw [h] at hobj; cases hobj) hkB (g := g) hg (argsL := argsL) (rest := rest) (hlen _ hsigM) hstack hdg
  obtain ⟨v, B, X', hpost, hsteps⟩ := hK m meth c ⟨T.setVm vm₁, locs, cells, slots⟩ { g with stack := rest } (.invokespecial index) mk (Value.ref b :: argsL).toArray X₁ hg hsize hdg hW (X₁.named hnamed) (hpre vm₁ X₁.warmed)
  exact ⟨v, vm₁, B, X₁.warmed, X', hpost, fun target h => hstep₁ _ (by rw [doInvoke_state]; exact hsteps.trans h)⟩
/-- castable to a class that isn't an interface: a subclass -/
theorem va_subOf {C D D2 : String} {cC cD : ClassId} (hC : ClassAt s C cC) (hD : ClassAt s D cD) (hcast : va_Nw (.castable C D) s) (hsup : (Cond.superclass D D2).before args s = true) : ∀ c0 t1, s.vm.findClass C = some c0 → s.vm.findClass D = some t1 → s.vm.isSubclass c0 t1 = true := by
  intro c0 t1 h1 h2
  obtain ⟨x0, y0, f1, f2, f3⟩ := Cond.castable_spec (va_Nw.use (A := #[]) rfl hcast)
  cases h1.symm.trans f1
  cases h2.symm.trans f2
  cases h1.symm.trans hC.1
  obtain ⟨kC, hkC, kindC⟩ := hC.2
  obtain ⟨ps, dk, kp, hps, hdk, hkp, -, kindD, -, hni⟩ := Cond.superclass_spec h2 hsup
  unfold Vm.assignable at f3
  rw [show (256 : Nat) = 255 + 1 from rfl] at f3
  unfold Vm.assignableAux at f3
  rw [hkC, hdk] at f3
  simp only [kindC, kindD, hni] at f3
  by_cases he : cC = t1
  · rw [← he]
    simp [Vm.isSubclass, Vm.isSubclassAux]
  · simp [he] at f3
    exact f3
variable {H : Heap} {locs : List Loc} {cells slots : Nat}
theorem va_runSI {x y : MethodName} {bytes cc : ByteArray} {maxL nL mc ms n index : Nat} {ret : Option FieldType} {ws : List Cond} {rm : Room} {Pc : Array Value → State → Prop} {Qc : Array Value → State → Outcome → State → Prop} {free : Addr → Prop} {Ts : List Cond} {own C : String} {cC : ClassId} {b : Addr} {As rest : List Value} {g : JFrame}
    (hat : ClassAt s C cC) (S : CallFix p m c cc nL s args Ts own) (hM : Met l y ws rm Pc Qc mc ms free)
    (hlink : (Cond.methodLink own index x).before args s = true) (hsame : (Cond.sameMethod x.cls y.cls x.name x.desc).before args s = true) (hsup : (Cond.superclass own x.cls).before args s = true)
    (hsub0 : ∀ c0 t1, s.vm.findClass x.cls = some c0 → s.vm.findClass y.cls = some t1 → s.vm.isSubclass c0 t1 = true) (hyx : y = ⟨y.cls, x.name, x.desc⟩)
    (cw : (rm.cells = mc ∧ rm.slots = ms ∧ rm.frames + 1 ≤ R.frames ∧ 8 + (maxL + 11) + rm.locals ≤ R.locals ∧ (∀ w ∈ ws, ∀ (a' : Array Value) (U : State), s.WarmedH U.vm → w.before a' U = true) ∧ Cond.code y bytes maxL ret ∈ ws) ∧ (Cond.instanceMethod y).before args s = true ∧ (Cond.initialized y.cls).before args s = true ∧ (Cond.code y bytes maxL ret).before args s = true ∧ x.name ≠ "<init>" ∧ (∀ sig, parseMethodDescriptor y.desc = some sig → n = sig.parameters.length)) (hp : PreV s H C b Pc As)
    (hg : g.method = m) (hn : As.length = n) (hsize : g.locals.size = nL) (hstack : g.stack = As.reverse ++ .ref b :: rest) (hW : 2 * g.monitorRoom + (rest.map fun v => v.category).sum ≤ 8) (hdg : decode cc g.pc = .ok (.invokespecial index, 3)) (hf : cells + mc ≤ R.cells ∧ slots + ms ≤ R.slots) :
    va_Run p l e R s m args below meth c H locs cells slots mc ms g rest (Qc (Value.ref b :: As).toArray) (free) := by
  obtain ⟨⟨hrc, hrs, hfr, hlo, hws, hcw⟩, hl4, hini, hcode, hno, hlen⟩ := cw
  have hK : Back l R p e below s args y 3 8 (PreOf R mc ms Pc) (PostOf Qc mc ms free) := back_of (bytes := bytes) (maxL := maxL) (ret := ret) hM hp.1 hrc hrs hfr hlo hws hcw (fun a' U hW => word_at hW (Or.inl (by first | rfl | simp [Cond.onTables, Cond.keeps, Cond.steady])) hini)
  obtain ⟨hx, hb, hml, ho, -⟩ := S
  obtain ⟨-, ⟨cellB, hcB, hoB, hclB⟩, hPc⟩ := hp
  obtain ⟨hfc, kB, hkB, -⟩ := hat
  cases hfc.symm.trans hclB
  intro T hT X
  obtain ⟨v, vm₁, ⟨U', l2, c2, s2⟩, hW₁, X', ⟨g', mk, t, L, e1, e2, hq, h1, hL, h2, h3⟩, st⟩ := va_callSI X hx (bytes := bytes) (maxL := maxL) (ret := ret) ho hlink hsame hsup hsub0 hyx hl4 hcode hno hK (by rw [hT]; exact hcB) hoB hkB hg (hsize.trans hml.symm) (argsL := As) (rest := rest) (fun sig h => hn.trans (hlen sig h)) hstack hW (by rw [hb]; exact hdg)
    (fun vm₁ hW₁ => ⟨hf.1, hf.2, hPc (T.setVm vm₁) hT hW₁⟩)
  dsimp only [Pt.U, Pt.locs, Pt.cells, Pt.slots] at X' e1 e2 h1 h2 h3 st
  subst h1; subst h2; subst h3
  exact ⟨v, (T.setVm vm₁).calling g' mk (Value.ref b :: As).toArray, t, U', L, hT, X', hL, e1, e2, hq, st⟩
end VSI
section XBROWS
variable {p : Program} {l : Launch} {e : Env} {R : Room} {s : State} {m : MethodId} {args : Array Value} {below : List Frame} {meth : Method} {c : Code} {H : Heap} {locs : List Loc} {cells slots mc ms : Nat} {Q : State → Prop}
variable {own : String} {cc : ByteArray} {nL : Nat} {ret : Option FieldType} {pc : Nat} {ls : Array Slot} {rest : List Value} {A : Nat → Prop} {L : xL} {g : xg} {σ : xS}
theorem xG.bd (hG : xG A L g s σ H locs) {b : Nat} (hb : b < xk σ) : xB σ b < 8 ∧ t_OB (g.2.2.1 b) (L.2.2.1 (14 + xB σ b)) (xbN (xB σ b)) (L.2.2.2.1 (14 + xB σ b)) H (fun k => if k = 0 then .int (nI b) else .ref L.1) := hG.1.2.2.2.2.1.2.1.2.2 b hb
theorem x_bdnum (C0 : xCx p l s m args meth c RX14 cc nL ret L A) (hG : xG A L g s σ H locs) {idx b : Nat} (hq : Cond.fieldLink RX14 idx RX14 "number" "I" ∈ lw_all) (hdg : decode cc pc = .ok (.getfield idx, 3)) {β : Type} {f : Int32 → Option β} {z : β} (hF : chl b (xk σ) (nmv (nI b) f) = some z)
    (kk : ∀ x : Int32, f x = some z → W p l e R s m args below meth c H locs cells slots Q (F0 m (pc + 3) ls (.int x :: rest))) : W p l e R s m args below meth c H locs cells slots Q (F0 m pc ls (.ref (g.2.2.1 b) :: rest)) := by
  obtain ⟨hx, hb, hml, hown, hts, hK, hA, -⟩ := C0
  obtain ⟨hn, hF⟩ := chl_of hF
  obtain ⟨h8, hO⟩ := hG.bd hn
  obtain ⟨n1, n2⟩ := xb_num _ h8
  refine o_get hx hb hts (xb_in h8) hown (xb_Kn h8 hK) hO 0 n1 (ref := RX14) (by rw [n2]; exact hts _ hq) (by rw [n2]) hdg ?_
  exact kk _ hF
theorem x_bdthis {ci : Nat} (C0 : xCx p l s m args meth c own cc nL ret L A) (hG : xG A L g s σ H locs) (hci : ci < 8) (hxc : xbC ci = own) {idx b : Nat} (hq : Cond.fieldLink own idx own "this$0" "LEightLegs;" ∈ lw_all) (hdg : decode cc pc = .ok (.getfield idx, 3)) (hn : b < xk σ) (hA0 : xbA ci (xB σ b) ≠ 0)
    (kk : W p l e R s m args below meth c H locs cells slots Q (F0 m (pc + 3) ls (.ref L.1 :: rest))) : W p l e R s m args below meth c H locs cells slots Q (F0 m pc ls (.ref (g.2.2.1 b) :: rest)) := by
  obtain ⟨hx, hb, hml, hown, hts, hK, hA, -⟩ := C0
  obtain ⟨h8, hO⟩ := hG.bd hn
  have n1 := (xb_this0 ci hci _ h8).resolve_left hA0
  have n2 := (xb_this1 ci hci _ h8).resolve_left hA0
  have n3 := (xb_this2 ci hci _ h8).resolve_left hA0
  have n4 := (xb_this3 ci hci _ h8).resolve_left hA0
  refine o_get hx hb hts (xb_in h8) hown (xb_Kn h8 hK) hO _ n1 (ref := own) (by rw [n3, n4]; exact hts _ hq) (n2.trans hxc) hdg ?_
  show W p l e R s m args below meth c H locs cells slots Q (F0 m (pc + 3) ls ((if xbA ci (xB σ b) = 0 then Value.int (nI b) else .ref L.1) :: rest))
  rw [if_neg hA0]
  exact kk
theorem x_rcb (C0 : xCx p l s m args meth c own cc nL ret L A) (hG : xG A L g s σ H locs) {b : Nat} (hn : b < xk σ) : ∃ cell : Cell, H[g.2.2.1 b]? = some cell ∧ cell.vm.isStatics = false ∧ s.vm.findClass (xbC (xB σ b)) = some cell.cls := by
  obtain ⟨h8, hO⟩ := hG.bd hn
  exact o_recv (xb_Kn h8 C0.2.2.2.2.2.1) hO
/-- EightLegs.ran, from a beat -/
theorem x_cVN {C : String} {b k n' : Nat} {st0 As : List Value} {σ1 : xS} {y : MethodName} {cy : ByteArray} {ny n idx fr lo : Nat} {ry : Option FieldType} {host : String} (C0 : xCx p l s m args meth c own cc nL ret L A) (hG : xG A L g s σ H locs) (hM : xMet l y cy ny ry fr lo k n' (.ref b :: As) L g σ none σ1) (hcd : Cond.code y cy ny ry ∈ lw_all) (hini : Cond.initialized y.cls ∈ lw_all) (hq : Cond.methodLinkNest own idx y host ∈ lw_tbl) (hin : Cond.instanceMethod y ∈ lw_all) (hsel : Cond.selects C y y ∈ lw_all) (hd : y.cls = C ∧ y.cls ≠ "java/lang/invoke/MethodHandle" ∧ y.cls ≠ "java/lang/invoke/VarHandle" ∧ (parseMethodDescriptor y.desc).map (fun d => d.parameters.length) = some n)
    (hrc : ∃ cell : Cell, H[b]? = some cell ∧ cell.vm.isStatics = false ∧ s.vm.findClass C = some cell.cls) (hR : fr + 1 ≤ R.frames ∧ 8 + (ny + 11) + lo ≤ R.locals) (hRc : cells + k ≤ R.cells ∧ slots + n' ≤ R.slots) (hst : st0 = As.reverse ++ .ref b :: rest) (hn : As.length = n) (hsz : ls.size = nL) (hrm : (rest.map fun v => v.category).sum ≤ 8) (hdg : decode cc pc = .ok (.invokevirtual idx, 3))
    (kk : ∀ (H1 : Heap) (locs1 : List Loc), xG A L g s σ1 H1 locs1 → W p l e R s m args below meth c H1 locs1 (cells + k) (slots + n') Q (F0 m (pc + 3) ls rest)) : W p l e R s m args below meth c H locs cells slots Q (F0 m pc ls st0) := by
  have hts := C0.2.2.2.2.1
  refine x_call (v := none) (a := (Value.ref b :: As).toArray) C0 hG ?_ kk
  exact va_runVN (As := As) (rest := rest) (C := C) (host := host) ⟨C0.1, C0.2.1, C0.2.2.1, C0.2.2.2.1, hts⟩ (hM H.size) ⟨va_cnB n hts (lw_meth hcd) rfl rfl rfl (C0.2.2.2.2.2.2.2.2.2.1.1.2.1 _ _ _ _ hq) (hts _ hini) ⟨hd.2.1, hd.2.2.1, hd.2.2.2⟩ hR, hts _ hin, hts _ hsel⟩ ⟨xBlind, hrc, xPre C0 hG⟩ rfl hn hsz hst (lv_room hrm) hdg hRc
/-- a virtual call on a beat of a kind -/
theorem x_cBV {C owner : String} {b : Nat} {st0 As : List Value} {r : Int32} {σ1 : xS} {x y : MethodName} {cy : ByteArray} {ny n idx fr lo : Nat} {ry : Option FieldType} {b0 : ByteArray} {m0 : Nat} {r0 : Option FieldType} (C0 : xCx p l s m args meth c own cc nL ret L A) (hG : xG A L g s σ H locs) (hM : xMet l y cy ny ry fr lo 0 0 (.ref b :: As) L g σ (some (.int r)) σ1) (hw : GoodIn lw_all (va_wsO own idx C owner x y (ws_ y cy ny ry))) (h0 : Cond.code ⟨owner, x.name, x.desc⟩ b0 m0 r0 ∈ lw_all) (hd : owner ≠ "java/lang/invoke/MethodHandle" ∧ owner ≠ "java/lang/invoke/VarHandle" ∧ (parseMethodDescriptor x.desc).map (fun d => d.parameters.length) = some n)
    (hrc : ∃ cell : Cell, H[b]? = some cell ∧ cell.vm.isStatics = false ∧ s.vm.findClass C = some cell.cls) (hR : fr + 1 ≤ R.frames ∧ 8 + (ny + 11) + lo ≤ R.locals) (hRc : cells ≤ R.cells ∧ slots ≤ R.slots) (hst : st0 = As.reverse ++ .ref b :: rest) (hn : As.length = n) (hsz : ls.size = nL) (hrm : (rest.map fun v => v.category).sum ≤ 8) (hdg : decode cc pc = .ok (.invokevirtual idx, 3))
    (kk : ∀ (H1 : Heap) (locs1 : List Loc), xG A L g s σ1 H1 locs1 → W p l e R s m args below meth c H1 locs1 cells slots Q (F0 m (pc + 3) ls (.int r :: rest))) : W p l e R s m args below meth c H locs cells slots Q (F0 m pc ls st0) := by
  have hts := C0.2.2.2.2.1
  refine x_call (v := some (.int r)) (k := 0) (n := 0) (a := (Value.ref b :: As).toArray) C0 hG ?_ kk
  exact va_runU (As := As) (rest := rest) (C := C) (owner := owner) ⟨C0.1, C0.2.1, C0.2.2.1, C0.2.2.2.1, hts⟩ (hM H.size) (va_cwO n hts hw rfl rfl rfl h0 hd hR) ⟨xBlind, hrc, xPre C0 hG⟩ rfl hn hsz hst (lv_room hrm) hdg ⟨hRc.1, hRc.2⟩
/-- super.m(..) on a beat -/
theorem x_cBS {b : Nat} {st0 As : List Value} {r : Int32} {σ1 : xS} {y : MethodName} {cy : ByteArray} {ny n idx fr lo : Nat} {ry : Option FieldType} (C0 : xCx p l s m args meth c own cc nL ret L A) (hG : xG A L g s σ H locs) (hb : b < xk σ) (hM : xMet l y cy ny ry fr lo 0 0 (.ref (g.2.2.1 b) :: As) L g σ (some (.int r)) σ1) (hw : GoodIn lw_all (va_wsSU own idx y (ws_ y cy ny ry))) (hd : y.name ≠ "<init>" ∧ (parseMethodDescriptor y.desc).map (fun d => d.parameters.length) = some n)
    (hR : fr + 1 ≤ R.frames ∧ 8 + (ny + 11) + lo ≤ R.locals) (hRc : cells ≤ R.cells ∧ slots ≤ R.slots) (hst : st0 = As.reverse ++ .ref (g.2.2.1 b) :: rest) (hn : As.length = n) (hsz : ls.size = nL) (hrm : (rest.map fun v => v.category).sum ≤ 8) (hdg : decode cc pc = .ok (.invokespecial idx, 3))
    (kk : ∀ (H1 : Heap) (locs1 : List Loc), xG A L g s σ1 H1 locs1 → W p l e R s m args below meth c H1 locs1 cells slots Q (F0 m (pc + 3) ls (.int r :: rest))) : W p l e R s m args below meth c H locs cells slots Q (F0 m pc ls st0) := by
  have hts := C0.2.2.2.2.1
  refine x_call (v := some (.int r)) (k := 0) (n := 0) (a := (Value.ref (g.2.2.1 b) :: As).toArray) C0 hG ?_ kk
  exact va_runSU (As := As) (rest := rest) (xb_known (hG.bd hb).1 C0.2.2.2.2.2.1) ⟨C0.1, C0.2.1, C0.2.2.1, C0.2.2.2.1, hts⟩ (hM H.size) (va_cwSU n hts hw rfl rfl rfl hd hR) ⟨xBlind, x_rcb C0 hG hb, xPre C0 hG⟩ rfl hn hsz hst (lv_room hrm) hdg ⟨hRc.1, hRc.2⟩
/-- .. that the superclass inherits from Beat -/
theorem x_cBI {b ci : Nat} {st0 As : List Value} {r : Int32} {σ1 : xS} {x y : MethodName} {cy : ByteArray} {ny n idx fr lo : Nat} {ry : Option FieldType} (C0 : xCx p l s m args meth c own cc nL ret L A) (hG : xG A L g s σ H locs) (hb : b < xk σ) (hM : xMet l y cy ny ry fr lo 0 0 (.ref (g.2.2.1 b) :: As) L g σ (some (.int r)) σ1)
    (hlink : Cond.methodLink own idx x ∈ lw_all) (hsame : Cond.sameMethod x.cls y.cls x.name x.desc ∈ lw_all) (hsup : Cond.superclass own x.cls ∈ lw_all) (hci : ci < 8) (hxc : x.cls = xbC ci) (hyc : y.cls = RX14) (hcast : Cond.castable x.cls RX14 ∈ lw_tbl) (hsupB : Cond.superclass RX14 "EightLegs$Held" ∈ lw_all) (hyx : y = ⟨y.cls, x.name, x.desc⟩) (hw : GoodIn lw_all (ws_ y cy ny ry)) (hin : Cond.instanceMethod y ∈ lw_all) (hini : Cond.initialized y.cls ∈ lw_all) (hcd : Cond.code y cy ny ry ∈ lw_all) (hd : x.name ≠ "<init>" ∧ (parseMethodDescriptor y.desc).map (fun d => d.parameters.length) = some n)
    (hR : fr + 1 ≤ R.frames ∧ 8 + (ny + 11) + lo ≤ R.locals) (hRc : cells ≤ R.cells ∧ slots ≤ R.slots) (hst : st0 = As.reverse ++ .ref (g.2.2.1 b) :: rest) (hn : As.length = n) (hsz : ls.size = nL) (hrm : (rest.map fun v => v.category).sum ≤ 8) (hdg : decode cc pc = .ok (.invokespecial idx, 3))
    (kk : ∀ (H1 : Heap) (locs1 : List Loc), xG A L g s σ1 H1 locs1 → W p l e R s m args below meth c H1 locs1 cells slots Q (F0 m (pc + 3) ls (.int r :: rest))) : W p l e R s m args below meth c H locs cells slots Q (F0 m pc ls st0) := by
  have hts := C0.2.2.2.2.1
  have hK := C0.2.2.2.2.2.1
  refine x_call (v := some (.int r)) (k := 0) (n := 0) (a := (Value.ref (g.2.2.1 b) :: As).toArray) C0 hG ?_ kk
  refine va_runSI (As := As) (rest := rest) (x := x) (xb_known (hG.bd hb).1 hK) ⟨C0.1, C0.2.1, C0.2.2.1, C0.2.2.2.1, hts⟩ (hM H.size) (hts _ hlink) (hts _ hsame) (hts _ hsup) ?_ hyx ⟨⟨rfl, rfl, hR.1, hR.2, pay_in hts hw, List.mem_cons_self⟩, hts _ hin, hts _ hini, hts _ hcd, hd.1, fun sig h => ?_⟩ ⟨xBlind, x_rcb C0 hG hb, xPre C0 hG⟩ rfl hn hsz hst (lv_room hrm) hdg ⟨hRc.1, hRc.2⟩
  · rw [hxc] at hcast
    rw [hxc, hyc]
    exact va_subOf (args := args) (xb_known hci hK) (xb_known (kd := 0) (by decide) hK) (C0.2.2.2.2.2.2.2.2.2.1.1.2.2.1 _ _ hcast) (hts _ hsupB)
  · have h2 := hd.2
    rw [h] at h2
    exact (Option.some.inj h2).symm
end XBROWS
theorem lw_O {own : String} {idx : Nat} {C owner : String} {x y : MethodName} {b : ByteArray} {L : Nat} {r : Option FieldType} (h1 : Cond.methodLink own idx x ∈ lw_all) (h2 : Cond.sameMethod x.cls owner x.name x.desc ∈ lw_all) (h3 : Cond.instanceMethod ⟨owner, x.name, x.desc⟩ ∈ lw_all) (h4 : Cond.selects C x y ∈ lw_all) (h5 : Cond.instanceMethod y ∈ lw_all) (h6 : Cond.initialized y.cls ∈ lw_all) (h7 : Cond.code y b L r ∈ lw_all) : GoodIn lw_all (va_wsO own idx C owner x y (ws_ y b L r)) := by
  refine lw_app ?_ (lw_meth h7)
  intro w hw
  simp only [List.mem_cons, List.not_mem_nil, or_false] at hw
  rcases hw with e | e | e | e | e | e
  · rw [e]; exact h1
  · rw [e]; exact h2
  · rw [e]; exact h3
  · rw [e]; exact h4
  · rw [e]; exact h5
  · rw [e]; exact h6
theorem lw_SU {own : String} {idx : Nat} {y : MethodName} {b : ByteArray} {L : Nat} {r : Option FieldType} (h1 : Cond.methodLink own idx y ∈ lw_all) (h2 : Cond.sameMethod y.cls y.cls y.name y.desc ∈ lw_all) (h3 : Cond.superclass own y.cls ∈ lw_all) (h4 : Cond.instanceMethod y ∈ lw_all) (h5 : Cond.initialized y.cls ∈ lw_all) (h7 : Cond.code y b L r ∈ lw_all) : GoodIn lw_all (va_wsSU own idx y (ws_ y b L r)) := by
  refine lw_app ?_ (lw_meth h7)
  intro w hw
  simp only [List.mem_cons, List.not_mem_nil, or_false] at hw
  rcases hw with e | e | e | e | e
  · rw [e]; exact h1
  · rw [e]; exact h2
  · rw [e]; exact h3
  · rw [e]; exact h4
  · rw [e]; exact h5
