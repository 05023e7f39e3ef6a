section CGROWS
variable {p : Program} {l : Launch} {e : Env} {R : Room} {s : State} {m : MethodId} {args : Array Value} {below : List Frame} {meth : Method} {c : Code} {H : Heap} {locs : List Loc} {cells slots : Nat} {Q : State → Prop}
variable {cc : ByteArray} {pc : Nat} {ls : Array Slot} {rest : List Value}
theorem u_apartD {args : Array Value} {s : State} {C O f d O' f' d' : String} (h : (Cond.laysFinal C O f d).before args s = true) (h' : (Cond.laysFinal C O' f' d').before args s = true)
    {cf kf fi fd cf' kf' fi' fd'} (hi : s.fieldFound? O f d = some (cf, kf, fi, fd)) (hi' : s.fieldFound? O' f' d' = some (cf', kf', fi', fd')) (hne : O ≠ O') : fd.slot ≠ fd'.slot := by
  obtain ⟨c, k, c1, k1, i1, f1, r1, r2, e1, -, -, -, o1, -, dd, hd, n1, -, -⟩ := Cond.laysFinal_spec h
  obtain ⟨c', k', c2, k2, i2, f2, r1', r2', e2, -, -, -, o2, -, dd', hd', n2, -, -⟩ := Cond.laysFinal_spec h'
  cases hi.symm.trans e1
  cases hi'.symm.trans e2
  cases r1.symm.trans r1'
  intro hs
  rw [hs] at hd
  cases hd.symm.trans hd'
  obtain ⟨ka, ha, na⟩ := Vm.findClass_spec o1
  obtain ⟨kb, hb, nb⟩ := Vm.findClass_spec o2
  cases ha.symm.trans (State.fieldFound?_class hi)
  cases hb.symm.trans (State.fieldFound?_class hi')
  exact hne (na.symm.trans (n1.symm.trans (n2.trans nb)))
theorem o_apartG {C : String} {T : u_T} {N : Nat} {cC : ClassId} {iS : Nat → Nat} (hts : ∀ w ∈ lw_all, w.before args s = true) (hin : ∀ w ∈ u_ws C T N, w ∈ lw_all) (ty : Nat → FieldType) (hty : ∀ k, k < N → parseFieldDescriptor (T k).2.2.1 = some (ty k)) (hnm : ∀ a, a < N → ∀ b, b < N → a ≠ b → (T a).2.1 ≠ (T b).2.1 ∨ ((T a).2.2.2 = true ∧ (T b).2.2.2 = true ∧ (T a).1 ≠ (T b).1)) (hK : u_Kn s C T N cC iS) : ∀ x y, x < N → y < N → x ≠ y → iS x ≠ iS y := by
  intro x y hx hy hne
  obtain ⟨hS, -⟩ := hK
  obtain ⟨_, _, _, fa, hia, ea⟩ := hS x hx
  obtain ⟨_, _, _, fb, hib, eb⟩ := hS y hy
  rw [← ea, ← eb]
  rcases hnm x hx y hy hne with h | ⟨h1, h2, h3⟩
  · refine u_apart (u_lays hts hin hx) (u_lays hts hin hy) hia hib ?_
    rw [(State.fieldFound?_type hia (hty x hx)).1, (State.fieldFound?_type hib (hty y hy)).1]
    exact h
  · have w1 := hts _ (hin _ (u_in_lay hx))
    have w2 := hts _ (hin _ (u_in_lay hy))
    unfold u_lay at w1 w2
    rw [if_pos h1] at w1
    rw [if_pos h2] at w2
    exact u_apartD w1 w2 hia hib h3
theorem o_putG (hexec : p.tables.exec = Jvm.exec) (hb : c.code = cc) {own C ref : String} {T : u_T} {N a index : Nat} {cC : ClassId} {iS : Nat → Nat} {V : Nat → Value} (hts : ∀ w ∈ lw_all, w.before args s = true) (hin : ∀ w ∈ u_ws C T N, w ∈ lw_all) (ty0 : Nat → FieldType) (hty : ∀ k, k < N → parseFieldDescriptor (T k).2.2.1 = some (ty0 k)) (hnm : ∀ a, a < N → ∀ b, b < N → a ≠ b → (T a).2.1 ≠ (T b).2.1 ∨ ((T a).2.2.2 = true ∧ (T b).2.2.2 = true ∧ (T a).1 ≠ (T b).1)) (hown : s.vm.findClass own = some m.cls) (hK : u_Kn s C T N cC iS) (hO : t_OB a cC N iS H V) (k : Nat) (hk : k < N) (hlink : (Cond.fieldLink own index ref (T k).2.1 (T k).2.2.1).before args s = true) (hsame : (T k).1 = ref) (hfin : (T k).2.2.2 = false) {v : Value} (hn : narrow (ty0 k) v = v) (hfit : fits (ty0 k) v = true) (hdg : decode cc pc = .ok (.putfield index, 3))
    (kk : ∀ H1 : Heap, t_OB a cC N iS H1 (updV V k v) → H1.size = H.size → (∀ q, q ≠ a → H1[q]? = H[q]?) → W p l e R s m args below meth c H1 (locs ++ [⟨a, iS k⟩]) cells slots Q (F0 m (pc + 3) ls rest)) : W p l e R s m args below meth c H locs cells slots Q (F0 m pc ls (v :: .ref a :: rest)) := by
  have hap := o_apartG (s := s) (args := args) hts hin ty0 hty hnm hK
  obtain ⟨cell, q1, q2, q3, q4⟩ := hO
  obtain ⟨hS, hfc, kC, hkC, hkind⟩ := hK
  obtain ⟨cf, kf, fi, f, hi, hsl⟩ := hS k hk
  have hlay := hts _ (hin _ (u_in_lay hk))
  unfold u_lay at hlay
  rw [if_neg (by rw [hfin]; decide)] at hlay
  have hst := (u_facts hfc hkC (u_lays hts hin hk) hi).1
  have h6 := u_store hfc hkC hkind hlay hi (hty k hk) hn hfit
  refine W.putK hexec hb (f := f) ⟨hown, hlink, ⟨_, _, _, by rw [← hsame]; exact hi⟩, hst⟩ (by rw [q2]; exact h6) q1 q3 (by rw [hsl]; exact k2_hasslot (q4 k hk)) rfl rfl hdg fun H' e1 e2 e3 => ?_
  rw [hsl] at e1 ⊢
  exact kk H' ⟨_, e1, q2, q3, t_set q4 hap hk v⟩ e2 e3
theorem o_putFG (hexec : p.tables.exec = Jvm.exec) (hb : c.code = cc) {own C ref : String} {T : u_T} {N a index : Nat} {cC : ClassId} {iS : Nat → Nat} {V : Nat → Value} (hts : ∀ w ∈ lw_all, w.before args s = true) (hin : ∀ w ∈ u_ws C T N, w ∈ lw_all) (ty0 : Nat → FieldType) (hty : ∀ k, k < N → parseFieldDescriptor (T k).2.2.1 = some (ty0 k)) (hnm : ∀ a, a < N → ∀ b, b < N → a ≠ b → (T a).2.1 ≠ (T b).2.1 ∨ ((T a).2.2.2 = true ∧ (T b).2.2.2 = true ∧ (T a).1 ≠ (T b).1)) (hown : s.vm.findClass own = some m.cls) (hK : u_Kn s C T N cC iS) (hO : t_OB a cC N iS H V) (k : Nat) (hk : k < N) (hlink : (Cond.fieldLink own index ref (T k).2.1 (T k).2.2.1).before args s = true) (hsame : (T k).1 = ref) (hfin : (T k).2.2.2 = true) (hin2 : meth.name = "<init>") (hdecl : ref = own) {v : Value} (hn : narrow (ty0 k) v = v) (hfit : fits (ty0 k) v = true) (hdg : decode cc pc = .ok (.putfield index, 3))
    (kk : ∀ H1 : Heap, t_OB a cC N iS H1 (updV V k v) → H1.size = H.size → (∀ q, q ≠ a → H1[q]? = H[q]?) → W p l e R s m args below meth c H1 (locs ++ [⟨a, iS k⟩]) cells slots Q (F0 m (pc + 3) ls rest)) : W p l e R s m args below meth c H locs cells slots Q (F0 m pc ls (v :: .ref a :: rest)) := by
  have hap := o_apartG (s := s) (args := args) hts hin ty0 hty hnm hK
  obtain ⟨cell, q1, q2, q3, q4⟩ := hO
  obtain ⟨hS, hfc, kC, hkC, hkind⟩ := hK
  obtain ⟨cf, kf, fi, f, hi, hsl⟩ := hS k hk
  have hlay := hts _ (hin _ (u_in_lay hk))
  unfold u_lay at hlay
  rw [if_pos hfin] at hlay
  have hst := (u_facts hfc hkC (u_lays hts hin hk) hi).1
  have hcf : m.cls = cf := by
    obtain ⟨_, _, c', _, _, _, -, -, hf', -, -, -, hown2, -⟩ := Cond.laysFinal_spec hlay
    have e1 : c' = cf := by have := hi.symm.trans hf'; simp at this; exact this.1.symm
    rw [hsame, hdecl] at hown2
    rw [← e1]; exact Option.some.inj (hown.symm.trans hown2)
  have h6 := u_fits hfc hkC hkind (Or.inr hlay) hi (hty k hk) hn hfit
  refine W.putFinK hexec hb hown hlink (by rw [← hsame]; exact hi) hst hcf hin2 (by rw [q2]; exact h6) q1 q3 (by rw [hsl]; exact k2_hasslot (q4 k hk)) rfl rfl hdg fun H' e1 e2 e3 => ?_
  rw [hsl] at e1 ⊢
  exact kk H' ⟨_, e1, q2, q3, t_set q4 hap hk v⟩ e2 e3
end CGROWS
/-! Constructors of small objects: one object, known by its class's table -/
abbrev cT : Type := Nat × String × u_T × Nat × ClassId × (Nat → Nat)
def cOb (o : cT) (V : Nat → Value) (H : Heap) : Prop := t_OB o.1 o.2.2.2.2.1 o.2.2.2.1 o.2.2.2.2.2 H V
def cK (o : cT) (U : State) : Prop := u_Kn U o.2.1 o.2.2.1 o.2.2.2.1 o.2.2.2.2.1 o.2.2.2.2.2 ∧ xNw U
def cG (o : cT) (s : State) (V : Nat → Value) (H : Heap) (locs : List Loc) : Prop := cOb o V H ∧ H.size = s.heap.size ∧ (∀ a, a ≠ o.1 → H[a]? = s.heap[a]?) ∧ ∀ z ∈ locs, z.base = o.1
def cQ (o : cT) (V : Nat → Value) : Array Value → State → Outcome → State → Prop := fun _ st oc t => (oc = .returned none ∧ cOb o V t.heap) ∧ t.heap.size = st.heap.size ∧ ∀ a, a ≠ o.1 → t.heap[a]? = st.heap[a]?
def cMet (l : Launch) (y : MethodName) (cc : ByteArray) (nL fr lo : Nat) (av : List Value) (o : cT) (V V' : Nat → Value) : Prop :=
  Met l y (ws_ y cc nL none) ({ frames := fr, cells := 0, slots := 0, locals := lo }) (va_Pc av (fun U => cOb o V U.heap ∧ cK o U)) (cQ o V') 0 0 (fun a => a = o.1)
def cCx (p : Program) (s : State) (m : MethodId) (args : Array Value) (meth : Method) (c : Code) (own : String) (cc : ByteArray) (nL : Nat) (o : cT) : Prop :=
  p.tables.exec = Jvm.exec ∧ c.code = cc ∧ c.maxLocals = nL ∧ s.vm.findClass own = some m.cls ∧ (∀ w ∈ lw_all, w.before args s = true) ∧ cK o s ∧ meth.sig.returnType = none ∧ meth.locks = false ∧ meth.name = "<init>"
/-- what the class's words say, bundled -/
def cWd (o : cT) (ty : Nat → FieldType) : Prop := (∀ w ∈ u_ws o.2.1 o.2.2.1 o.2.2.2.1, w ∈ lw_all) ∧ (∀ k, k < o.2.2.2.1 → parseFieldDescriptor (o.2.2.1 k).2.2.1 = some (ty k)) ∧ (∀ a, a < o.2.2.2.1 → ∀ b, b < o.2.2.2.1 → a ≠ b → (o.2.2.1 a).2.1 ≠ (o.2.2.1 b).2.1 ∨ ((o.2.2.1 a).2.2.2 = true ∧ (o.2.2.1 b).2.2.2 = true ∧ (o.2.2.1 a).1 ≠ (o.2.2.1 b).1))
section CROWS
variable {p : Program} {l : Launch} {e : Env} {R : Room} {s : State} {m : MethodId} {args : Array Value} {below : List Frame} {meth : Method} {c : Code} {H : Heap} {locs : List Loc} {cells slots : Nat} {Q : State → Prop}
variable {own : String} {cc : ByteArray} {nL : Nat} {pc : Nat} {ls : Array Slot} {rest : List Value} {o : cT} {V V1 : Nat → Value}
theorem c_objI (C0 : cCx p s m args meth c own cc nL o) {idx : Nat} (hq : Cond.methodLink own idx Lib.objectInit ∈ lw_all) (h2 : Cond.instanceMethod Lib.objectInit ∈ lw_all) (h3 : Cond.code Lib.objectInit ⟨#[0xb1]⟩ 1 none ∈ lw_all) (hsz : ls.size = nL) (hR : 1 ≤ R.frames ∧ 20 ≤ R.locals) (hrm : (rest.map fun v => v.category).sum ≤ 8) (hdg : decode cc pc = .ok (.invokespecial idx, 3)) {a : Nat}
    (kk : W p l e R s m args below meth c H locs cells slots Q (F0 m (pc + 3) ls rest)) : W p l e R s m args below meth c H locs cells slots Q (F0 m pc ls (.ref a :: rest)) :=
  W.objInit C0.1 C0.2.1 C0.2.2.2.1 (C0.2.2.2.2.1 _ hq) (C0.2.2.2.2.1 _ h2) (C0.2.2.2.2.1 _ h3) rfl (hsz.trans C0.2.2.1.symm) rfl hdg hR.1 (by show 2 * 0 + (rest.map fun v => v.category).sum + 12 ≤ R.locals; omega) kk
theorem c_put (C0 : cCx p s m args meth c own cc nL o) (hG : cG o s V H locs) {ty : Nat → FieldType} (hw : cWd o ty) (k : Nat) (hk : k < o.2.2.2.1) {idx : Nat} {ref : String} (hq : Cond.fieldLink own idx ref (o.2.2.1 k).2.1 (o.2.2.1 k).2.2.1 ∈ lw_all) (hsame : (o.2.2.1 k).1 = ref) (hfin : (o.2.2.1 k).2.2.2 = false) {v : Value} (hn : narrow (ty k) v = v) (hfit : fits (ty k) v = true) (hdg : decode cc pc = .ok (.putfield idx, 3))
    (kk : ∀ (H1 : Heap) (locs1 : List Loc), cG o s (updV V k v) H1 locs1 → W p l e R s m args below meth c H1 locs1 cells slots Q (F0 m (pc + 3) ls rest)) : W p l e R s m args below meth c H locs cells slots Q (F0 m pc ls (v :: .ref o.1 :: rest)) := by
  obtain ⟨hx, hb, hml, hown, hts, hK, -⟩ := C0
  obtain ⟨hO, hz, ho, hl⟩ := hG
  refine o_putG hx hb hts hw.1 ty hw.2.1 hw.2.2 hown hK.1 hO k hk (hts _ hq) hsame hfin hn hfit hdg fun H1 e1 z1 o1 => ?_
  exact kk H1 _ ⟨e1, z1.trans hz, fun a ha => (o1 a ha).trans (ho a ha), fun z hzz => by
    rcases List.mem_append.mp hzz with h | h
    · exact hl z h
    · rw [List.mem_singleton] at h; subst h; rfl⟩
theorem c_putF (C0 : cCx p s m args meth c own cc nL o) (hG : cG o s V H locs) {ty : Nat → FieldType} (hw : cWd o ty) (k : Nat) (hk : k < o.2.2.2.1) {idx : Nat} {ref : String} (hq : Cond.fieldLink own idx ref (o.2.2.1 k).2.1 (o.2.2.1 k).2.2.1 ∈ lw_all) (hsame : (o.2.2.1 k).1 = ref) (hfin : (o.2.2.1 k).2.2.2 = true) (hro : ref = own) {v : Value} (hn : narrow (ty k) v = v) (hfit : fits (ty k) v = true) (hdg : decode cc pc = .ok (.putfield idx, 3))
    (kk : ∀ (H1 : Heap) (locs1 : List Loc), cG o s (updV V k v) H1 locs1 → W p l e R s m args below meth c H1 locs1 cells slots Q (F0 m (pc + 3) ls rest)) : W p l e R s m args below meth c H locs cells slots Q (F0 m pc ls (v :: .ref o.1 :: rest)) := by
  obtain ⟨hx, hb, hml, hown, hts, hK, -, -, hnm⟩ := C0
  obtain ⟨hO, hz, ho, hl⟩ := hG
  refine o_putFG hx hb hts hw.1 ty hw.2.1 hw.2.2 hown hK.1 hO k hk (hts _ hq) hsame hfin hnm hro hn hfit hdg fun H1 e1 z1 o1 => ?_
  exact kk H1 _ ⟨e1, z1.trans hz, fun a ha => (o1 a ha).trans (ho a ha), fun z hzz => by
    rcases List.mem_append.mp hzz with h | h
    · exact hl z h
    · rw [List.mem_singleton] at h; subst h; rfl⟩
theorem c_ret (C0 : cCx p s m args meth c own cc nL o) (hG : cG o s V H locs) (hV : V = V1) (hdg : decode cc pc = .ok (.return_, 1)) : W p l e R s m args below meth c H locs 0 0 (MQ below (cQ o V1) args s 0 0 (fun a => a = o.1)) (F0 m pc ls []) := by
  subst hV
  exact W.vret C0.1 C0.2.1 C0.2.2.2.2.2.2.1 (fun t ht hW => ⟨⟨rfl, by rw [ht]; exact hG.1⟩, by rw [ht]; exact hG.2.1, by rw [ht]; exact hG.2.2.1⟩) hG.2.2.2 hdg C0.2.2.2.2.2.2.2.1
theorem cBlind {av : List Value} : FrameBlind (va_Pc av (fun U => cOb o V U.heap ∧ cK o U)) := fun a U g0 mk q => by
  obtain ⟨q0, q1, q2, q3⟩ := q
  exact ⟨q0, q1, u_Kn_moved (u := U) (U := U.calling g0 mk a) (Vm.Alike.refl U.vm) q2, q3.warm (U := U.calling g0 mk a) (State.WarmedH.refl U)⟩
/-- a constructor's call on a fresh object, from anywhere -/
theorem c_run {Qa : Nat → Nat → Prop} {k n : Nat} {st0 : List Value} {a : Array Value} {g0 : JFrame} (hr : va_Run p l e R s m args below meth c H locs cells slots 0 0 (F0 m pc ls st0) rest (cQ o V1 a) (fun a => a = o.1))
    (kk : ∀ (H1 : Heap) (locs1 : List Loc), cOb o V1 H1 → H1.size = H.size → (∀ a, a ≠ o.1 → H1[a]? = H[a]?) → (∀ z ∈ locs1, z ∈ locs ∨ z.base = o.1) → W p l e R s m args below meth c H1 locs1 cells slots Q (F0 m (pc + 3) ls rest)) : W p l e R s m args below meth c H locs cells slots Q (F0 m pc ls st0) := by
  intro T hT X
  obtain ⟨v', st₀, t, T', Lc, h0, X', hL, e1, e2, ⟨⟨hv, hw⟩, hz, hk⟩, st⟩ := hr T hT X
  cases hv
  rw [h0] at hz hk
  obtain ⟨t2, a1, b1⟩ := kk T'.heap (locs ++ Lc) (by rw [e1]; exact hw) (by rw [e1]; exact hz) (fun a ha => by rw [e1]; exact hk a ha) (fun z hz => (List.mem_append.mp hz).elim Or.inl (fun h => Or.inr (hL z h))) T' rfl X'
  exact ⟨t2, st t2 a1, b1⟩
theorem c_call {st0 As : List Value} {y : MethodName} {cy : ByteArray} {ny n idx fr lo : Nat} (hx : p.tables.exec = Jvm.exec) (hb : c.code = cc) (hml : c.maxLocals = nL) (hown : s.vm.findClass own = some m.cls) (hts : ∀ w ∈ lw_all, w.before args s = true) (hK : cK o s) (hO : cOb o V H) (hM : cMet l y cy ny fr lo (.ref o.1 :: As) o V V1) (hcd : Cond.code y cy ny none ∈ lw_all) (hini : Cond.initialized y.cls ∈ lw_all) (hq : Cond.methodLink own idx y ∈ lw_all) (hin : Cond.instanceMethod y ∈ lw_all) (hy : y.name = "<init>") (hd : y.cls ≠ "java/lang/invoke/MethodHandle" ∧ y.cls ≠ "java/lang/invoke/VarHandle" ∧ (parseMethodDescriptor y.desc).map (fun d => d.parameters.length) = some n)
    (hR : fr + 1 ≤ R.frames ∧ 8 + (ny + 11) + lo ≤ R.locals) (hRc : cells ≤ R.cells ∧ slots ≤ R.slots) (hst : st0 = As.reverse ++ .ref o.1 :: rest) (hn : As.length = n) (hsz : ls.size = nL) (hrm : (rest.map fun v => v.category).sum ≤ 8) (hdg : decode cc pc = .ok (.invokespecial idx, 3))
    (kk : ∀ (H1 : Heap) (locs1 : List Loc), cOb o V1 H1 → H1.size = H.size → (∀ a, a ≠ o.1 → H1[a]? = H[a]?) → (∀ z ∈ locs1, z ∈ locs ∨ z.base = o.1) → W p l e R s m args below meth c H1 locs1 cells slots Q (F0 m (pc + 3) ls rest)) : W p l e R s m args below meth c H locs cells slots Q (F0 m pc ls st0) := by
  refine c_run (o := o) (V1 := V1) (a := (Value.ref o.1 :: As).toArray) (Qa := fun _ _ => True) (k := 0) (n := 0) (g0 := F0 m pc ls st0) ?_ kk
  exact va_runI (As := As) (rest := rest) ⟨hx, hb, hml, hown, hts⟩ hM (cwI n hts (lw_meth hcd) rfl rfl rfl (hts _ hini) (hts _ hq) (hts _ hin) hy hd hR) ⟨cBlind, fun U hU hW => ⟨rfl, by rw [hU]; exact hO, u_Kn_moved hW.alike hK.1, hK.2.warm hW⟩⟩ rfl hn hsz hst (lv_room hrm) hdg ⟨hRc.1, hRc.2⟩
theorem c_callN {st0 As : List Value} {y : MethodName} {cy : ByteArray} {ny n idx fr lo : Nat} {host : String} (hx : p.tables.exec = Jvm.exec) (hb : c.code = cc) (hml : c.maxLocals = nL) (hown : s.vm.findClass own = some m.cls) (hts : ∀ w ∈ lw_all, w.before args s = true) (hK : cK o s) (hO : cOb o V H) (hM : cMet l y cy ny fr lo (.ref o.1 :: As) o V V1) (hcd : Cond.code y cy ny none ∈ lw_all) (hini : Cond.initialized y.cls ∈ lw_all) (hq : Cond.methodLinkNest own idx y host ∈ lw_tbl) (hin : Cond.instanceMethod y ∈ lw_all) (hy : y.name = "<init>") (hd : y.cls ≠ "java/lang/invoke/MethodHandle" ∧ y.cls ≠ "java/lang/invoke/VarHandle" ∧ (parseMethodDescriptor y.desc).map (fun d => d.parameters.length) = some n)
    (hR : fr + 1 ≤ R.frames ∧ 8 + (ny + 11) + lo ≤ R.locals) (hRc : cells ≤ R.cells ∧ slots ≤ R.slots) (hst : st0 = As.reverse ++ .ref o.1 :: rest) (hn : As.length = n) (hsz : ls.size = nL) (hrm : (rest.map fun v => v.category).sum ≤ 8) (hdg : decode cc pc = .ok (.invokespecial idx, 3))
    (kk : ∀ (H1 : Heap) (locs1 : List Loc), cOb o V1 H1 → H1.size = H.size → (∀ a, a ≠ o.1 → H1[a]? = H[a]?) → (∀ z ∈ locs1, z ∈ locs ∨ z.base = o.1) → W p l e R s m args below meth c H1 locs1 cells slots Q (F0 m (pc + 3) ls rest)) : W p l e R s m args below meth c H locs cells slots Q (F0 m pc ls st0) := by
  refine c_run (o := o) (V1 := V1) (a := (Value.ref o.1 :: As).toArray) (Qa := fun _ _ => True) (k := 0) (n := 0) (g0 := F0 m pc ls st0) ?_ kk
  exact va_runIN (As := As) (rest := rest) ⟨hx, hb, hml, hown, hts⟩ hM ⟨va_cnB n hts (lw_meth hcd) rfl rfl rfl (hK.2.2.1 _ _ _ _ hq) (hts _ hini) hd hR, hy, hts _ hin⟩ ⟨cBlind, fun U hU hW => ⟨rfl, by rw [hU]; exact hO, u_Kn_moved hW.alike hK.1, hK.2.warm hW⟩⟩ rfl hn hsz hst (lv_room hrm) hdg ⟨hRc.1, hRc.2⟩
/-- a super constructor's call -/
theorem c_sup (hG : cG o s V H locs) {H1 : Heap} {locs1 : List Loc} (h1 : cOb o V1 H1) (h2 : H1.size = H.size) (h3 : ∀ a, a ≠ o.1 → H1[a]? = H[a]?) (h4 : ∀ z ∈ locs1, z ∈ locs ∨ z.base = o.1) : cG o s V1 H1 locs1 :=
  ⟨h1, h2.trans hG.2.1, fun a ha => (h3 a ha).trans (hG.2.2.1 a ha), fun z hz => (h4 z hz).elim (hG.2.2.2 z) id⟩
theorem c_head {y : MethodName} {av : List Value} {fr lo : Nat} (hy : plainName y.cls = true) (hcls : y.cls = own) (hnm : y.name = "<init>")
    (body : ∀ (p : Program) (e : Env) (s : State) (m : MethodId) (below : List Frame) (meth : Method) (c : Code), cCx p s m av.toArray meth c own cc nL o → cG o s V s.heap [] → W p l e ({ frames := fr, cells := 0, slots := 0, locals := lo }) s m av.toArray below meth c s.heap [] 0 0 (MQ below (cQ o V1) av.toArray s 0 0 (fun a => a = o.1)) (entryFrame m av.toArray nL)) : cMet l y cc nL fr lo av o V V1 := by
  refine Met.ofW (cc := cc) (maxL := nL) (ret := none) hy rfl ?_
  intro p e s m args below meth c s₁ B hml hv
  obtain ⟨rfl, hO, hK⟩ := hv
  have hts := atoms_spec (ws := ws_ y cc nL none) B.pre
  have hown : s.vm.findClass own = some m.cls := by rw [← hcls]; exact findClass_of_methodNamed B.named
  exact body p e s m below meth c ⟨B.exec, B.bytes, hml, hown, fun w h => hts w (List.mem_cons_of_mem _ h), hK, B.returns, B.notSynchronized, (name_of_methodNamed B.named B.method).1.trans hnm⟩ ⟨hO, rfl, fun _ _ => rfl, fun _ h => by cases h⟩
/-- a new object -/
theorem o_new {c0 : Code} (hexec : p.tables.exec = Jvm.exec) (hb : c0.code = cc) {own C : String} {T : u_T} {N index : Nat} {cC : ClassId} {iS : Nat → Nat} (hts : ∀ w ∈ lw_all, w.before args s = true) (hin : ∀ w ∈ u_ws C T N, w ∈ lw_all) (ty : Nat → FieldType) (hty : ∀ k, k < N → parseFieldDescriptor (T k).2.2.1 = some (ty k)) (hown : s.vm.findClass own = some m.cls) (hcl : Cond.classLink own index C ∈ lw_all) (hinst : Cond.instantiable C N ∈ lw_all) (hini : Cond.initialized C ∈ lw_all) (hK : u_Kn s C T N cC iS) (hcells : cells + 1 ≤ R.cells) (hslots : slots + N ≤ R.slots) (hdg : decode cc pc = .ok (.new index, 3))
    (kk : ∀ (q : Nat) (H1 : Heap), q = H.size → H1.size = H.size + 1 → (∀ a, a < H.size → H1[a]? = H[a]?) → t_OB q cC N iS H1 (fun k => defaultValue (ty k)) → W p l e R s m args below meth c0 H1 locs (cells + 1) (slots + N) Q (F0 m (pc + 3) ls (.ref q :: rest))) : W p l e R s m args below meth c0 H locs cells slots Q (F0 m pc ls rest) := by
  refine W.newcK hexec hb hown (hts _ hcl) (hts _ hinst) (hts _ hini) rfl hdg hcells hslots hK.2.1 rfl fun H1 kC hkC e1 z1 o1 => ?_
  exact kk H.size H1 rfl z1 o1 (u_born ty hts hin hK hkC e1 hty)
end CROWS
