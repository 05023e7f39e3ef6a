/-! Pure words of the functional pictures: names, checks, binds -/
def nmv {α β : Type} (a : α) (f : α → β) : β := f a
def chk {α : Type} (i : Int32) (n : Nat) (o : Option α) : Option α := if i < 0 ∨ n ≤ i.toNatClampNeg then none else o
def chz {α : Type} (y : Int32) (o : Option α) : Option α := if y = 0 then none else o
def chb {α : Type} (v : Int32) (o : Option α) : Option α := if v = 0 ∨ v = 1 then o else none
def obi {S R β : Type} (o : Option (S × R)) (f : S → R → Option β) : Option β := match o with
  | none => none
  | some q => f q.1 q.2
theorem nm_to {α β : Type} {a x : α} {f : α → β} {r : β} (h : nmv a f = r) (e : x = a) : f x = r := by subst e; exact h
theorem ifp {α : Type} {c : Prop} {d : Decidable c} {a b r : α} (h : (@ite α c d a b) = r) (hc : c) : a = r := by rw [if_pos hc] at h; exact h
theorem ifn {α : Type} {c : Prop} {d : Decidable c} {a b r : α} (h : (@ite α c d a b) = r) (hc : ¬ c) : b = r := by rw [if_neg hc] at h; exact h
theorem chk_of {α : Type} {i : Int32} {n : Nat} {o : Option α} {r : α} (h : chk i n o = some r) : vp_in i n ∧ o = some r := by
  unfold chk at h
  split at h
  · cases h
  · exact ⟨by assumption, h⟩
theorem chz_of {α : Type} {y : Int32} {o : Option α} {r : α} (h : chz y o = some r) : ¬ y = 0 ∧ o = some r := by
  unfold chz at h
  split at h
  · cases h
  · exact ⟨by assumption, h⟩
theorem chb_of {α : Type} {v : Int32} {o : Option α} {r : α} (h : chb v o = some r) : (v = 0 ∨ v = 1) ∧ o = some r := by
  unfold chb at h
  split at h
  · exact ⟨by assumption, h⟩
  · cases h
theorem obi_of {S R β : Type} {o : Option (S × R)} {f : S → R → Option β} {r : β} (h : obi o f = some r) : ∃ s x, o = some (s, x) ∧ f s x = some r := by
  unfold obi at h
  split at h
  · cases h
  · exact ⟨_, _, rfl, h⟩
theorem nar_bool {v : Int32} (h : v = 0 ∨ v = 1) : narrow .boolean (.int v) = .int v := by
  rcases h with h | h <;> subst h <;> rfl
theorem sw_out {x : Int32} {lo hi : Int} (h : ¬ (lo ≤ x.toInt ∧ x.toInt ≤ hi)) : x.toInt < lo ∨ hi < x.toInt := by omega
/-! Rows of one object, whatever world it stands in -/
section OROWS
variable {p : Program} {l : Launch} {e : Env} {R : Room} {s : State} {m : MethodId} {args : Array Value} {below : List Frame} {meth : Method} {c : Code} {H : Heap} {locs : List Loc} {cells slots : Nat} {Q : State → Prop}
variable {cc : ByteArray} {pc : Nat} {ls : Array Slot} {rest : List Value}
theorem o_get (hexec : p.tables.exec = Jvm.exec) (hb : c.code = cc) {own C ref : String} {T : u_T} {N a index : Nat} {cC : ClassId} {iS : Nat → Nat} {V : Nat → Value} (hts : ∀ w ∈ lw_all, w.before args s = true) (hin : ∀ w ∈ u_ws C T N, w ∈ lw_all) (hown : s.vm.findClass own = some m.cls) (hK : u_Kn s C T N cC iS) (hO : t_OB a cC N iS H V) (k : Nat) (hk : k < N) (hlink : (Cond.fieldLink own index ref (T k).2.1 (T k).2.2.1).before args s = true) (hsame : (T k).1 = ref) (hdg : decode cc pc = .ok (.getfield index, 3))
    (kk : W p l e R s m args below meth c H locs cells slots Q (F0 m (pc + 3) ls (V k :: rest))) : W p l e R s m args below meth c H locs cells slots Q (F0 m pc ls (.ref a :: rest)) := by
  obtain ⟨cell, q1, q2, q3, q4⟩ := hO
  obtain ⟨hS, hfc, kC, hkC, hkind⟩ := hK
  obtain ⟨cf, kf, fi, f, hi, hsl⟩ := hS k hk
  refine W.getf hexec hb hown hlink (by rw [← hsame]; exact hi) (u_facts hfc hkC (u_lays hts hin hk) hi).1 q1 (by rw [q3]; exact fun h => by cases h) (v := V k) ?_ rfl rfl hdg kk
  rw [hsl, q4 k hk]
theorem o_apart {C : String} {T : u_T} {N : Nat} {cC : ClassId} {iS : Nat → Nat} (hts : ∀ w ∈ lw_all, w.before args s = true) (hin : ∀ w ∈ u_ws C T N, w ∈ lw_all) (ty : Nat → FieldType) (hty : ∀ k, k < N → parseFieldDescriptor (T k).2.2.1 = some (ty k)) (hnm : ∀ a, a < N → ∀ b, b < N → a ≠ b → (T a).2.1 ≠ (T b).2.1) (hK : u_Kn s C T N cC iS) : ∀ x y, x < N → y < N → x ≠ y → iS x ≠ iS y := by
  intro x y hx hy hne
  obtain ⟨hS, -⟩ := hK
  obtain ⟨_, _, _, fa, hia, ea⟩ := hS x hx
  obtain ⟨_, _, _, fb, hib, eb⟩ := hS y hy
  rw [← ea, ← eb]
  refine u_apart (u_lays hts hin hx) (u_lays hts hin hy) hia hib ?_
  rw [(State.fieldFound?_type hia (hty x hx)).1, (State.fieldFound?_type hib (hty y hy)).1]
  exact hnm x hx y hy hne
theorem o_put (hexec : p.tables.exec = Jvm.exec) (hb : c.code = cc) {own C ref : String} {T : u_T} {N a index : Nat} {cC : ClassId} {iS : Nat → Nat} {V : Nat → Value} (hts : ∀ w ∈ lw_all, w.before args s = true) (hin : ∀ w ∈ u_ws C T N, w ∈ lw_all) (ty0 : Nat → FieldType) (hty : ∀ k, k < N → parseFieldDescriptor (T k).2.2.1 = some (ty0 k)) (hnm : ∀ a, a < N → ∀ b, b < N → a ≠ b → (T a).2.1 ≠ (T b).2.1) (hown : s.vm.findClass own = some m.cls) (hK : u_Kn s C T N cC iS) (hO : t_OB a cC N iS H V) (k : Nat) (hk : k < N) (hlink : (Cond.fieldLink own index ref (T k).2.1 (T k).2.2.1).before args s = true) (hsame : (T k).1 = ref) (hfin : (T k).2.2.2 = false) {v : Value} (hn : narrow (ty0 k) v = v) (hfit : fits (ty0 k) v = true) (hdg : decode cc pc = .ok (.putfield index, 3))
    (kk : ∀ H1 : Heap, t_OB a cC N iS H1 (updV V k v) → H1.size = H.size → (∀ q, q ≠ a → H1[q]? = H[q]?) → W p l e R s m args below meth c H1 (locs ++ [⟨a, iS k⟩]) cells slots Q (F0 m (pc + 3) ls rest)) : W p l e R s m args below meth c H locs cells slots Q (F0 m pc ls (v :: .ref a :: rest)) := by
  have hap := o_apart (s := s) (args := args) hts hin ty0 hty hnm hK
  obtain ⟨cell, q1, q2, q3, q4⟩ := hO
  obtain ⟨hS, hfc, kC, hkC, hkind⟩ := hK
  obtain ⟨cf, kf, fi, f, hi, hsl⟩ := hS k hk
  have hlay := hts _ (hin _ (u_in_lay hk))
  unfold u_lay at hlay
  rw [if_neg (by rw [hfin]; decide)] at hlay
  have hst := (u_facts hfc hkC (u_lays hts hin hk) hi).1
  have h6 := u_store hfc hkC hkind hlay hi (hty k hk) hn hfit
  refine W.putK hexec hb (f := f) ⟨hown, hlink, ⟨_, _, _, by rw [← hsame]; exact hi⟩, hst⟩ (by rw [q2]; exact h6) q1 q3 (by rw [hsl]; exact k2_hasslot (q4 k hk)) rfl rfl hdg fun H' e1 e2 e3 => ?_
  rw [hsl] at e1 ⊢
  exact kk H' ⟨_, e1, q2, q3, t_set q4 hap hk v⟩ e2 e3
theorem o_putF (hexec : p.tables.exec = Jvm.exec) (hb : c.code = cc) {own C ref : String} {T : u_T} {N a index : Nat} {cC : ClassId} {iS : Nat → Nat} {V : Nat → Value} (hts : ∀ w ∈ lw_all, w.before args s = true) (hin : ∀ w ∈ u_ws C T N, w ∈ lw_all) (ty0 : Nat → FieldType) (hty : ∀ k, k < N → parseFieldDescriptor (T k).2.2.1 = some (ty0 k)) (hnm : ∀ a, a < N → ∀ b, b < N → a ≠ b → (T a).2.1 ≠ (T b).2.1) (hown : s.vm.findClass own = some m.cls) (hK : u_Kn s C T N cC iS) (hO : t_OB a cC N iS H V) (k : Nat) (hk : k < N) (hlink : (Cond.fieldLink own index ref (T k).2.1 (T k).2.2.1).before args s = true) (hsame : (T k).1 = ref) (hfin : (T k).2.2.2 = true) (hin2 : meth.name = "<init>") (hdecl : ref = own) {v : Value} (hn : narrow (ty0 k) v = v) (hfit : fits (ty0 k) v = true) (hdg : decode cc pc = .ok (.putfield index, 3))
    (kk : ∀ H1 : Heap, t_OB a cC N iS H1 (updV V k v) → H1.size = H.size → (∀ q, q ≠ a → H1[q]? = H[q]?) → W p l e R s m args below meth c H1 (locs ++ [⟨a, iS k⟩]) cells slots Q (F0 m (pc + 3) ls rest)) : W p l e R s m args below meth c H locs cells slots Q (F0 m pc ls (v :: .ref a :: rest)) := by
  have hap := o_apart (s := s) (args := args) hts hin ty0 hty hnm hK
  obtain ⟨cell, q1, q2, q3, q4⟩ := hO
  obtain ⟨hS, hfc, kC, hkC, hkind⟩ := hK
  obtain ⟨cf, kf, fi, f, hi, hsl⟩ := hS k hk
  have hlay := hts _ (hin _ (u_in_lay hk))
  unfold u_lay at hlay
  rw [if_pos hfin] at hlay
  have hst := (u_facts hfc hkC (u_lays hts hin hk) hi).1
  have hcf : m.cls = cf := by
    obtain ⟨_, _, c', _, _, _, -, -, hf', -, -, -, hown2, -⟩ := Cond.laysFinal_spec hlay
    have e1 : c' = cf := by have := hi.symm.trans hf'; simp at this; exact this.1.symm
    rw [hsame, hdecl] at hown2
    rw [← e1]; exact Option.some.inj (hown.symm.trans hown2)
  have h6 := u_fits hfc hkC hkind (Or.inr hlay) hi (hty k hk) hn hfit
  refine W.putFinK hexec hb hown hlink (by rw [← hsame]; exact hi) hst hcf hin2 (by rw [q2]; exact h6) q1 q3 (by rw [hsl]; exact k2_hasslot (q4 k hk)) rfl rfl hdg fun H' e1 e2 e3 => ?_
  rw [hsl] at e1 ⊢
  exact kk H' ⟨_, e1, q2, q3, t_set q4 hap hk v⟩ e2 e3
theorem o_recv {C : String} {T : u_T} {N a : Nat} {cC : ClassId} {iS : Nat → Nat} {V : Nat → Value} (hK : u_Kn s C T N cC iS) (hO : t_OB a cC N iS H V) : ∃ cell : Cell, H[a]? = some cell ∧ cell.vm.isStatics = false ∧ s.vm.findClass C = some cell.cls := by
  obtain ⟨cell, q1, q2, q3, -⟩ := hO
  exact ⟨cell, q1, by rw [q3]; rfl, by rw [q2]; exact hK.2.1⟩
end OROWS
/-! The reference's world: one object of 56 fields and its arrays. State: ints by field, int arrays by field, the one long array -/
abbrev mS : Type := (Nat → Int32) × (Nat → Nat → Int32) × (Nat → Int64)
abbrev mL : Type := Nat × (Nat → Nat) × ClassId × ClassId × ClassId × (Nat → Nat)
abbrev mSi (σ : mS) (k : Nat) (v : Int32) : mS := (upd σ.1 k v, σ.2.1, σ.2.2)
abbrev mSj (σ : mS) (k i : Nat) (v : Int32) : mS := (σ.1, va_up σ.2.1 k (upd (σ.2.1 k) i v), σ.2.2)
abbrev mSl (σ : mS) (i : Nat) (v : Int64) : mS := (σ.1, σ.2.1, vp_updL σ.2.2 i v)
def mArr (k : Nat) : Bool := match k with
  | 0 => false
  | 10 => false
  | 12 => false
  | 13 => false
  | 18 => false
  | 19 => false
  | 20 => false
  | 21 => false
  | 29 => false
  | 30 => false
  | 34 => false
  | 35 => false
  | 37 => false
  | 39 => false
  | 44 => false
  | 48 => false
  | 49 => false
  | 50 => false
  | 51 => false
  | 52 => false
  | _ => true
def mLen (k : Nat) : Nat := match k with
  | 1 => 8
  | 2 => 8
  | 3 => 8
  | 4 => 8
  | 5 => 8
  | 6 => 8
  | 7 => 3
  | 8 => 8
  | 9 => 8
  | 11 => 120
  | 14 => 60
  | 15 => 60
  | 16 => 60
  | 17 => 200
  | 22 => 61
  | 23 => 61
  | 24 => 61
  | 25 => 200
  | 26 => 200
  | 27 => 6
  | 28 => 5
  | 31 => 8
  | 32 => 8
  | 33 => 5
  | 36 => 160
  | 38 => 50
  | 40 => 24
  | 41 => 6
  | 42 => 6
  | 43 => 360
  | 45 => 60
  | 46 => 488
  | 47 => 80
  | 53 => 10
  | 54 => 6
  | 55 => 6
  | _ => 0
def mV (L : mL) (σ : mS) : Nat → Value := fun k => if mArr k = true then .ref (L.2.1 k) else .int (σ.1 k)
def mE (L : mL) (σ : mS) (k : Nat) : Cell := if k = 43 then vp_cell L.2.2.2.1 (360, .inr (.inl σ.2.2)) else vp_cell L.2.2.1 (mLen k, .inl (σ.2.1 k))
def mO (L : mL) (q : Nat) : Prop := q = L.1 ∨ ∃ k, k < 56 ∧ mArr k = true ∧ q = L.2.1 k
def mA (L : mL) (sz : Nat) : Nat → Prop := fun q => mO L q ∨ sz ≤ q
def mDj (L : mL) : Prop := (∀ k, k < 56 → mArr k = true → L.2.1 k ≠ L.1) ∧ ∀ j k, j < 56 → k < 56 → mArr j = true → mArr k = true → L.2.1 j = L.2.1 k → j = k
def mW (L : mL) (σ : mS) (H : Heap) : Prop := t_OB L.1 L.2.2.2.2.1 56 L.2.2.2.2.2 H (mV L σ) ∧ (∀ k, k < 56 → mArr k = true → H[L.2.1 k]? = some (mE L σ k)) ∧ mDj L
def mK (L : mL) (U : State) : Prop := u_Kn U RX2 TX2 56 L.2.2.2.2.1 L.2.2.2.2.2 ∧ ArrOfT U L.2.2.1 .int ∧ ArrOfT U L.2.2.2.1 .long
theorem mK.moved {L : mL} {u U : State} (hvm : u.vm.Alike U.vm) (h : mK L u) : mK L U := ⟨u_Kn_moved hvm h.1, arrOfT_moved hvm h.2.1, arrOfT_moved hvm h.2.2⟩
theorem mTX2 (k : Nat) : (TX2 k).1 = RX2 := by unfold TX2; split <;> rfl
def mG (A : Nat → Prop) (L : mL) (s : State) (σ : mS) (H : Heap) (locs : List Loc) : Prop := mW L σ H ∧ va_S A s.heap H locs
def mQ (L : mL) (σ : mS) (v : Option Value) (A : Nat → Prop) : Array Value → State → Outcome → State → Prop := fun _ st oc t => (oc = .returned v ∧ mW L σ t.heap ∧ mK L t) ∧ va_F A st t
def mCx (p : Program) (s : State) (m : MethodId) (args : Array Value) (meth : Method) (c : Code) (cc : ByteArray) (nL : Nat) (ret : Option FieldType) (L : mL) (A : Nat → Prop) : Prop :=
  p.tables.exec = Jvm.exec ∧ c.code = cc ∧ c.maxLocals = nL ∧ s.vm.findClass RX2 = some m.cls ∧ (∀ w ∈ lw_all, w.before args s = true) ∧ mK L s ∧ (∀ q, mA L s.heap.size q → A q) ∧ meth.sig.returnType = ret ∧ meth.locks = false
abbrev mZ (below : List Frame) (L : mL) (A : Nat → Prop) (s : State) (args : Array Value) (σ : mS) (v : Option Value) : State → Prop := MQ below (mQ L σ v A) args s 0 0 A
def mMet (l : Launch) (y : MethodName) (cc : ByteArray) (nL : Nat) (ret : Option FieldType) (fr lo : Nat) (av : List Value) (L : mL) (σ : mS) (v : Option Value) (σ' : mS) : Prop :=
  ∀ sz : Nat, Met l y (ws_ y cc nL ret) ({ frames := fr, cells := 0, slots := 0, locals := lo }) (va_Pc av (fun U => U.heap.size = sz ∧ mW L σ U.heap ∧ mK L U)) (mQ L σ' v (mA L sz)) 0 0 (mA L sz)
theorem mE_i {L : mL} {σ : mS} {k : Nat} (hk : k ≠ 43) : mE L σ k = arrV L.2.2.1 (mLen k) (fun j => .int (σ.2.1 k j)) := by unfold mE; rw [if_neg hk]; rfl
theorem mE_l {L : mL} {σ : mS} : mE L σ 43 = arrV L.2.2.2.1 360 (fun j => .long (σ.2.2 j)) := by unfold mE; rw [if_pos rfl]; rfl
theorem mO_a {L : mL} {k : Nat} (hk : k < 56) (ha : mArr k = true) {sz : Nat} : mA L sz (L.2.1 k) := Or.inl (Or.inr ⟨k, hk, ha, rfl⟩)
theorem mO_h {L : mL} {sz : Nat} : mA L sz L.1 := Or.inl (Or.inl rfl)
/-- an int field's new value, in the world -/
theorem mW.seti {L : mL} {σ : mS} {H H1 : Heap} (h : mW L σ H) (k : Nat) (hk : k < 56) (ha : mArr k = false) {x : Int32} (hO : t_OB L.1 L.2.2.2.2.1 56 L.2.2.2.2.2 H1 (updV (mV L σ) k (.int x))) (oq : ∀ q, q ≠ L.1 → H1[q]? = H[q]?) : mW L (mSi σ k x) H1 := by
  obtain ⟨h1, h2, h3⟩ := h
  refine ⟨hO.to fun j hj => ?_, fun j hj ja => ?_, h3⟩
  · unfold updV mV
    by_cases hjk : j = k
    · subst hjk
      simp [ha, upd]
    · simp [hjk, upd]
  · rw [oq _ (h3.1 j hj ja), h2 j hj ja]
    rfl
theorem mV_up {L : mL} {σ : mS} {k i : Nat} {x : Int32} : mV L (mSj σ k i x) = mV L σ := rfl
/-- an array's place gets a new value, in the world -/
theorem mW.setj {L : mL} {σ : mS} {H H1 : Heap} (h : mW L σ H) (k : Nat) (hk : k < 56) (ha : mArr k = true) (hn : k ≠ 43) {i : Nat} {x : Int32} (e : H1[L.2.1 k]? = some (arrV L.2.2.1 (mLen k) (updV (fun j => .int (σ.2.1 k j)) i (.int x)))) (oq : ∀ q, q ≠ L.2.1 k → H1[q]? = H[q]?) : mW L (mSj σ k i x) H1 := by
  obtain ⟨h1, h2, h3⟩ := h
  refine ⟨(h1.kept (oq _ (fun q => h3.1 k hk ha q.symm))), fun j hj ja => ?_, h3⟩
  by_cases hjk : j = k
  · subst hjk
    rw [e, mE_i hn]
    congr 2
    funext q
    simp only [mSj, va_up, if_true, updV, upd]
    split <;> rfl
  · rw [oq _ (fun q => hjk (h3.2 j k hj hk ja ha q)), h2 j hj ja]
    unfold mE
    simp [mSj, va_up, hjk]
theorem mW.setl {L : mL} {σ : mS} {H H1 : Heap} (h : mW L σ H) {i : Nat} {x : Int64} (e : H1[L.2.1 43]? = some (arrV L.2.2.2.1 360 (updV (fun j => .long (σ.2.2 j)) i (.long x)))) (oq : ∀ q, q ≠ L.2.1 43 → H1[q]? = H[q]?) : mW L (mSl σ i x) H1 := by
  obtain ⟨h1, h2, h3⟩ := h
  refine ⟨(h1.kept (oq _ (fun q => h3.1 43 (by decide) rfl q.symm))), fun j hj ja => ?_, h3⟩
  by_cases hjk : j = 43
  · subst hjk
    rw [e, mE_l]
    congr 2
    funext q
    simp only [mSl, updV, vp_updL]
    split <;> rfl
  · rw [oq _ (fun q => hjk (h3.2 j 43 hj (by decide) ja rfl q)), h2 j hj ja]
    unfold mE
    simp [mSl, hjk]
section MROWS
variable {p : Program} {l : Launch} {e : Env} {R : Room} {s : State} {m : MethodId} {args : Array Value} {below : List Frame} {meth : Method} {c : Code} {H : Heap} {locs : List Loc} {Q : State → Prop}
variable {cc : ByteArray} {nL : Nat} {ret : Option FieldType} {pc : Nat} {ls : Array Slot} {rest : List Value} {A : Nat → Prop} {L : mL} {σ : mS}
theorem m_geti (C0 : mCx p s m args meth c cc nL ret L A) (hG : mG A L s σ H locs) (k : Nat) (hk : k < 56) (ha : mArr k = false) {idx : Nat} (hq : Cond.fieldLink RX2 idx RX2 (TX2 k).2.1 (TX2 k).2.2.1 ∈ lw_all) (hdg : decode cc pc = .ok (.getfield idx, 3)) {β : Type} {f : Int32 → β} {z : β} (hF : nmv (σ.1 k) f = z)
    (kk : ∀ x : Int32, f x = z → W p l e R s m args below meth c H locs 0 0 Q (F0 m (pc + 3) ls (.int x :: rest))) : W p l e R s m args below meth c H locs 0 0 Q (F0 m pc ls (.ref L.1 :: rest)) := by
  obtain ⟨hx, hb, hml, hown, hts, hK, hA, hr, hlk⟩ := C0
  refine o_get hx hb hts in_X2 hown hK.1 hG.1.1 k hk (hts _ hq) (mTX2 k) hdg ?_
  unfold mV
  rw [if_neg (by rw [ha]; decide)]
  exact kk _ hF
theorem m_geta (C0 : mCx p s m args meth c cc nL ret L A) (hG : mG A L s σ H locs) (k : Nat) (hk : k < 56) (ha : mArr k = true) {idx : Nat} (hq : Cond.fieldLink RX2 idx RX2 (TX2 k).2.1 (TX2 k).2.2.1 ∈ lw_all) (hdg : decode cc pc = .ok (.getfield idx, 3))
    (kk : W p l e R s m args below meth c H locs 0 0 Q (F0 m (pc + 3) ls (.ref (L.2.1 k) :: rest))) : W p l e R s m args below meth c H locs 0 0 Q (F0 m pc ls (.ref L.1 :: rest)) := by
  obtain ⟨hx, hb, hml, hown, hts, hK, hA, hr, hlk⟩ := C0
  refine o_get hx hb hts in_X2 hown hK.1 hG.1.1 k hk (hts _ hq) (mTX2 k) hdg ?_
  unfold mV
  rw [if_pos ha]
  exact kk
theorem mT_int : ∀ k, k < 56 → mArr k = false → (TX2 k).2.2.2 = false ∧ ((tyX2 k = .int) ∨ (tyX2 k = .boolean ∧ (k = 12 ∨ k = 29))) := by decide +kernel
theorem m_puti (C0 : mCx p s m args meth c cc nL ret L A) (hG : mG A L s σ H locs) (k : Nat) (hk : k < 56) (ha : mArr k = false) {idx : Nat} (hq : Cond.fieldLink RX2 idx RX2 (TX2 k).2.1 (TX2 k).2.2.1 ∈ lw_all) (hdg : decode cc pc = .ok (.putfield idx, 3)) {v : Int32} (hb1 : (k ≠ 12 ∧ k ≠ 29) ∨ v = 1) {β : Type} {f : mS → β} {z : β} (hF : nmv (mSi σ k v) f = z)
    (kk : ∀ (σ1 : mS) (H1 : Heap) (locs1 : List Loc), mG A L s σ1 H1 locs1 → f σ1 = z → W p l e R s m args below meth c H1 locs1 0 0 Q (F0 m (pc + 3) ls rest)) : W p l e R s m args below meth c H locs 0 0 Q (F0 m pc ls (.int v :: .ref L.1 :: rest)) := by
  obtain ⟨hx, hb, hml, hown, hts, hK, hA, hr, hlk⟩ := C0
  have ht := mT_int k hk ha
  have hn : narrow (tyX2 k) (.int v) = .int v ∧ fits (tyX2 k) (.int v) = true := by
    rcases ht.2 with e | ⟨e, e2⟩
    · rw [e]; exact ⟨rfl, rfl⟩
    · rw [e]
      rcases hb1 with h | h
      · rcases e2 with q | q
        · exact absurd q h.1
        · exact absurd q h.2
      · subst h; exact ⟨rfl, rfl⟩
  refine o_put hx hb hts in_X2 tyX2 tyX2_ok nmX2 hown hK.1 hG.1.1 k hk (hts _ hq) (mTX2 k) ht.1 hn.1 hn.2 hdg fun H1 e1 z1 o1 => ?_
  exact kk _ H1 _ ⟨hG.1.seti k hk ha e1 o1, hG.2.put z1 o1 (hA _ mO_h)⟩ hF
theorem m_ld (C0 : mCx p s m args meth c cc nL ret L A) (hG : mG A L s σ H locs) (k : Nat) (hk : k < 56 ∧ mArr k = true ∧ k ≠ 43) {i : Int32} (hdg : decode cc pc = .ok (.iaload, 1)) {β : Type} {f : Int32 → Option β} {z : β} (hF : chk i (mLen k) (nmv (σ.2.1 k i.toNatClampNeg) f) = some z)
    (kk : ∀ x : Int32, f x = some z → W p l e R s m args below meth c H locs 0 0 Q (F0 m (pc + 1) ls (.int x :: rest))) : W p l e R s m args below meth c H locs 0 0 Q (F0 m pc ls (.int i :: .ref (L.2.1 k) :: rest)) := by
  obtain ⟨hx, hb, hml, hown, hts, hK, hA, hr, hlk⟩ := C0
  obtain ⟨hin, hF⟩ := chk_of hF
  have hlt : i.toNatClampNeg < mLen k := Nat.not_le.mp fun q => hin (Or.inr q)
  have hc := hG.1.2.1 k hk.1 hk.2.1
  rw [mE_i hk.2.2] at hc
  exact W.iald (v := .int (σ.2.1 k i.toNatClampNeg)) hx hb hc (hK.2.1 _ _) (fun q => by cases q) (by rw [arrV_size]; exact hin) (by rw [arrV_read _ _ hlt]) rfl rfl hdg (kk _ hF)
theorem m_ldl (C0 : mCx p s m args meth c cc nL ret L A) (hG : mG A L s σ H locs) {i : Int32} (hdg : decode cc pc = .ok (.laload, 1)) {β : Type} {f : Int64 → Option β} {z : β} (hF : chk i 360 (nmv (σ.2.2 i.toNatClampNeg) f) = some z)
    (kk : ∀ x : Int64, f x = some z → W p l e R s m args below meth c H locs 0 0 Q (F0 m (pc + 1) ls (.long x :: rest))) : W p l e R s m args below meth c H locs 0 0 Q (F0 m pc ls (.int i :: .ref (L.2.1 43) :: rest)) := by
  obtain ⟨hx, hb, hml, hown, hts, hK, hA, hr, hlk⟩ := C0
  obtain ⟨hin, hF⟩ := chk_of hF
  have hlt : i.toNatClampNeg < 360 := Nat.not_le.mp fun q => hin (Or.inr q)
  have hc := hG.1.2.1 43 (by decide) rfl
  rw [mE_l] at hc
  exact W.lald (v := .long (σ.2.2 i.toNatClampNeg)) hx hb hc (hK.2.2 _ _) (fun q => by cases q) (by rw [arrV_size]; exact hin) (by rw [arrV_read _ _ hlt]) rfl rfl hdg (kk _ hF)
theorem m_st (C0 : mCx p s m args meth c cc nL ret L A) (hG : mG A L s σ H locs) (k : Nat) (hk : k < 56 ∧ mArr k = true ∧ k ≠ 43) {i x : Int32} (hdg : decode cc pc = .ok (.iastore, 1)) {β : Type} {f : mS → Option β} {z : β} (hF : chk i (mLen k) (nmv (mSj σ k i.toNatClampNeg x) f) = some z)
    (kk : ∀ (σ1 : mS) (H1 : Heap) (locs1 : List Loc), mG A L s σ1 H1 locs1 → f σ1 = some z → W p l e R s m args below meth c H1 locs1 0 0 Q (F0 m (pc + 1) ls rest)) : W p l e R s m args below meth c H locs 0 0 Q (F0 m pc ls (.int x :: .int i :: .ref (L.2.1 k) :: rest)) := by
  obtain ⟨hx, hb, hml, hown, hts, hK, hA, hr, hlk⟩ := C0
  obtain ⟨hin, hF⟩ := chk_of hF
  have hc := hG.1.2.1 k hk.1 hk.2.1
  rw [mE_i hk.2.2] at hc
  refine W.iast hx hb hc (hK.2.1 _ _) (fun q => by cases q) (by rw [arrV_size]; exact hin) rfl rfl hdg fun H1 e1 z1 o1 => ?_
  rw [arrV_store] at e1
  exact kk _ H1 _ ⟨hG.1.setj k hk.1 hk.2.1 hk.2.2 e1 o1, hG.2.put z1 o1 (hA _ (mO_a hk.1 hk.2.1))⟩ hF
theorem m_stl (C0 : mCx p s m args meth c cc nL ret L A) (hG : mG A L s σ H locs) {i : Int32} {x : Int64} (hdg : decode cc pc = .ok (.lastore, 1)) {β : Type} {f : mS → Option β} {z : β} (hF : chk i 360 (nmv (mSl σ i.toNatClampNeg x) f) = some z)
    (kk : ∀ (σ1 : mS) (H1 : Heap) (locs1 : List Loc), mG A L s σ1 H1 locs1 → f σ1 = some z → W p l e R s m args below meth c H1 locs1 0 0 Q (F0 m (pc + 1) ls rest)) : W p l e R s m args below meth c H locs 0 0 Q (F0 m pc ls (.long x :: .int i :: .ref (L.2.1 43) :: rest)) := by
  obtain ⟨hx, hb, hml, hown, hts, hK, hA, hr, hlk⟩ := C0
  obtain ⟨hin, hF⟩ := chk_of hF
  have hc := hG.1.2.1 43 (by decide) rfl
  rw [mE_l] at hc
  refine W.last hx hb hc (hK.2.2 _ _) (fun q => by cases q) (by rw [arrV_size]; exact hin) rfl rfl hdg fun H1 e1 z1 o1 => ?_
  rw [arrV_store] at e1
  exact kk _ H1 _ ⟨hG.1.setl e1 o1, hG.2.put z1 o1 (hA _ (mO_a (by decide) rfl))⟩ hF
/-- naming what is on top -/
theorem w_nm {x : Int32} {β : Type} {f : Int32 → β} {z : β} (hF : nmv x f = z) {cells slots : Nat} (kk : ∀ y : Int32, f y = z → W p l e R s m args below meth c H locs cells slots Q (F0 m pc ls (.int y :: rest))) : W p l e R s m args below meth c H locs cells slots Q (F0 m pc ls (.int x :: rest)) := kk x hF
theorem w_nml {x : Int64} {β : Type} {f : Int64 → β} {z : β} (hF : nmv x f = z) {cells slots : Nat} (kk : ∀ y : Int64, f y = z → W p l e R s m args below meth c H locs cells slots Q (F0 m pc ls (.long y :: rest))) : W p l e R s m args below meth c H locs cells slots Q (F0 m pc ls (.long x :: rest)) := kk x hF
theorem w_iinc (hexec : p.tables.exec = Jvm.exec) (hb : c.code = cc) {i nL : Nat} {n : Int} {x v : Int32} {lv : List (Nat × Value)} {cells slots : Nat} (hdg : decode cc pc = .ok (.iinc i n, 3)) (h : lv_has ls nL lv) (k : Nat) (hk : lv[k]? = some (i, .int x)) (hv : Int32.ofInt n = v) (hn : i < nL) {β : Type} {f : Int32 → β} {z : β} (hF : nmv (x + v) f = z)
    (kk : ∀ (y : Int32) (ls' : Array Slot), lv_has ls' nL ((i, Value.int y) :: lv.filter (fun q => !(q.1 == i) && !(q.1 + 1 == i && q.2.category == 2))) → f y = z → W p l e R s m args below meth c H locs cells slots Q (F0 m (pc + 3) ls' rest)) : W p l e R s m args below meth c H locs cells slots Q (F0 m pc ls rest) := by
  subst hv
  exact lv_iinc hexec hb hdg h (k := k) hk rfl hn rfl (fun ls' hl => kk _ ls' hl hF)
/-- ends -/
theorem m_end (C0 : mCx p s m args meth c cc nL ret L A) (hG : mG A L s σ H locs) {σ1 : mS} {v : Option Value} (e1 : σ = σ1) (t : State) (ht : t.heap = H) (hW : s.WarmedH t.vm) : mQ L σ1 v A args s (.returned v) t := by
  subst e1
  exact ⟨⟨rfl, by rw [ht]; exact hG.1, C0.2.2.2.2.2.1.moved hW.alike⟩, hG.2.F ht⟩
theorem m_iret (C0 : mCx p s m args meth c cc nL (some .int) L A) (hG : mG A L s σ H locs) {σ1 : mS} {v r : Int32} (hdg : decode cc pc = .ok (.ireturn, 1)) (hF : some (σ, v) = some (σ1, r)) : W p l e R s m args below meth c H locs 0 0 (mZ below L A s args σ1 (some (.int r))) (F0 m pc ls [.int v]) := by
  cases hF
  exact W.iret C0.1 C0.2.1 C0.2.2.2.2.2.2.2.1 (fun t ht hW => m_end C0 hG rfl t ht hW) hG.2.2.2 hdg C0.2.2.2.2.2.2.2.2
theorem m_zret (C0 : mCx p s m args meth c cc nL (some .boolean) L A) (hG : mG A L s σ H locs) {σ1 : mS} {v r : Int32} (hdg : decode cc pc = .ok (.ireturn, 1)) (hF : chb v (some (σ, v)) = some (σ1, r)) : W p l e R s m args below meth c H locs 0 0 (mZ below L A s args σ1 (some (.int r))) (F0 m pc ls [.int v]) := by
  obtain ⟨hv, hF⟩ := chb_of hF
  cases hF
  exact W.zret C0.1 C0.2.1 C0.2.2.2.2.2.2.2.1 (nar_bool hv) (fun t ht hW => m_end C0 hG rfl t ht hW) hG.2.2.2 hdg C0.2.2.2.2.2.2.2.2
theorem m_lret (C0 : mCx p s m args meth c cc nL (some .long) L A) (hG : mG A L s σ H locs) {σ1 : mS} {v r : Int64} (hdg : decode cc pc = .ok (.lreturn, 1)) (hF : some (σ, v) = some (σ1, r)) : W p l e R s m args below meth c H locs 0 0 (mZ below L A s args σ1 (some (.long r))) (F0 m pc ls [.long v]) := by
  cases hF
  exact W.lret C0.1 C0.2.1 C0.2.2.2.2.2.2.2.1 (fun t ht hW => m_end C0 hG rfl t ht hW) hG.2.2.2 hdg C0.2.2.2.2.2.2.2.2
theorem m_vret (C0 : mCx p s m args meth c cc nL none L A) (hG : mG A L s σ H locs) {σ1 : mS} {r : Unit} (hdg : decode cc pc = .ok (.return_, 1)) (hF : some (σ, ()) = some (σ1, r)) : W p l e R s m args below meth c H locs 0 0 (mZ below L A s args σ1 none) (F0 m pc ls []) := by
  cases hF
  exact W.vret C0.1 C0.2.1 C0.2.2.2.2.2.2.2.1 (fun t ht hW => m_end C0 hG rfl t ht hW) hG.2.2.2 hdg C0.2.2.2.2.2.2.2.2
/-- calls -/
theorem m_call {st0 : List Value} {a : Array Value} {v : Option Value} {σ1 : mS} (C0 : mCx p s m args meth c cc nL ret L A) (hG : mG A L s σ H locs) (hr : va_Run p l e R s m args below meth c H locs 0 0 0 0 (F0 m pc ls st0) rest (mQ L σ1 v (mA L H.size) a) (mA L H.size))
    (kk : ∀ (H1 : Heap) (locs1 : List Loc), mG A L s σ1 H1 locs1 → W p l e R s m args below meth c H1 locs1 0 0 Q (F0 m (pc + 3) ls (v.toList ++ rest))) : W p l e R s m args below meth c H locs 0 0 Q (F0 m pc ls st0) := by
  intro T hT X
  obtain ⟨hx, hb, hml, hown, hts, hK, hA, hr1, hlk⟩ := C0
  obtain ⟨hGW, hS⟩ := hG
  have hsub : ∀ q, mA L H.size q → A q := fun q h => hA q (h.elim Or.inl (fun h => Or.inr (Nat.le_trans hS.1 h)))
  obtain ⟨v', st₀, t, T', Lc, h0, X', hL, e1, e2, ⟨⟨hv, hw, hk2⟩, hz, hk⟩, st⟩ := hr T hT X
  cases hv
  rw [h0] at hz hk
  obtain ⟨t2, a1, b1⟩ := kk T'.heap (locs ++ Lc) ⟨by rw [e1]; exact hw,
    ⟨Nat.le_trans hS.1 (by rw [e1]; exact hz), fun q h1 h2 => by rw [e1, hk q (Nat.lt_of_lt_of_le h1 hS.1) (fun z => h2 (hsub q z))]; exact hS.2.1 q h1 h2, fun q hq => by
      rcases List.mem_append.mp hq with h | h
      · exact hS.2.2 q h
      · exact hsub _ (hL q h)⟩⟩ T' rfl X'
  exact ⟨t2, st t2 a1, b1⟩
theorem mBlind {av : List Value} {sz : Nat} : FrameBlind (va_Pc av (fun U => U.heap.size = sz ∧ mW L σ U.heap ∧ mK L U)) := fun a U g mk q => by
  obtain ⟨q0, q1, q2, q3⟩ := q
  exact ⟨q0, q1, q2, mK.moved (u := U) (U := U.calling g mk a) (Vm.Alike.refl U.vm) q3⟩
theorem m_cV {st0 As : List Value} {v : Option Value} {σ1 : mS} {y : MethodName} {cy : ByteArray} {ny n idx fr lo : Nat} {ry : Option FieldType} (C0 : mCx p s m args meth c cc nL ret L A) (hG : mG A L s σ H locs) (hM : mMet l y cy ny ry fr lo (.ref L.1 :: As) L σ v σ1) (hw : GoodIn lw_all (wsV RX2 idx RX2 y (ws_ y cy ny ry))) (hd : y.cls = RX2 ∧ y.cls ≠ "java/lang/invoke/MethodHandle" ∧ y.cls ≠ "java/lang/invoke/VarHandle" ∧ (parseMethodDescriptor y.desc).map (fun d => d.parameters.length) = some n)
    (hR : fr + 1 ≤ R.frames ∧ 8 + (ny + 11) + lo ≤ R.locals) (hst : st0 = As.reverse ++ .ref L.1 :: rest) (hn : As.length = n) (hsz : ls.size = nL) (hrm : (rest.map fun v => v.category).sum ≤ 8) (hdg : decode cc pc = .ok (.invokevirtual idx, 3))
    (kk : ∀ (H1 : Heap) (locs1 : List Loc), mG A L s σ1 H1 locs1 → W p l e R s m args below meth c H1 locs1 0 0 Q (F0 m (pc + 3) ls (v.toList ++ rest))) : W p l e R s m args below meth c H locs 0 0 Q (F0 m pc ls st0) := by
  refine m_call (a := (Value.ref L.1 :: As).toArray) C0 hG ?_ kk
  exact va_runV (As := As) (rest := rest) ⟨C0.1, C0.2.1, C0.2.2.1, C0.2.2.2.1, C0.2.2.2.2.1⟩ (hM H.size) (cwV n C0.2.2.2.2.1 hw rfl rfl rfl hd hR) ⟨mBlind, o_recv C0.2.2.2.2.2.1.1 hG.1.1, fun U hU hW => ⟨rfl, by rw [hU], by rw [hU]; exact hG.1, C0.2.2.2.2.2.1.moved hW.alike⟩⟩ rfl hn hsz hst (lv_room hrm) hdg ⟨Nat.zero_le _, Nat.zero_le _⟩
theorem m_cS {st0 As : List Value} {v : Option Value} {σ1 : mS} {y : MethodName} {cy : ByteArray} {ny n idx fr lo : Nat} {ry : Option FieldType} (C0 : mCx p s m args meth c cc nL ret L A) (hG : mG A L s σ H locs) (hM : mMet l y cy ny ry fr lo As L σ v σ1) (hw : GoodIn lw_all (va_wsS RX2 idx y (ws_ y cy ny ry))) (hd : y.cls ≠ "java/lang/invoke/MethodHandle" ∧ y.cls ≠ "java/lang/invoke/VarHandle" ∧ (parseMethodDescriptor y.desc).map (fun d => d.parameters.length) = some n)
    (hR : fr + 1 ≤ R.frames ∧ 8 + (ny + 11) + lo ≤ R.locals) (hst : st0 = As.reverse ++ rest) (hn : As.length = n) (hsz : ls.size = nL) (hrm : (rest.map fun v => v.category).sum ≤ 8) (hdg : decode cc pc = .ok (.invokestatic idx, 3))
    (kk : ∀ (H1 : Heap) (locs1 : List Loc), mG A L s σ1 H1 locs1 → W p l e R s m args below meth c H1 locs1 0 0 Q (F0 m (pc + 3) ls (v.toList ++ rest))) : W p l e R s m args below meth c H locs 0 0 Q (F0 m pc ls st0) := by
  refine m_call (a := As.toArray) C0 hG ?_ kk
  exact va_runS (As := As) (rest := rest) ⟨C0.1, C0.2.1, C0.2.2.1, C0.2.2.2.1, C0.2.2.2.2.1⟩ (hM H.size) (va_cwS n C0.2.2.2.2.1 hw rfl rfl rfl hd hR) ⟨mBlind, fun U hU hW => ⟨rfl, by rw [hU], by rw [hU]; exact hG.1, C0.2.2.2.2.2.1.moved hW.alike⟩⟩ rfl hn hsz hst (lv_room hrm) hdg ⟨Nat.zero_le _, Nat.zero_le _⟩
theorem m_cVi {st0 As : List Value} {r : Int32} {σ1 : mS} {y : MethodName} {cy : ByteArray} {ny n idx fr lo : Nat} {ry : Option FieldType} (C0 : mCx p s m args meth c cc nL ret L A) (hG : mG A L s σ H locs) (hM : mMet l y cy ny ry fr lo (.ref L.1 :: As) L σ (some (.int r)) σ1) (hw : GoodIn lw_all (wsV RX2 idx RX2 y (ws_ y cy ny ry))) (hd : y.cls = RX2 ∧ y.cls ≠ "java/lang/invoke/MethodHandle" ∧ y.cls ≠ "java/lang/invoke/VarHandle" ∧ (parseMethodDescriptor y.desc).map (fun d => d.parameters.length) = some n)
    (hR : fr + 1 ≤ R.frames ∧ 8 + (ny + 11) + lo ≤ R.locals) (hst : st0 = As.reverse ++ .ref L.1 :: rest) (hn : As.length = n) (hsz : ls.size = nL) (hrm : (rest.map fun v => v.category).sum ≤ 8) (hdg : decode cc pc = .ok (.invokevirtual idx, 3))
    (kk : ∀ (H1 : Heap) (locs1 : List Loc), mG A L s σ1 H1 locs1 → W p l e R s m args below meth c H1 locs1 0 0 Q (F0 m (pc + 3) ls (.int r :: rest))) : W p l e R s m args below meth c H locs 0 0 Q (F0 m pc ls st0) := m_cV C0 hG hM hw hd hR hst hn hsz hrm hdg kk
theorem m_cVl {st0 As : List Value} {r : Int64} {σ1 : mS} {y : MethodName} {cy : ByteArray} {ny n idx fr lo : Nat} {ry : Option FieldType} (C0 : mCx p s m args meth c cc nL ret L A) (hG : mG A L s σ H locs) (hM : mMet l y cy ny ry fr lo (.ref L.1 :: As) L σ (some (.long r)) σ1) (hw : GoodIn lw_all (wsV RX2 idx RX2 y (ws_ y cy ny ry))) (hd : y.cls = RX2 ∧ y.cls ≠ "java/lang/invoke/MethodHandle" ∧ y.cls ≠ "java/lang/invoke/VarHandle" ∧ (parseMethodDescriptor y.desc).map (fun d => d.parameters.length) = some n)
    (hR : fr + 1 ≤ R.frames ∧ 8 + (ny + 11) + lo ≤ R.locals) (hst : st0 = As.reverse ++ .ref L.1 :: rest) (hn : As.length = n) (hsz : ls.size = nL) (hrm : (rest.map fun v => v.category).sum ≤ 8) (hdg : decode cc pc = .ok (.invokevirtual idx, 3))
    (kk : ∀ (H1 : Heap) (locs1 : List Loc), mG A L s σ1 H1 locs1 → W p l e R s m args below meth c H1 locs1 0 0 Q (F0 m (pc + 3) ls (.long r :: rest))) : W p l e R s m args below meth c H locs 0 0 Q (F0 m pc ls st0) := m_cV C0 hG hM hw hd hR hst hn hsz hrm hdg kk
theorem m_cVv {st0 As : List Value} {σ1 : mS} {y : MethodName} {cy : ByteArray} {ny n idx fr lo : Nat} {ry : Option FieldType} (C0 : mCx p s m args meth c cc nL ret L A) (hG : mG A L s σ H locs) (hM : mMet l y cy ny ry fr lo (.ref L.1 :: As) L σ none σ1) (hw : GoodIn lw_all (wsV RX2 idx RX2 y (ws_ y cy ny ry))) (hd : y.cls = RX2 ∧ y.cls ≠ "java/lang/invoke/MethodHandle" ∧ y.cls ≠ "java/lang/invoke/VarHandle" ∧ (parseMethodDescriptor y.desc).map (fun d => d.parameters.length) = some n)
    (hR : fr + 1 ≤ R.frames ∧ 8 + (ny + 11) + lo ≤ R.locals) (hst : st0 = As.reverse ++ .ref L.1 :: rest) (hn : As.length = n) (hsz : ls.size = nL) (hrm : (rest.map fun v => v.category).sum ≤ 8) (hdg : decode cc pc = .ok (.invokevirtual idx, 3))
    (kk : ∀ (H1 : Heap) (locs1 : List Loc), mG A L s σ1 H1 locs1 → W p l e R s m args below meth c H1 locs1 0 0 Q (F0 m (pc + 3) ls rest)) : W p l e R s m args below meth c H locs 0 0 Q (F0 m pc ls st0) := m_cV C0 hG hM hw hd hR hst hn hsz hrm hdg kk
theorem m_cSi {st0 As : List Value} {r : Int32} {σ1 : mS} {y : MethodName} {cy : ByteArray} {ny n idx fr lo : Nat} {ry : Option FieldType} (C0 : mCx p s m args meth c cc nL ret L A) (hG : mG A L s σ H locs) (hM : mMet l y cy ny ry fr lo As L σ (some (.int r)) σ1) (hw : GoodIn lw_all (va_wsS RX2 idx y (ws_ y cy ny ry))) (hd : y.cls ≠ "java/lang/invoke/MethodHandle" ∧ y.cls ≠ "java/lang/invoke/VarHandle" ∧ (parseMethodDescriptor y.desc).map (fun d => d.parameters.length) = some n)
    (hR : fr + 1 ≤ R.frames ∧ 8 + (ny + 11) + lo ≤ R.locals) (hst : st0 = As.reverse ++ rest) (hn : As.length = n) (hsz : ls.size = nL) (hrm : (rest.map fun v => v.category).sum ≤ 8) (hdg : decode cc pc = .ok (.invokestatic idx, 3))
    (kk : ∀ (H1 : Heap) (locs1 : List Loc), mG A L s σ1 H1 locs1 → W p l e R s m args below meth c H1 locs1 0 0 Q (F0 m (pc + 3) ls (.int r :: rest))) : W p l e R s m args below meth c H locs 0 0 Q (F0 m pc ls st0) := m_cS C0 hG hM hw hd hR hst hn hsz hrm hdg kk
theorem m_cSl {st0 As : List Value} {r : Int64} {σ1 : mS} {y : MethodName} {cy : ByteArray} {ny n idx fr lo : Nat} {ry : Option FieldType} (C0 : mCx p s m args meth c cc nL ret L A) (hG : mG A L s σ H locs) (hM : mMet l y cy ny ry fr lo As L σ (some (.long r)) σ1) (hw : GoodIn lw_all (va_wsS RX2 idx y (ws_ y cy ny ry))) (hd : y.cls ≠ "java/lang/invoke/MethodHandle" ∧ y.cls ≠ "java/lang/invoke/VarHandle" ∧ (parseMethodDescriptor y.desc).map (fun d => d.parameters.length) = some n)
    (hR : fr + 1 ≤ R.frames ∧ 8 + (ny + 11) + lo ≤ R.locals) (hst : st0 = As.reverse ++ rest) (hn : As.length = n) (hsz : ls.size = nL) (hrm : (rest.map fun v => v.category).sum ≤ 8) (hdg : decode cc pc = .ok (.invokestatic idx, 3))
    (kk : ∀ (H1 : Heap) (locs1 : List Loc), mG A L s σ1 H1 locs1 → W p l e R s m args below meth c H1 locs1 0 0 Q (F0 m (pc + 3) ls (.long r :: rest))) : W p l e R s m args below meth c H locs 0 0 Q (F0 m pc ls st0) := m_cS C0 hG hM hw hd hR hst hn hsz hrm hdg kk
theorem m_cSv {st0 As : List Value} {σ1 : mS} {y : MethodName} {cy : ByteArray} {ny n idx fr lo : Nat} {ry : Option FieldType} (C0 : mCx p s m args meth c cc nL ret L A) (hG : mG A L s σ H locs) (hM : mMet l y cy ny ry fr lo As L σ none σ1) (hw : GoodIn lw_all (va_wsS RX2 idx y (ws_ y cy ny ry))) (hd : y.cls ≠ "java/lang/invoke/MethodHandle" ∧ y.cls ≠ "java/lang/invoke/VarHandle" ∧ (parseMethodDescriptor y.desc).map (fun d => d.parameters.length) = some n)
    (hR : fr + 1 ≤ R.frames ∧ 8 + (ny + 11) + lo ≤ R.locals) (hst : st0 = As.reverse ++ rest) (hn : As.length = n) (hsz : ls.size = nL) (hrm : (rest.map fun v => v.category).sum ≤ 8) (hdg : decode cc pc = .ok (.invokestatic idx, 3))
    (kk : ∀ (H1 : Heap) (locs1 : List Loc), mG A L s σ1 H1 locs1 → W p l e R s m args below meth c H1 locs1 0 0 Q (F0 m (pc + 3) ls rest)) : W p l e R s m args below meth c H locs 0 0 Q (F0 m pc ls st0) := m_cS C0 hG hM hw hd hR hst hn hsz hrm hdg kk
/-- a static method that touches no cell -/
def qMet (l : Launch) (y : MethodName) (cc : ByteArray) (nL : Nat) (ret : Option FieldType) (fr lo : Nat) (av : List Value) (v : Option Value) : Prop :=
  Met l y (ws_ y cc nL ret) ({ frames := fr, cells := 0, slots := 0, locals := lo }) (va_Pc av (fun _ => True)) (fun _ st oc t => oc = .returned v ∧ t.heap = st.heap) 0 0 (fun _ => False)
theorem m_cP {st0 As : List Value} {r : Int32} {y : MethodName} {cy : ByteArray} {ny n idx fr lo : Nat} {ry : Option FieldType} (C0 : mCx p s m args meth c cc nL ret L A) (hG : mG A L s σ H locs) (hM : qMet l y cy ny ry fr lo As (some (.int r))) (hw : GoodIn lw_all (va_wsS RX2 idx y (ws_ y cy ny ry))) (hd : y.cls ≠ "java/lang/invoke/MethodHandle" ∧ y.cls ≠ "java/lang/invoke/VarHandle" ∧ (parseMethodDescriptor y.desc).map (fun d => d.parameters.length) = some n)
    (hR : fr + 1 ≤ R.frames ∧ 8 + (ny + 11) + lo ≤ R.locals) (hst : st0 = As.reverse ++ rest) (hn : As.length = n) (hsz : ls.size = nL) (hrm : (rest.map fun v => v.category).sum ≤ 8) (hdg : decode cc pc = .ok (.invokestatic idx, 3)) {β : Type} {f : Int32 → β} {z : β} (hF : nmv r f = z)
    (kk : ∀ x : Int32, f x = z → W p l e R s m args below meth c H locs 0 0 Q (F0 m (pc + 3) ls (.int x :: rest))) : W p l e R s m args below meth c H locs 0 0 Q (F0 m pc ls st0) := by
  have hr := va_runS (p := p) (l := l) (e := e) (R := R) (s := s) (m := m) (args := args) (below := below) (meth := meth) (c := c) (H := H) (locs := locs) (cells := 0) (slots := 0) (g := F0 m pc ls st0) (As := As) (rest := rest) ⟨C0.1, C0.2.1, C0.2.2.1, C0.2.2.2.1, C0.2.2.2.2.1⟩ hM (va_cwS n C0.2.2.2.2.1 hw rfl rfl rfl hd hR) ⟨fun a U g mk q => ⟨q.1, trivial⟩, fun U hU hW => ⟨rfl, trivial⟩⟩ rfl hn hsz hst (lv_room hrm) hdg ⟨Nat.zero_le _, Nat.zero_le _⟩
  intro T hT X
  obtain ⟨v', st₀, t, T', Lc, h0, X', hL, e1, e2, ⟨hv, hz⟩, st⟩ := hr T hT X
  cases hv
  have hLc : Lc = [] := List.eq_nil_iff_forall_not_mem.mpr (fun q hq => hL q hq)
  subst hLc
  rw [List.append_nil] at X'
  obtain ⟨t2, a1, b1⟩ := kk r hF T' (by rw [e1, hz, h0]) X'
  exact ⟨t2, st t2 a1, b1⟩
/-- a method's head -/
theorem m_head {y : MethodName} {av : List Value} {v : Option Value} {σ1 : mS} {fr lo : Nat} (hy : plainName y.cls = true) (hcls : y.cls = RX2)
    (body : ∀ (p : Program) (e : Env) (s : State) (m : MethodId) (below : List Frame) (meth : Method) (c : Code) (A : Nat → Prop), mCx p s m av.toArray meth c cc nL ret L A → mG A L s σ s.heap [] → W p l e ({ frames := fr, cells := 0, slots := 0, locals := lo }) s m av.toArray below meth c s.heap [] 0 0 (mZ below L A s av.toArray σ1 v) (entryFrame m av.toArray nL)) : mMet l y cc nL ret fr lo av L σ v σ1 := by
  intro sz
  refine Met.ofW (cc := cc) (maxL := nL) (ret := ret) hy rfl ?_
  intro p e s m args below meth c s₁ B hml hv
  obtain ⟨rfl, hsz, hW, hK⟩ := hv
  subst hsz
  have hts := atoms_spec (ws := ws_ y cc nL ret) B.pre
  have hown : s.vm.findClass RX2 = some m.cls := by rw [← hcls]; exact findClass_of_methodNamed B.named
  exact body p e s m below meth c (mA L s.heap.size) ⟨B.exec, B.bytes, hml, hown, fun w h => hts w (List.mem_cons_of_mem _ h), hK, fun q h => h, B.returns, B.notSynchronized⟩ ⟨hW, va_S.rf⟩
theorem m_max (C0 : mCx p s m args meth c cc nL ret L A) (hsz : ls.size = nL) {idx : Nat} (hq : Cond.methodLink RX2 idx Lib.Math.max.name ∈ lw_all) (h2 : Cond.static Lib.Math.max.name ∈ lw_all) (h3 : Cond.initialized "java/lang/Math" ∈ lw_all) (h4 : Cond.code Lib.Math.max.name Lib.Math.max.code 2 (some .int) ∈ lw_all) (hR : 1 ≤ R.frames ∧ 21 ≤ R.locals) (hrm : (rest.map fun v => v.category).sum ≤ 8) {x y : Int32} (hdg : decode cc pc = .ok (.invokestatic idx, 3)) {β : Type} {f : Int32 → β} {z : β} (hF : nmv (if x < y then y else x) f = z)
    (kk : ∀ r : Int32, f r = z → W p l e R s m args below meth c H locs 0 0 Q (F0 m (pc + 3) ls (.int r :: rest))) : W p l e R s m args below meth c H locs 0 0 Q (F0 m pc ls (.int y :: .int x :: rest)) :=
  va_mmax C0.1 C0.2.1 (C0.2.2.1.trans hsz.symm) C0.2.2.2.1 (C0.2.2.2.2.1 _ hq) (C0.2.2.2.2.1 _ h2) (C0.2.2.2.2.1 _ h3) (C0.2.2.2.2.1 _ h4) hR.1 (by omega) (Nat.zero_le _) (Nat.zero_le _) hdg (kk _ hF)
theorem m_min (C0 : mCx p s m args meth c cc nL ret L A) (hsz : ls.size = nL) {idx : Nat} (hq : Cond.methodLink RX2 idx Lib.Math.min.name ∈ lw_all) (h2 : Cond.static Lib.Math.min.name ∈ lw_all) (h3 : Cond.initialized "java/lang/Math" ∈ lw_all) (h4 : Cond.code Lib.Math.min.name Lib.Math.min.code 2 (some .int) ∈ lw_all) (hR : 1 ≤ R.frames ∧ 21 ≤ R.locals) (hrm : (rest.map fun v => v.category).sum ≤ 8) {x y : Int32} (hdg : decode cc pc = .ok (.invokestatic idx, 3)) {β : Type} {f : Int32 → β} {z : β} (hF : nmv (if y < x then y else x) f = z)
    (kk : ∀ r : Int32, f r = z → W p l e R s m args below meth c H locs 0 0 Q (F0 m (pc + 3) ls (.int r :: rest))) : W p l e R s m args below meth c H locs 0 0 Q (F0 m pc ls (.int y :: .int x :: rest)) :=
  va_mmin C0.1 C0.2.1 (C0.2.2.1.trans hsz.symm) C0.2.2.2.1 (C0.2.2.2.2.1 _ hq) (C0.2.2.2.2.1 _ h2) (C0.2.2.2.2.1 _ h3) (C0.2.2.2.2.1 _ h4) hR.1 (by omega) (Nat.zero_le _) (Nat.zero_le _) hdg (kk _ hF)
theorem m_abs (C0 : mCx p s m args meth c cc nL ret L A) (hsz : ls.size = nL) {idx : Nat} (hq : Cond.methodLink RX2 idx Lib.Math.abs.name ∈ lw_all) (h2 : Cond.static Lib.Math.abs.name ∈ lw_all) (h3 : Cond.initialized "java/lang/Math" ∈ lw_all) (h4 : Cond.code Lib.Math.abs.name Lib.Math.abs.code 1 (some .int) ∈ lw_all) (hR : 1 ≤ R.frames ∧ 21 ≤ R.locals) (hrm : (rest.map fun v => v.category).sum ≤ 8) {x : Int32} (hdg : decode cc pc = .ok (.invokestatic idx, 3)) {β : Type} {f : Int32 → β} {z : β} (hF : nmv (if 0 ≤ x then x else 0 - x) f = z)
    (kk : ∀ r : Int32, f r = z → W p l e R s m args below meth c H locs 0 0 Q (F0 m (pc + 3) ls (.int r :: rest))) : W p l e R s m args below meth c H locs 0 0 Q (F0 m pc ls (.int x :: rest)) :=
  va_mabs C0.1 C0.2.1 (C0.2.2.1.trans hsz.symm) C0.2.2.2.1 (C0.2.2.2.2.1 _ hq) (C0.2.2.2.2.1 _ h2) (C0.2.2.2.2.1 _ h3) (C0.2.2.2.2.1 _ h4) hR.1 (by omega) (Nat.zero_le _) (Nat.zero_le _) hdg (kk _ hF)
end MROWS
/-! Static methods of the JDK that touch no cell -/
abbrev pS : Type := Unit
abbrev pL : Type := Unit
def pG (_ : Nat → Prop) (_ : pL) (s : State) (_ : pS) (H : Heap) (locs : List Loc) : Prop := H = s.heap ∧ locs = []
def pCx (p : Program) (s : State) (m : MethodId) (args : Array Value) (meth : Method) (c : Code) (cc : ByteArray) (nL : Nat) (ret : Option FieldType) (_ : pL) (_ : Nat → Prop) : Prop :=
  p.tables.exec = Jvm.exec ∧ c.code = cc ∧ c.maxLocals = nL ∧ s.vm.findClass RJ13 = some m.cls ∧ (∀ w ∈ lw_all, w.before args s = true) ∧ meth.sig.returnType = ret ∧ meth.locks = false
abbrev pZ (below : List Frame) (_ : pL) (_ : Nat → Prop) (s : State) (args : Array Value) (_ : pS) (v : Option Value) : State → Prop := MQ below (fun _ st oc t => oc = .returned v ∧ t.heap = st.heap) args s 0 0 (fun _ => False)
def pMet (l : Launch) (y : MethodName) (cc : ByteArray) (nL : Nat) (ret : Option FieldType) (fr lo : Nat) (av : List Value) (_ : pL) (_ : pS) (v : Option Value) (_ : pS) : Prop := qMet l y cc nL ret fr lo av v
section PROWS
variable {p : Program} {l : Launch} {e : Env} {R : Room} {s : State} {m : MethodId} {args : Array Value} {below : List Frame} {meth : Method} {c : Code} {H : Heap} {locs : List Loc} {Q : State → Prop}
variable {cc : ByteArray} {nL : Nat} {ret : Option FieldType} {pc : Nat} {ls : Array Slot} {rest : List Value} {A : Nat → Prop} {L : pL} {σ : pS}
theorem p_iret (C0 : pCx p s m args meth c cc nL (some .int) L A) (hG : pG A L s σ H locs) {σ1 : pS} {v r : Int32} (hdg : decode cc pc = .ok (.ireturn, 1)) (hF : some (σ, v) = some (σ1, r)) : W p l e R s m args below meth c H locs 0 0 (pZ below L A s args σ1 (some (.int r))) (F0 m pc ls [.int v]) := by
  cases hF
  exact W.iret C0.1 C0.2.1 C0.2.2.2.2.2.1 (fun t ht hW => ⟨rfl, by rw [ht]; exact hG.1⟩) (by rw [hG.2]; exact fun q h => by cases h) hdg C0.2.2.2.2.2.2
theorem p_head {y : MethodName} {av : List Value} {v : Option Value} {σ1 : pS} {fr lo : Nat} (hy : plainName y.cls = true) (hcls : y.cls = RJ13)
    (body : ∀ (p : Program) (e : Env) (s : State) (m : MethodId) (below : List Frame) (meth : Method) (c : Code) (A : Nat → Prop), pCx p s m av.toArray meth c cc nL ret L A → pG A L s σ s.heap [] → W p l e ({ frames := fr, cells := 0, slots := 0, locals := lo }) s m av.toArray below meth c s.heap [] 0 0 (pZ below L A s av.toArray σ1 v) (entryFrame m av.toArray nL)) : pMet l y cc nL ret fr lo av L σ v σ1 := by
  unfold pMet qMet
  refine Met.ofW (cc := cc) (maxL := nL) (ret := ret) hy rfl ?_
  intro p e s m args below meth c s₁ B hml hv
  obtain ⟨rfl, -⟩ := hv
  have hts := atoms_spec (ws := ws_ y cc nL ret) B.pre
  have hown : s.vm.findClass RJ13 = some m.cls := by rw [← hcls]; exact findClass_of_methodNamed B.named
  exact body p e s m below meth c (fun _ => False) ⟨B.exec, B.bytes, hml, hown, fun w h => hts w (List.mem_cons_of_mem _ h), B.returns, B.notSynchronized⟩ ⟨rfl, rfl⟩
end PROWS
