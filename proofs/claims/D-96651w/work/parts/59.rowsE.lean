/-! A cast that fails -/
section CASTZ
variable {p : Program} {l : Launch} {e : Env} {R : Room} {s : State} {m : MethodId} {args : Array Value} {below : List Frame} {meth : Method} {c : Code} {T : State} {locs : List Loc} {cells slots : Nat}
theorem x_castF (X : Stand p l e R s m args below meth c T locs cells slots) (hexec : p.tables.exec = Jvm.exec)
    {own name : String} {index : Nat} (hown : s.vm.findClass own = some m.cls) (hlink : (Cond.classLink own index name).before args s = true)
    {a : Addr} {cell : Cell} {cT : ClassId} {ks kt : Class} (hcell : T.heap[a]? = some cell) (hobj : ∀ k, cell.vm ≠ .statics k) (hks : s.vm.classes[cell.cls]? = some ks) (hkt : s.vm.classes[cT]? = some kt)
    (hcT : s.vm.findClass name = some cT) (hasg : ¬ s.vm.assignable cell.cls cT = true)
    {g : JFrame} (hg : g.method = m) {rest : List Value} (hstack : g.stack = .ref a :: rest) (hdg : decode c.code g.pc = .ok (.checkcast index, 3)) :
    ∃ (vm' : Vm) (ks' kt' : Class), s.vm.Alike vm' ∧ vm'.classes[cell.cls]? = some ks' ∧ vm'.classes[cT]? = some kt' ∧ Stand p l e R s m args below meth c (T.setVm vm') locs cells slots ∧
      ∀ target, Steps p.tables e below (((T.setVm vm').setTop g).pushFrame (.throwNew "java/lang/ClassCastException" (some (Op.checkcast.message vm' ks' kt')) none)) target → Steps p.tables e below (T.setTop g) target := by
  have hpl : e.platform.magicAccessors = ({} : Platform).magicAccessors := by rw [X.admits.platform]
  obtain ⟨c', hc', hcl⟩ := Cond.classLink_spec hown hlink e.platform hpl
  cases hcT.symm.trans hc'
  obtain ⟨dk, _, _, kt0, hd, _, _, _, _, hkt0, _, hopen⟩ := hcl.here
  have hcl₀ := X.warmed.classLinks hcl
  have hW' : s.WarmedH (T.vm.noted m.cls index (.cls cT)) := X.warmed.noted hd hopen (State.rightAt_cls hcl)
  obtain ⟨ks', hks', -⟩ := hW'.alike.2.2 _ _ hks
  obtain ⟨kt', hkt', -⟩ := hW'.alike.2.2 _ _ hkt
  refine ⟨_, ks', kt', hW'.alike, hks', hkt', X.noted hW', fun target hrest => ?_⟩
  subst hg
  jvm_step X.here [hexec, hdg, Op.checkcast.wp_cold (e := e) (s := T) (f := g) X.here.top hstack (resolveClass_links e.toSetting hcl₀) hcl₀.ready,
    Op.checkcast.wp_ready (e := e) (s := T.setVm (T.vm.noted g.method.cls index (.cls cT))) (f := g) X.here.top hcl₀.ready hstack]
  refine ⟨cell, hcell, hobj, ks', hks', kt', hkt', ?_⟩
  rw [if_neg (by rw [hW'.alike.assignable]; exact hasg)]
  exact hrest
end CASTZ
def ccT (A B h : String) : String := "class " ++ A ++ " cannot be cast to class " ++ B ++ " (" ++ (A ++ " and " ++ B ++ " are in " ++ h) ++ ")"
def ccH : List String := ["module java.base of loader 'bootstrap'", "unnamed module of loader 'bootstrap'"]
def ccA : List String := ["EightLegs$Beat", "EightLegs$Legs", "EightLegs$Breath", "EightLegs$Smile", "EightLegs$Lift", "EightLegs$Star", "EightLegs$Echo", "EightLegs$Judge", "EightLegs$ByteRow", "EightLegs$ShortRow", "EightLegs$IntRow", "EightLegs$LongRow", "EightLegs$BooleanRow"]
def ccB : List String := ["EightLegs$ByteRow", "EightLegs$ShortRow", "EightLegs$IntRow", "EightLegs$LongRow", "EightLegs$BooleanRow", "EightLegs$Row", "EightLegs$Beat"]
theorem cc_bytes {A B h : String} (hA : A.toList.length ≤ 22) (hB : B.toList.length ≤ 22) (hh : h ∈ ccH) : (stringBytes (stringToUtf16 (ccT A B h))).size ≤ 800 := by
  have b1 := stringBytes_size_le (stringToUtf16 (ccT A B h))
  have b2 := utf16_size_le (ccT A B h)
  have b3 : h.toList.length ≤ 42 := by
    rcases List.mem_cons.mp hh with e | e
    · rw [e]; decide +kernel
    · rw [List.mem_singleton.mp e]; decide +kernel
  have b4 : (ccT A B h).toList.length ≤ 190 := by
    unfold ccT
    simp only [String.toList_append, List.length_append]
    have a1 : "class ".toList.length = 6 := by decide
    have a2 : " cannot be cast to class ".toList.length = 25 := by decide
    have a3 : " (".toList.length = 2 := by decide
    have a4 : " and ".toList.length = 5 := by decide
    have a5 : " are in ".toList.length = 8 := by decide
    have a6 : ")".toList.length = 1 := by decide
    omega
  omega
theorem cc_modelled (A B h : String) : (ccT A B h == notModelled) = false := by
  rw [beq_eq_false_iff_ne]
  intro e
  have h2 := congrArg String.toList e
  have h3 : (ccT A B h).toList = 'c' :: ("lass ".toList ++ (A.toList ++ (" cannot be cast to class ".toList ++ (B.toList ++ (" (".toList ++ ((A ++ " and " ++ B ++ " are in " ++ h).toList ++ ")".toList)))))) := by
    unfold ccT
    simp only [String.toList_append, List.append_assoc]
    rfl
  rw [h3] at h2
  have h4 : notModelled.toList = '\u0000' :: " a message that is not modelled".toList := by decide
  rw [h4] at h2
  exact absurd (List.cons.inj h2).1 (by decide)
theorem cc_nm : ((ccA ++ ccB).all fun A => packageOf A == "" && dotted A == A) = true := by decide +kernel
theorem cc_class {vm : Vm} {A : String} {cA : ClassId} {k : Class} (h : vm.findClass A = some cA) (hk : vm.classes[cA]? = some k) : k.name = A ∧ k.hidden = none ∧ k.loader = none := by
  obtain ⟨hlt, hp, _⟩ := Array.findIdx?_eq_some_iff_getElem.mp h
  have e : vm.classes[cA] = k := by
    rw [Array.getElem?_eq_getElem hlt] at hk
    exact Option.some.inj hk
  simp only [Bool.and_eq_true, beq_iff_eq, Option.isNone_iff_eq_none] at hp
  rw [e] at hp
  exact ⟨hp.1.1.1, hp.1.1.2, hp.2⟩
theorem cc_text {s : State} {vm : Vm} (hvm : s.vm.Alike vm) (hm : modulesRight_1 s = true) {A B : String} {cA cB : ClassId} {ka kb : Class} (hA : vm.findClass A = some cA) (hB : vm.findClass B = some cB) (h1 : vm.classes[cA]? = some ka) (h2 : vm.classes[cB]? = some kb) (k1 : ka.kind = .ordinary) (k2 : kb.kind = .ordinary) (pA : packageOf A = "" ∧ dotted A = A) (pB : packageOf B = "" ∧ dotted B = B) : ∃ h ∈ ccH, Op.checkcast.message vm ka kb = ccT A B h := by
  obtain ⟨na, ha, la⟩ := cc_class hA h1
  obtain ⟨nb, hb, lb⟩ := cc_class hB h2
  have oa : ka.ofPrimitives = false := by simp [Class.ofPrimitives, k1]
  have ob : kb.ofPrimitives = false := by simp [Class.ofPrimitives, k2]
  have sa : ka.shown = A := by unfold Class.shown; rw [ha, na]; exact pA.2
  have sb : kb.shown = B := by unfold Class.shown; rw [hb, nb]; exact pB.2
  have ma : vm.moduleOf ka = vm.modules.find? fun m => m.loader == none && m.packages.contains "" := by
    unfold Vm.moduleOf
    rw [oa, la, na, pA.1]
    rfl
  have mb : vm.moduleOf kb = vm.modules.find? fun m => m.loader == none && m.packages.contains "" := by
    unfold Vm.moduleOf
    rw [ob, lb, nb, pB.1]
    rfl
  have hmod : vm.modules = s.vm.modules := by rw [hvm.1]
  have hs : vm.sameModule ka kb = true := by
    unfold Vm.sameModule
    rw [ma, mb, la, lb]
    cases vm.modules.find? (fun m => m.loader == none && m.packages.contains "") with
    | none => rfl
    | some x => simp
  have hl : vm.loaderName ka.loader = "'bootstrap'" := by rw [la]; rfl
  have hh : vm.home ka = "module java.base of loader 'bootstrap'" ∨ vm.home ka = "unnamed module of loader 'bootstrap'" := by
    unfold Vm.home
    rw [ma, hl]
    cases hf : vm.modules.find? (fun m => m.loader == none && m.packages.contains "") with
    | none => exact Or.inr rfl
    | some x =>
      have hx := List.find?_some hf
      have hmem := List.mem_of_find?_eq_some hf
      rw [hmod] at hmem
      have hr := List.all_eq_true.mp hm x hmem
      simp only [Bool.and_eq_true, beq_iff_eq] at hx
      have hn : x.name = "java.base" := by
        have hc : (castPackages_1.any fun p => x.packages.contains p) = true := List.any_eq_true.mpr ⟨"", by simp [castPackages_1], hx.2⟩
        rw [hc, hx.1] at hr
        simpa using hr
      exact Or.inl (by simp only [hn]; rfl)
  have hmsg : Op.checkcast.message vm ka kb = ccT A B (vm.home ka) := by
    unfold Op.checkcast.message Vm.homes ccT
    rw [if_pos hs, sa, sb]
    rfl
  rcases hh with h | h
  · exact ⟨_, List.mem_cons_self, by rw [hmsg, h]⟩
  · exact ⟨_, List.mem_cons_of_mem _ List.mem_cons_self, by rw [hmsg, h]⟩
