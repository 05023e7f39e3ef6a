/-! Methods of the class that make cells: the world's places grow -/
theorem xW.kept {L : xL} {g : xg} {σ : xS} {H H1 : Heap} (h : xW L g σ H) (hq : ∀ q, xT g q ≠ 0 → H1[q]? = H[q]?) (hz : H.size ≤ H1.size) : xW L g σ H1 := by
  obtain ⟨h1, h2, h3, ⟨h4, h5, h6⟩, h7, h8, h9⟩ := h
  have h8' := h8
  obtain ⟨l1, l2, l3, l4, l5⟩ := h8
  refine ⟨h1.kept (hq _ (by rw [l1]; decide)), fun j hj ja => ?_, h3.kept (hq _ ?_), ⟨(hq _ ?_).trans h4, h5, fun i hi => (h6 i hi).kept (hq _ ?_)⟩, h7.kept h8' (fun q hh => hq q ?_), h8', fun q hh => Nat.lt_of_lt_of_le (h9 q hh) hz⟩
  · exact (hq _ (by rw [l2 j hj (xPa_44 j hj ja).2.1 (xPa_44 j hj ja).1]; omega)).trans (h2 j hj ja)
  · rw [l2 11 (by decide) (by decide) (Or.inl rfl)]; decide
  · rw [l2 0 (by decide) (by decide) (Or.inl rfl)]; decide
  · rw [l3 i hi]; omega
  · omega
/-- cells came: no own cell changed -/
theorem xG.grow {A : Nat → Prop} {L : xL} {g : xg} {s : State} {σ : xS} {H H1 : Heap} {locs locs1 : List Loc} (hG : xG A L g s σ H locs) (hA : ∀ q, s.heap.size ≤ q → A q) (ho : ∀ a, a < H.size → H1[a]? = H[a]?) (hz : H.size ≤ H1.size) (hl : ∀ z ∈ locs1, z ∈ locs ∨ H.size ≤ z.base) : xG A L g s σ H1 locs1 := by
  obtain ⟨h1, ⟨h2, h3, h4⟩, h5⟩ := hG
  refine ⟨h1.kept (fun q hq => ho q (h1.2.2.2.2.2.2 q hq)) hz, ⟨Nat.le_trans h2 hz, fun q a b => (ho q (Nat.lt_of_lt_of_le a h2)).trans (h3 q a b), fun z hzz => ?_⟩, h5⟩
  rcases hl z hzz with h | h
  · exact h4 z h
  · exact hA _ (Nat.le_trans h2 h)
abbrev xSn (σ : xS) (e : Nat → Int32) : xS := (σ.1, σ.2.1, va_up σ.2.2.1 (xn σ) e, xn σ + 1, σ.2.2.2.2)
abbrev xgS (g : xg) (n q : Nat) : xg := (va_up g.1 n q, g.2.1, g.2.2.1, g.2.2.2.1, g.2.2.2.2.1, va_up (xT g) q (100 + n))
theorem xNode.keptT {L : xL} {T T1 : Nat → Nat} {H H1 : Heap} (hq : ∀ q, T q = 202 → T1 q = 202 ∧ H1[q]? = H[q]?) : ∀ (d q : Nat) (c : List Int32), xNode L T H d q c → xNode L T1 H1 d q c := by
  intro d
  induction d with
  | zero => intro q c h; exact h
  | succ d ih =>
    intro q c h
    unfold xNode at h ⊢
    obtain ⟨hT, h⟩ := h
    have e := (hq q hT).2
    refine ⟨(hq q hT).1, ?_⟩
    rcases h with ⟨v, h1, h2, h3⟩ | ⟨k, h1, h2, h3⟩ | ⟨a, ca, h1, h2, h3⟩ | ⟨a, ca, h1, h2, h3⟩ | ⟨sg, a, b, ca, cb, h0, h1, h2, h3, h4⟩
    · exact Or.inl ⟨v, h1, h2, h3.kept e⟩
    · exact Or.inr (Or.inl ⟨k, h1, h2, h3.kept e⟩)
    · exact Or.inr (Or.inr (Or.inl ⟨a, ca, h1, h2.kept e, ih _ _ h3⟩))
    · exact Or.inr (Or.inr (Or.inr (Or.inl ⟨a, ca, h1, h2.kept e, ih _ _ h3⟩)))
    · exact Or.inr (Or.inr (Or.inr (Or.inr ⟨sg, a, b, ca, cb, h0, h1, h2.kept e, ih _ _ h3, ih _ _ h4⟩)))
theorem xLine.keptT {L : xL} {T T1 : Nat → Nat} {H H1 : Heap} (hq : ∀ q, T q = 202 → T1 q = 202 ∧ H1[q]? = H[q]?) : ∀ (xs : List (List Int32 × List Int32)) (r : Option Nat), xLine L T H xs r → xLine L T1 H1 xs r := by
  intro xs
  induction xs with
  | nil => intro r h; exact h
  | cons x xs ih =>
    intro r h
    obtain ⟨q, gn, tn, nx, h1, h2, h3, h4, h5, h6⟩ := h
    refine ⟨q, gn, tn, nx, h1, (hq q h2).1, h3.kept (hq q h2).2, ?_, xNode.keptT hq _ _ _ h5, ih _ h6⟩
    rcases h4 with h4 | ⟨tq, e1, e2⟩
    · exact Or.inl h4
    · exact Or.inr ⟨tq, e1, xNode.keptT hq _ _ _ e2⟩
/-- the seldom written cells under other labels, other swimmers' places -/
theorem xRest.keptT {L : xL} {g g1 : xg} {C : Nat → Nat → Int32} {nm n : Nat} {B : Nat → Nat} {nb : Nat} {S : Nat → Nat × Nat × (Nat → Int64)} {Y : Option (List (List Int32 × List Int32))} {H H1 : Heap} (hL : xLab L g n nm nb) (hg : g1.2.1 = g.2.1 ∧ g1.2.2.1 = g.2.2.1 ∧ g1.2.2.2.1 = g.2.2.2.1 ∧ g1.2.2.2.2.1 = g.2.2.2.2.1) (hT : ∀ q, xT g q ≠ 0 → xT g1 q = xT g q) (hq : ∀ q, (xT g q = 7 ∨ xT g q = 43 ∨ xT g q = 45 ∨ 200 ≤ xT g q) → H1[q]? = H[q]?) (h : xRest L g C nm B nb S Y H) : xRest L g1 C nm B nb S Y H1 := by
  have h' := xRest.kept hL hq h
  obtain ⟨⟨a1, a2, a3⟩, ⟨b1, b2, b3⟩, ⟨c1, c2⟩, d1, d2⟩ := h'
  obtain ⟨e1, e2, e3, e4⟩ := hg
  unfold xRest
  rw [e1, e2, e4]
  refine ⟨⟨a1, a2, a3⟩, ⟨b1, b2, b3⟩, ⟨?_, fun j hj => ?_⟩, ?_, d2⟩
  · have es : ∀ (j : Nat) (h : Nat × Nat × (Nat → Int64)), xShR g1 j h = xShR g j h := fun j h => by unfold xShR; rw [e2, e3]
    rw [c1]
    congr 4
    funext j
    rw [es]
  · obtain ⟨k1, k2⟩ := c2 j hj
    unfold xShelf
    rw [e3]
    refine ⟨fun x y => ?_, k2⟩
    obtain ⟨u1, u2, u3, u4, u5, u6⟩ := k1 x y
    exact ⟨u1, u2, u3, (hT _ (by omega)).trans u4, (hT _ (by omega)).trans u5, u6⟩
  · exact xLine.keptT (fun q hh => ⟨(hT q (by rw [hh]; decide)).trans hh, rfl⟩) _ _ d1
theorem xW.pushS {L : xL} {g : xg} {σ : xS} {H H1 : Heap} (h : xW L g σ H) {q : Nat} (hn : xn σ < 8) (hq0 : xT g q = 0) (hqz : q < H.size) {e : Nat → Int32} (hO : t_OB q (L.2.2.1 3) 8 (L.2.2.2.1 3) H (fun k => .int (e k)))
    (ea : H1[L.2.1 0]? = some (arrV (L.2.2.2.2 5) 8 (updV (fun j => va_rf (if j < xn σ then some (g.1 j) else none)) (xn σ) (.ref q)))) (oz : H1.size = H.size) (oq : ∀ a, a ≠ L.2.1 0 → H1[a]? = H[a]?) : xW L (xgS g (xn σ) q) (xSn σ e) H1 := by
  obtain ⟨h1, h2, h3, ⟨h4, h5, h6⟩, h7, h8, h9⟩ := h
  have h8' := h8
  obtain ⟨l1, l2, l3, l4, l5⟩ := h8
  have l0 := l2 0 (by decide) (by decide) (Or.inl rfl)
  have hT : ∀ a, xT g a ≠ 0 → xT (xgS g (xn σ) q) a = xT g a := fun a ha => by
    show va_up (xT g) q (100 + xn σ) a = _
    unfold va_up
    rw [if_neg (fun e => ha (by rw [e]; exact hq0))]
  have hsw : ∀ i, i < xn σ → (xgS g (xn σ) q).1 i = g.1 i := fun i hi => by
    show va_up g.1 (xn σ) q i = _
    unfold va_up
    rw [if_neg (by omega)]
  have hswn : (xgS g (xn σ) q).1 (xn σ) = q := by
    show va_up g.1 (xn σ) q (xn σ) = _
    unfold va_up
    rw [if_pos rfl]
  have hE : ∀ i, i < xn σ → xE (xSn σ e) i = xE σ i := fun i hi => by
    show va_up (xE σ) (xn σ) e i = _
    unfold va_up
    rw [if_neg (by omega)]
  have hEn : xE (xSn σ e) (xn σ) = e := by
    show va_up (xE σ) (xn σ) e (xn σ) = _
    unfold va_up
    rw [if_pos rfl]
  refine ⟨h1.kept (x_oq g oq ?_), fun j hj ja => ?_, h3.kept (x_oq g oq ?_), ⟨?_, hn, fun i hi => ?_⟩, h7.keptT h8' ⟨rfl, rfl, rfl, rfl⟩ hT (fun a ha => x_oq g oq ?_), ⟨?_, fun k a b d => ?_, fun i hi => ?_, fun i hi => ?_, fun i hi => ?_⟩, fun a ha => ?_⟩
  · rw [l1, l0]; decide
  · rw [x_oq g oq (by rw [l0, l2 j hj (xPa_44 j hj ja).2.1 (xPa_44 j hj ja).1]; have := (xPa_44 j hj ja).2.2.1; omega), h2 j hj ja]
  · rw [l0, l2 11 (by decide) (by decide) (Or.inl rfl)]; decide
  · rw [ea, vp_cell_q]
    congr 2
    funext j
    show (if j = xn σ then Value.ref q else va_rf (if j < xn σ then some (g.1 j) else none)) = va_rf (if j < xn σ + 1 then some ((xgS g (xn σ) q).1 j) else none)
    by_cases hj : j = xn σ
    · subst hj
      rw [if_pos rfl, if_pos (Nat.lt_succ_self _), hswn]
      rfl
    · rw [if_neg hj]
      by_cases hl : j < xn σ
      · rw [if_pos hl, if_pos (by omega), hsw j hl]
      · rw [if_neg hl, if_neg (by omega)]
  · have hi' : i < xn σ + 1 := hi
    by_cases hin : i = xn σ
    · subst hin
      rw [hswn, hEn]
      exact hO.kept (x_oq g oq (by rw [hq0, l0]; decide))
    · rw [hsw i (by omega), hE i (by omega)]
      exact (h6 i (by omega)).kept (x_oq g oq (by rw [l0, l3 i (by omega)]; omega))
  · rw [l0]; omega
  · exact (hT _ (by rw [l1]; decide)).trans l1
  · exact (hT _ (by rw [l2 k a b d]; omega)).trans (l2 k a b d)
  · have hi' : i < xn σ + 1 := hi
    by_cases hin : i = xn σ
    · subst hin
      rw [hswn]
      show va_up (xT g) q (100 + xn σ) q = _
      unfold va_up
      rw [if_pos rfl]
    · rw [hsw i (by omega)]
      exact (hT _ (by rw [l3 i (by omega)]; omega)).trans (l3 i (by omega))
  · exact (hT _ (by rw [show (xgS g (xn σ) q).2.1 i = g.2.1 i from rfl, l4 i hi]; decide)).trans (l4 i hi)
  · exact (hT _ (by rw [show (xgS g (xn σ) q).2.2.1 i = g.2.2.1 i from rfl, l5 i hi]; decide)).trans (l5 i hi)
  · rw [oz]
    by_cases haq : a = q
    · rw [haq]; exact hqz
    · refine h9 a (fun z => ha ?_)
      show va_up (xT g) q (100 + xn σ) a = 0
      unfold va_up
      rw [if_neg haq]
      exact z
/-! contracts -/
def xQg (L : xL) (σ : xS) (v : xg → Option Value) (A : Nat → Prop) : Array Value → State → Outcome → State → Prop := fun _ st oc t => (∃ g1 : xg, oc = .returned (v g1) ∧ xW L g1 σ t.heap ∧ ∀ q, xT g1 q ≠ 0 → A q) ∧ va_F A st t
def xMetg (l : Launch) (y : MethodName) (cc : ByteArray) (nL : Nat) (ret : Option FieldType) (fr lo mc ms : Nat) (av : List Value) (L : xL) (g : xg) (σ : xS) (v : xg → Option Value) (σ' : xS) : Prop :=
  ∀ sz : Nat, Met l y (ws_ y cc nL ret) ({ frames := fr, cells := mc, slots := ms, locals := lo }) (va_Pc av (fun U => U.heap.size = sz ∧ xW L g σ U.heap ∧ xK L U ∧ xSt (xA g sz) U)) (xQg L σ' v (xA g sz)) mc ms (xA g sz)
abbrev xZg (below : List Frame) (L : xL) (_ : xg) (A : Nat → Prop) (s : State) (args : Array Value) (σ : xS) (v : xg → Option Value) (mc ms : Nat) : State → Prop := MQ below (xQg L σ v A) args s mc ms A
section XGROWS
variable {p : Program} {l : Launch} {e : Env} {R : Room} {s : State} {m : MethodId} {args : Array Value} {below : List Frame} {meth : Method} {c : Code} {H : Heap} {locs : List Loc} {cells slots mc ms : Nat} {Q : State → Prop}
variable {own : String} {cc : ByteArray} {nL : Nat} {ret : Option FieldType} {pc : Nat} {ls : Array Slot} {rest : List Value} {A : Nat → Prop} {L : xL} {g g0 : xg} {σ : xS}
theorem x_endg (hG : xG A L g s σ H locs) {σ1 : xS} {v : xg → Option Value} {w : Option Value} (e1 : σ = σ1) (hv : v g = w) (t : State) (ht : t.heap = H) (hW : s.WarmedH t.vm) : xQg L σ1 v A args s (.returned w) t := by
  subst e1
  subst hv
  exact ⟨⟨g, rfl, by rw [ht]; exact hG.1, hG.2.2⟩, hG.2.1.F ht⟩
theorem x_iretg (C0 : xCx p l s m args meth c own cc nL (some .int) L A) (hG : xG A L g s σ H locs) (hcs : cells ≤ mc ∧ slots ≤ ms) {σ1 : xS} {v r : Int32} (hdg : decode cc pc = .ok (.ireturn, 1)) (hF : some (σ, v) = some (σ1, r)) : W p l e R s m args below meth c H locs cells slots (xZg below L g0 A s args σ1 (fun _ => some (.int r)) mc ms) (F0 m pc ls [.int v]) := by
  cases hF
  exact W.widen hcs.1 hcs.2 (W.iret C0.1 C0.2.1 C0.2.2.2.2.2.2.2.1 (fun t ht hW => x_endg hG rfl rfl t ht hW) hG.2.1.2.2 hdg C0.2.2.2.2.2.2.2.2.1)
theorem x_aretg {rt : FieldType} (C0 : xCx p l s m args meth c own cc nL (some rt) L A) (hrt : (∃ n, rt = .object n) ∨ ∃ t, rt = .array t) (hG : xG A L g s σ H locs) (hcs : cells ≤ mc ∧ slots ≤ ms) {σ1 : xS} {v : xg → Option Value} {r : Option Nat} (hv : v g = some (va_rf r)) (hdg : decode cc pc = .ok (.areturn, 1)) (hF : σ = σ1) : W p l e R s m args below meth c H locs cells slots (xZg below L g0 A s args σ1 v mc ms) (F0 m pc ls [va_rf r]) :=
  W.widen hcs.1 hcs.2 (W.aret C0.1 C0.2.1 C0.2.2.2.2.2.2.2.1 hrt (va_rf_or r) (fun t ht hW => x_endg hG hF hv t ht hW) hG.2.1.2.2 hdg C0.2.2.2.2.2.2.2.2.1)
theorem x_callg {k n : Nat} {st0 : List Value} {a : Array Value} {v : xg → Option Value} {σ1 : xS} (C0 : xCx p l s m args meth c own cc nL ret L A) (hG : xG A L g s σ H locs) (hr : va_Run p l e R s m args below meth c H locs cells slots k n (F0 m pc ls st0) rest (xQg L σ1 v (xA g H.size) a) (xA g H.size))
    (kk : ∀ (g1 : xg) (H1 : Heap) (locs1 : List Loc), xG A L g1 s σ1 H1 locs1 → W p l e R s m args below meth c H1 locs1 (cells + k) (slots + n) Q (F0 m (pc + 3) ls ((v g1).toList ++ rest))) : W p l e R s m args below meth c H locs cells slots Q (F0 m pc ls st0) := by
  intro T hT X
  have hsub := xA_sub hG C0.2.2.2.2.2.2.1
  obtain ⟨hGW, hS, hGA⟩ := hG
  obtain ⟨v', st₀, t, T', Lc, h0, X', hL, e1, e2, ⟨⟨g1, hv, hw, hg1⟩, hz, hk⟩, st⟩ := hr T hT X
  cases hv
  rw [h0] at hz hk
  obtain ⟨t2, a1, b1⟩ := kk g1 T'.heap (locs ++ Lc) ⟨by rw [e1]; exact hw,
    ⟨Nat.le_trans hS.1 (by rw [e1]; exact hz), fun q h1 h2 => by rw [e1, hk q (Nat.lt_of_lt_of_le h1 hS.1) (fun z => h2 (hsub q z))]; exact hS.2.1 q h1 h2, fun q hq => by
      rcases List.mem_append.mp hq with h | h
      · exact hS.2.2 q h
      · exact hsub _ (hL q h)⟩, fun q hq => hsub q (hg1 q hq)⟩ T' rfl X'
  exact ⟨t2, st t2 a1, b1⟩
theorem x_cVg {C : String} {b k n' : Nat} {st0 As : List Value} {v : xg → Option Value} {σ1 : xS} {y : MethodName} {cy : ByteArray} {ny n idx fr lo : Nat} {ry : Option FieldType} (C0 : xCx p l s m args meth c own cc nL ret L A) (hG : xG A L g s σ H locs) (hM : xMetg l y cy ny ry fr lo k n' (.ref b :: As) L g σ v σ1) (hw : GoodIn lw_all (wsV own idx C y (ws_ y cy ny ry))) (hd : y.cls = C ∧ y.cls ≠ "java/lang/invoke/MethodHandle" ∧ y.cls ≠ "java/lang/invoke/VarHandle" ∧ (parseMethodDescriptor y.desc).map (fun d => d.parameters.length) = some n)
    (hrc : ∃ cell : Cell, H[b]? = some cell ∧ cell.vm.isStatics = false ∧ s.vm.findClass C = some cell.cls) (hR : fr + 1 ≤ R.frames ∧ 8 + (ny + 11) + lo ≤ R.locals) (hRc : cells + k ≤ R.cells ∧ slots + n' ≤ R.slots) (hst : st0 = As.reverse ++ .ref b :: rest) (hn : As.length = n) (hsz : ls.size = nL) (hrm : (rest.map fun v => v.category).sum ≤ 8) (hdg : decode cc pc = .ok (.invokevirtual idx, 3))
    (kk : ∀ (g1 : xg) (H1 : Heap) (locs1 : List Loc), xG A L g1 s σ1 H1 locs1 → W p l e R s m args below meth c H1 locs1 (cells + k) (slots + n') Q (F0 m (pc + 3) ls ((v g1).toList ++ rest))) : W p l e R s m args below meth c H locs cells slots Q (F0 m pc ls st0) := by
  refine x_callg (a := (Value.ref b :: As).toArray) C0 hG ?_ kk
  exact va_runV (As := As) (rest := rest) ⟨C0.1, C0.2.1, C0.2.2.1, C0.2.2.2.1, C0.2.2.2.2.1⟩ (hM H.size) (cwV n C0.2.2.2.2.1 hw rfl rfl rfl hd hR) ⟨xBlind, hrc, xPre C0 hG⟩ rfl hn hsz hst (lv_room hrm) hdg hRc
theorem x_headg {y : MethodName} {own : String} {av : List Value} {v : xg → Option Value} {σ1 : xS} {fr lo : Nat} (hl : l.stackTraces = false) (hy : plainName y.cls = true) (hcls : y.cls = own)
    (body : ∀ (p : Program) (e : Env) (s : State) (m : MethodId) (below : List Frame) (meth : Method) (c : Code) (A : Nat → Prop), xCx p l s m av.toArray meth c own cc nL ret L A → xG A L g s σ s.heap [] → W p l e ({ frames := fr, cells := mc, slots := ms, locals := lo }) s m av.toArray below meth c s.heap [] 0 0 (xZg below L g A s av.toArray σ1 v mc ms) (entryFrame m av.toArray nL)) : xMetg l y cc nL ret fr lo mc ms av L g σ v σ1 := by
  intro sz
  refine Met.ofW (cc := cc) (maxL := nL) (ret := ret) hy rfl ?_
  intro p e s m args below meth c s₁ B hml hv
  obtain ⟨rfl, hsz, hW, hK, hst⟩ := hv
  subst hsz
  have hts := atoms_spec (ws := ws_ y cc nL ret) B.pre
  have hown : s.vm.findClass own = some m.cls := by rw [← hcls]; exact findClass_of_methodNamed B.named
  exact body p e s m below meth c (xA g s.heap.size) ⟨B.exec, B.bytes, hml, hown, fun w h => hts w (List.mem_cons_of_mem _ h), hK, fun q h => Or.inr h, B.returns, B.notSynchronized, hst, hl⟩ ⟨hW, va_S.rf, fun q h => Or.inl h⟩
end XGROWS
