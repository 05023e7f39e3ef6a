def ceq {α : Type} (a b : Nat) (o : Option α) : Option α := if a = b then o else none
theorem ceq_of {α : Type} {a b : Nat} {o : Option α} {r : α} (h : ceq a b o = some r) : a = b ∧ o = some r := by
  unfold ceq at h
  split at h
  · exact ⟨by assumption, h⟩
  · cases h
def cle {α : Type} (a b : Nat) (o : Option α) : Option α := if a ≤ b then o else none
theorem cle_of {α : Type} {a b : Nat} {o : Option α} {r : α} (h : cle a b o = some r) : a ≤ b ∧ o = some r := by
  unfold cle at h
  split at h
  · exact ⟨by assumption, h⟩
  · cases h
/-! changes, bodies: stores -/
abbrev xSc (σ : xS) (i : Nat) (e : Nat → Int32) : xS := (σ.1, σ.2.1, σ.2.2.1, σ.2.2.2.1, va_up (xC σ) i e, (if i = xm σ then xm σ + 1 else xm σ), σ.2.2.2.2.2.2)
abbrev xgC (g : xg) (i q : Nat) : xg := (g.1, va_up g.2.1 i q, g.2.2.1, g.2.2.2.1, g.2.2.2.2.1, va_up (xT g) q 200)
abbrev xSb (σ : xS) (kd : Nat) : xS := (σ.1, σ.2.1, σ.2.2.1, σ.2.2.2.1, σ.2.2.2.2.1, σ.2.2.2.2.2.1, va_up (xB σ) (xk σ) kd, xk σ + 1, σ.2.2.2.2.2.2.2.2)
abbrev xgB (g : xg) (i q : Nat) : xg := (g.1, g.2.1, va_up g.2.2.1 i q, g.2.2.2.1, g.2.2.2.2.1, va_up (xT g) q 201)
theorem va_up_n {α : Type} {f : Nat → α} {i j : Nat} {x : α} (h : j ≠ i) : va_up f i x j = f j := by unfold va_up; rw [if_neg h]
theorem va_up_s {α : Type} {f : Nat → α} {i : Nat} {x : α} : va_up f i x i = x := by unfold va_up; rw [if_pos rfl]
/-- the shelves' part, other labels -/
theorem xSh.keptT {L : xL} {g g1 : xg} {nb nb1 : Nat} {S : Nat → Nat × Nat × (Nat → Int64)} {H H1 : Heap} (hb : ∀ i, i < nb → g1.2.2.1 i = g.2.2.1 i) (hnb : nb ≤ nb1) (hr : g1.2.2.2.1 = g.2.2.2.1) (hT : ∀ q, xT g q ≠ 0 → xT g q ≠ 200 → xT g1 q = xT g q) (e43 : H1[L.2.1 43]? = H[L.2.1 43]?) (hq : ∀ q, 300 ≤ xT g q → H1[q]? = H[q]?)
    (h : (H[L.2.1 43]? = some (vp_cell (L.2.2.2.2 8) (xq 6 (fun j => if j < 6 then xShR g j (S j) else none))) ∧ ∀ j, j < 6 → xShelf L g nb H j (S j))) : (H1[L.2.1 43]? = some (vp_cell (L.2.2.2.2 8) (xq 6 (fun j => if j < 6 then xShR g1 j (S j) else none))) ∧ ∀ j, j < 6 → xShelf L g1 nb1 H1 j (S j)) := by
  obtain ⟨c1, c2⟩ := h
  refine ⟨?_, fun j hj => ?_⟩
  · rw [e43, c1]
    congr 4
    funext j
    by_cases hj : j < 6
    · rw [if_pos hj, if_pos hj]
      unfold xShR
      rw [hr]
      by_cases h0 : (S j).1 = 0
      · rw [if_pos h0, if_pos h0]
      · rw [if_neg h0, if_neg h0]
        by_cases h6 : (S j).1 < 6
        · rw [if_pos h6, if_pos h6]
        · rw [if_neg h6, if_neg h6, hb _ ((c2 j hj).2 (by omega))]
    · rw [if_neg hj, if_neg hj]
  · obtain ⟨k1, k2⟩ := c2 j hj
    unfold xShelf
    rw [hr]
    refine ⟨fun x y => ?_, fun x => Nat.lt_of_lt_of_le (k2 x) hnb⟩
    obtain ⟨u1, u2, u3, u4, u5, u6⟩ := k1 x y
    exact ⟨u1, u2.kept (hq _ (by omega)), (hq _ (by omega)).trans u3, (hT _ (by omega) (by omega)).trans u4, (hT _ (by omega) (by omega)).trans u5, u6⟩
theorem xW.putC {L : xL} {g : xg} {σ : xS} {H H1 : Heap} (h : xW L g σ H) {q i : Nat} (hi : i ≤ xm σ) (h40 : i < 40) (hq0 : xT g q = 0 ∨ xT g q = 200) (hqz : q < H.size) {e : Nat → Int32} (hO : t_OB q (L.2.2.1 4) 4 (L.2.2.2.1 4) H (fun k => .int (e k)))
    (ea : H1[L.2.1 5]? = some (arrV (L.2.2.2.2 6) 40 (updV (fun j => va_rf (if j < xm σ then some (g.2.1 j) else none)) i (.ref q)))) (oz : H1.size = H.size) (oq : ∀ a, a ≠ L.2.1 5 → H1[a]? = H[a]?) : xW L (xgC g i q) (xSc σ i e) H1 := by
  obtain ⟨h1, h2, h3, ⟨h4, h5, h6⟩, ⟨⟨a1, a2, a3⟩, ⟨b1, b2, b3⟩, c, d1, d2⟩, h8, h9⟩ := h
  have h8' := h8
  obtain ⟨l1, l2, l3, l4, l5⟩ := h8
  have l0 := l2 5 (by decide) (by decide) (Or.inl rfl)
  have hT : ∀ a, xT g a ≠ 0 → xT (xgC g i q) a = xT g a := fun a ha => by
    by_cases e : a = q
    · subst e
      rcases hq0 with z | z
      · exact absurd z ha
      · rw [z]; exact va_up_s
    · exact va_up_n e
  have hm : (if i = xm σ then xm σ + 1 else xm σ) ≤ 40 := by split <;> omega
  have hq5 : q ≠ L.2.1 5 := fun e => by rw [e, l0] at hq0; omega
  refine ⟨h1.kept (x_oq g oq ?_), fun j hj ja => ?_, h3.kept (x_oq g oq ?_), ⟨(x_oq g oq ?_).trans h4, h5, fun j hj => (h6 j hj).kept (x_oq g oq ?_)⟩, ⟨⟨?_, hm, fun j hj => ?_⟩, ⟨(x_oq g oq ?_).trans b1, b2, fun j hj => ⟨(b3 j hj).1, (b3 j hj).2.kept (x_oq g oq ?_)⟩⟩, xSh.keptT (g := g) (nb := xk σ) (fun _ _ => rfl) (Nat.le_refl _) rfl (fun a ha _ => hT a ha) (x_oq g oq ?_) (fun a ha => x_oq g oq ?_) c, xLine.keptT (fun a ha => ⟨(hT a (by rw [ha]; decide)).trans ha, x_oq g oq ?_⟩) _ _ d1, d2⟩, ⟨?_, fun k a b d => ?_, fun j hj => ?_, fun j hj => ?_, fun j hj => ?_⟩, fun a ha => ?_⟩
  · rw [l1, l0]; decide
  · rw [x_oq g oq (by rw [l0, l2 j hj (xPa_44 j hj ja).2.1 (xPa_44 j hj ja).1]; have := (xPa_44 j hj ja).2.2.2.1; omega), h2 j hj ja]
  · rw [l0, l2 11 (by decide) (by decide) (Or.inl rfl)]; decide
  · rw [l0, l2 0 (by decide) (by decide) (Or.inl rfl)]; decide
  · rw [l0, l3 j hj]; omega
  · rw [ea, vp_cell_q]
    congr 2
    funext j
    show (if j = i then Value.ref q else va_rf (if j < xm σ then some (g.2.1 j) else none)) = va_rf (if j < (if i = xm σ then xm σ + 1 else xm σ) then some (va_up g.2.1 i q j) else none)
    by_cases hj : j = i
    · subst hj
      rw [if_pos rfl, va_up_s, if_pos (by split <;> omega)]
      rfl
    · rw [if_neg hj, va_up_n hj]
      by_cases hl : j < xm σ
      · rw [if_pos hl, if_pos (by split <;> omega)]
      · rw [if_neg hl, if_neg (by split <;> omega)]
  · have hj' : j < (if i = xm σ then xm σ + 1 else xm σ) := hj
    show t_OB (va_up g.2.1 i q j) _ _ _ H1 (fun k => .int (va_up (xC σ) i e j k))
    by_cases hji : j = i
    · subst hji
      rw [va_up_s, va_up_s]
      exact hO.kept (oq _ hq5)
    · rw [va_up_n hji, va_up_n hji]
      have hjm : j < xm σ := by split at hj' <;> omega
      exact (a3 j hjm).kept (x_oq g oq (by rw [l0, l4 j hjm]; decide))
  · rw [l0, l2 41 (by decide) (by decide) (Or.inl rfl)]; decide
  · rw [l0, l5 j hj]; decide
  · rw [l0, l2 43 (by decide) (by decide) (Or.inl rfl)]; decide
  · rw [l0]; omega
  · rw [l0, ha]; decide
  · exact (hT _ (by rw [l1]; decide)).trans l1
  · exact (hT _ (by rw [l2 k a b d]; omega)).trans (l2 k a b d)
  · exact (hT _ (by rw [show (xgC g i q).1 j = g.1 j from rfl, l3 j hj]; omega)).trans (l3 j hj)
  · have hj' : j < (if i = xm σ then xm σ + 1 else xm σ) := hj
    show va_up (xT g) q 200 (va_up g.2.1 i q j) = 200
    by_cases hji : j = i
    · subst hji
      rw [va_up_s, va_up_s]
    · rw [va_up_n hji]
      have hjm : j < xm σ := by split at hj' <;> omega
      exact (hT _ (by rw [l4 j hjm]; decide)).trans (l4 j hjm)
  · exact (hT _ (by rw [show (xgC g i q).2.2.1 j = g.2.2.1 j from rfl, l5 j hj]; decide)).trans (l5 j hj)
  · rw [oz]
    by_cases haq : a = q
    · rw [haq]; exact hqz
    · exact h9 a (fun z => ha ((va_up_n haq).trans z))
theorem xW.pushB {L : xL} {g : xg} {σ : xS} {H H1 : Heap} (h : xW L g σ H) {q kd : Nat} (hn : xk σ < 50) (hq0 : xT g q = 0) (hqz : q < H.size) (hO : xBody L H kd (xk σ) q)
    (ea : H1[L.2.1 41]? = some (arrV (L.2.2.2.2 7) 50 (updV (fun j => va_rf (if j < xk σ then some (g.2.2.1 j) else none)) (xk σ) (.ref q)))) (oz : H1.size = H.size) (oq : ∀ a, a ≠ L.2.1 41 → H1[a]? = H[a]?) : xW L (xgB g (xk σ) q) (xSb σ kd) H1 := by
  obtain ⟨h1, h2, h3, ⟨h4, h5, h6⟩, ⟨⟨a1, a2, a3⟩, ⟨b1, b2, b3⟩, c, d1, d2⟩, h8, h9⟩ := h
  obtain ⟨l1, l2, l3, l4, l5⟩ := h8
  have l0 := l2 41 (by decide) (by decide) (Or.inl rfl)
  have hT : ∀ a, xT g a ≠ 0 → xT (xgB g (xk σ) q) a = xT g a := fun a ha => va_up_n (fun e => ha (by rw [e]; exact hq0))
  have hq5 : q ≠ L.2.1 41 := fun e => by rw [e, l0] at hq0; omega
  refine ⟨h1.kept (x_oq g oq ?_), fun j hj ja => ?_, h3.kept (x_oq g oq ?_), ⟨(x_oq g oq ?_).trans h4, h5, fun j hj => (h6 j hj).kept (x_oq g oq ?_)⟩, ⟨⟨(x_oq g oq ?_).trans a1, a2, fun j hj => (a3 j hj).kept (x_oq g oq ?_)⟩, ⟨?_, hn, fun j hj => ?_⟩, xSh.keptT (g := g) (nb := xk σ) (fun j hj => va_up_n (by omega)) (Nat.le_succ _) rfl (fun a ha _ => hT a ha) (x_oq g oq ?_) (fun a ha => x_oq g oq ?_) c, xLine.keptT (fun a ha => ⟨(hT a (by rw [ha]; decide)).trans ha, x_oq g oq ?_⟩) _ _ d1, d2⟩, ⟨?_, fun k a b d => ?_, fun j hj => ?_, fun j hj => ?_, fun j hj => ?_⟩, fun a ha => ?_⟩
  · rw [l1, l0]; decide
  · rw [x_oq g oq (by rw [l0, l2 j hj (xPa_44 j hj ja).2.1 (xPa_44 j hj ja).1]; have := (xPa_44 j hj ja).2.2.2.2.1; omega), h2 j hj ja]
  · rw [l0, l2 11 (by decide) (by decide) (Or.inl rfl)]; decide
  · rw [l0, l2 0 (by decide) (by decide) (Or.inl rfl)]; decide
  · rw [l0, l3 j hj]; omega
  · rw [l0, l2 5 (by decide) (by decide) (Or.inl rfl)]; decide
  · rw [l0, l4 j hj]; decide
  · rw [ea, vp_cell_q]
    congr 2
    funext j
    show (if j = xk σ then Value.ref q else va_rf (if j < xk σ then some (g.2.2.1 j) else none)) = va_rf (if j < xk σ + 1 then some (va_up g.2.2.1 (xk σ) q j) else none)
    by_cases hj : j = xk σ
    · subst hj
      rw [if_pos rfl, va_up_s, if_pos (Nat.lt_succ_self _)]
      rfl
    · rw [if_neg hj, va_up_n hj]
      by_cases hl : j < xk σ
      · rw [if_pos hl, if_pos (by omega)]
      · rw [if_neg hl, if_neg (by omega)]
  · have hj' : j < xk σ + 1 := hj
    show xBody L H1 (va_up (xB σ) (xk σ) kd j) j (va_up g.2.2.1 (xk σ) q j)
    by_cases hji : j = xk σ
    · subst hji
      rw [va_up_s, va_up_s]
      exact ⟨hO.1, hO.2.kept (oq _ hq5)⟩
    · rw [va_up_n hji, va_up_n hji]
      have hjm : j < xk σ := by omega
      exact ⟨(b3 j hjm).1, (b3 j hjm).2.kept (x_oq g oq (by rw [l0, l5 j hjm]; decide))⟩
  · rw [l0, l2 43 (by decide) (by decide) (Or.inl rfl)]; decide
  · rw [l0]; omega
  · rw [l0, ha]; decide
  · exact (hT _ (by rw [l1]; decide)).trans l1
  · exact (hT _ (by rw [l2 k a b d]; omega)).trans (l2 k a b d)
  · exact (hT _ (by rw [show (xgB g (xk σ) q).1 j = g.1 j from rfl, l3 j hj]; omega)).trans (l3 j hj)
  · exact (hT _ (by rw [show (xgB g (xk σ) q).2.1 j = g.2.1 j from rfl, l4 j hj]; decide)).trans (l4 j hj)
  · have hj' : j < xk σ + 1 := hj
    show va_up (xT g) q 201 (va_up g.2.2.1 (xk σ) q j) = 201
    by_cases hji : j = xk σ
    · subst hji
      rw [va_up_s, va_up_s]
    · rw [va_up_n hji]
      have hjm : j < xk σ := by omega
      exact (hT _ (by rw [l5 j hjm]; decide)).trans (l5 j hjm)
  · rw [oz]
    by_cases haq : a = q
    · rw [haq]; exact hqz
    · exact h9 a (fun z => ha ((va_up_n haq).trans z))
def xFr (s : State) (A : Nat → Prop) (g : xg) (H : Heap) (q : Nat) : Prop := xT g q = 0 ∧ q < H.size ∧ A q ∧ s.heap.size ≤ q
theorem xG.put0 {A : Nat → Prop} {L : xL} {g : xg} {s : State} {σ : xS} {H H1 : Heap} {locs locs1 : List Loc} (hG : xG A L g s σ H locs) {q : Nat} (hq : xFr s A g H q) (h2 : H1.size = H.size) (h3 : ∀ a, a ≠ q → H1[a]? = H[a]?) (h4 : ∀ z ∈ locs1, z ∈ locs ∨ z.base = q) : xG A L g s σ H1 locs1 :=
  ⟨hG.1.kept (fun a ha => h3 a (fun e => ha (by rw [e]; exact hq.1))) (Nat.le_of_eq h2.symm), ⟨Nat.le_trans hG.2.1.1 (Nat.le_of_eq h2.symm), fun a h1' h2' => (h3 a (fun e => h2' (by rw [e]; exact hq.2.2.1))).trans (hG.2.1.2.1 a h1' h2'), fun z hz => (h4 z hz).elim (fun h => hG.2.1.2.2 z h) (fun h => by rw [h]; exact hq.2.2.1)⟩, hG.2.2⟩
section XHROWS
variable {p : Program} {l : Launch} {e : Env} {R : Room} {s : State} {m : MethodId} {args : Array Value} {below : List Frame} {meth : Method} {c : Code} {H : Heap} {locs : List Loc} {cells slots mc ms : Nat} {Q : State → Prop}
variable {own : String} {cc : ByteArray} {nL : Nat} {ret : Option FieldType} {pc : Nat} {ls : Array Slot} {rest : List Value} {A : Nat → Prop} {L : xL} {g g0 : xg} {σ : xS}
theorem x_new (C0 : xCx p l s m args meth c own cc nL ret L A) (hG : xG A L g s σ H locs) {C : String} {T : u_T} {N idx : Nat} {cC : ClassId} {iS : Nat → Nat} (hin : ∀ w ∈ u_ws C T N, w ∈ lw_all) (ty : Nat → FieldType) (hty : ∀ k, k < N → parseFieldDescriptor (T k).2.2.1 = some (ty k)) (hK : u_Kn s C T N cC iS) (hcl : Cond.classLink own idx C ∈ lw_all) (hinst : Cond.instantiable C N ∈ lw_all) (hini : Cond.initialized C ∈ lw_all) (hRc : cells + 1 ≤ R.cells ∧ slots + N ≤ R.slots) (hdg : decode cc pc = .ok (.new idx, 3))
    (kk : ∀ (q : Nat) (H1 : Heap), xG A L g s σ H1 locs → xFr s A g H1 q → t_OB q cC N iS H1 (fun k => defaultValue (ty k)) → W p l e R s m args below meth c H1 locs (cells + 1) (slots + N) Q (F0 m (pc + 3) ls (.ref q :: rest))) : W p l e R s m args below meth c H locs cells slots Q (F0 m pc ls rest) := by
  obtain ⟨hx, hb, hml, hown, hts, hKx, hA, -⟩ := C0
  refine o_new hx hb hts hin ty hty hown hcl hinst hini hK hRc.1 hRc.2 hdg fun q H1 eq z o hO => ?_
  subst eq
  refine kk H.size H1 (hG.grow hA o (by omega) (fun z hz => Or.inl hz)) ⟨?_, by omega, hA _ hG.2.1.1, hG.2.1.1⟩ hO
  exact Decidable.not_not.mp (fun h => absurd (hG.1.2.2.2.2.2.2 _ h) (Nat.lt_irrefl _))
theorem x_ctor {st0 As : List Value} {o : cT} {V V1 : Nat → Value} {y : MethodName} {cy : ByteArray} {ny n idx fr lo : Nat} (C0 : xCx p l s m args meth c own cc nL ret L A) (hG : xG A L g s σ H locs) (hq : xFr s A g H o.1) (hO : cOb o V H) (hKo : u_Kn s o.2.1 o.2.2.1 o.2.2.2.1 o.2.2.2.2.1 o.2.2.2.2.2) (hM : cMet l y cy ny fr lo (.ref o.1 :: As) o V V1) (hcd : Cond.code y cy ny none ∈ lw_all) (hini : Cond.initialized y.cls ∈ lw_all) (hq2 : Cond.methodLink own idx y ∈ lw_all) (hin : Cond.instanceMethod y ∈ lw_all) (hy : y.name = "<init>") (hd : y.cls ≠ "java/lang/invoke/MethodHandle" ∧ y.cls ≠ "java/lang/invoke/VarHandle" ∧ (parseMethodDescriptor y.desc).map (fun d => d.parameters.length) = some n)
    (hR : fr + 1 ≤ R.frames ∧ 8 + (ny + 11) + lo ≤ R.locals) (hRc : cells ≤ R.cells ∧ slots ≤ R.slots) (hst : st0 = As.reverse ++ .ref o.1 :: rest) (hn : As.length = n) (hsz : ls.size = nL) (hrm : (rest.map fun v => v.category).sum ≤ 8) (hdg : decode cc pc = .ok (.invokespecial idx, 3))
    (kk : ∀ (H1 : Heap) (locs1 : List Loc), xG A L g s σ H1 locs1 → xFr s A g H1 o.1 → cOb o V1 H1 → W p l e R s m args below meth c H1 locs1 cells slots Q (F0 m (pc + 3) ls rest)) : W p l e R s m args below meth c H locs cells slots Q (F0 m pc ls st0) :=
  c_call C0.1 C0.2.1 C0.2.2.1 C0.2.2.2.1 C0.2.2.2.2.1 ⟨hKo, C0.2.2.2.2.2.2.2.2.2.1.1⟩ hO hM hcd hini hq2 hin hy hd hR hRc hst hn hsz hrm hdg fun H1 locs1 h1 h2 h3 h4 => kk H1 locs1 (hG.put0 hq h2 h3 h4) ⟨hq.1, by rw [h2]; exact hq.2.1, hq.2.2⟩ h1
theorem x_ctorN {st0 As : List Value} {o : cT} {V V1 : Nat → Value} {y : MethodName} {cy : ByteArray} {ny n idx fr lo : Nat} {host : String} (C0 : xCx p l s m args meth c own cc nL ret L A) (hG : xG A L g s σ H locs) (hq : xFr s A g H o.1) (hO : cOb o V H) (hKo : u_Kn s o.2.1 o.2.2.1 o.2.2.2.1 o.2.2.2.2.1 o.2.2.2.2.2) (hM : cMet l y cy ny fr lo (.ref o.1 :: As) o V V1) (hcd : Cond.code y cy ny none ∈ lw_all) (hini : Cond.initialized y.cls ∈ lw_all) (hq2 : Cond.methodLinkNest own idx y host ∈ lw_tbl) (hin : Cond.instanceMethod y ∈ lw_all) (hy : y.name = "<init>") (hd : y.cls ≠ "java/lang/invoke/MethodHandle" ∧ y.cls ≠ "java/lang/invoke/VarHandle" ∧ (parseMethodDescriptor y.desc).map (fun d => d.parameters.length) = some n)
    (hR : fr + 1 ≤ R.frames ∧ 8 + (ny + 11) + lo ≤ R.locals) (hRc : cells ≤ R.cells ∧ slots ≤ R.slots) (hst : st0 = As.reverse ++ .ref o.1 :: rest) (hn : As.length = n) (hsz : ls.size = nL) (hrm : (rest.map fun v => v.category).sum ≤ 8) (hdg : decode cc pc = .ok (.invokespecial idx, 3))
    (kk : ∀ (H1 : Heap) (locs1 : List Loc), xG A L g s σ H1 locs1 → xFr s A g H1 o.1 → cOb o V1 H1 → W p l e R s m args below meth c H1 locs1 cells slots Q (F0 m (pc + 3) ls rest)) : W p l e R s m args below meth c H locs cells slots Q (F0 m pc ls st0) :=
  c_callN C0.1 C0.2.1 C0.2.2.1 C0.2.2.2.1 C0.2.2.2.2.1 ⟨hKo, C0.2.2.2.2.2.2.2.2.2.1.1⟩ hO hM hcd hini hq2 hin hy hd hR hRc hst hn hsz hrm hdg fun H1 locs1 h1 h2 h3 h4 => kk H1 locs1 (hG.put0 hq h2 h3 h4) ⟨hq.1, by rw [h2]; exact hq.2.1, hq.2.2⟩ h1
/-- a store of an own object into a row of objects -/
theorem o_aast (hexec : p.tables.exec = Jvm.exec) (hb : c.code = cc) {a v n : Nat} {cA : ClassId} {E : String} {f : Nat → Value} (hc : H[a]? = some (arrV cA n f)) (hRA : va_RA s cA (.object E)) {cv : Cell} (hv : H[v]? = some cv) (hvo : cv.vm = .none) (has : ∀ comp, s.vm.findClass E = some comp → s.vm.assignable cv.cls comp = true ∧ ∃ k, s.vm.classes[cv.cls]? = some k) {i : Int32} (hin : vp_in i n) (hdg : decode cc pc = .ok (.aastore, 1))
    (kk : ∀ (H1 : Heap), H1[a]? = some (arrV cA n (updV f i.toNatClampNeg (.ref v))) → H1.size = H.size → (∀ q, q ≠ a → H1[q]? = H[q]?) → W p l e R s m args below meth c H1 (locs ++ [⟨a, i.toNatClampNeg⟩]) cells slots Q (F0 m (pc + 1) ls rest)) : W p l e R s m args below meth c H locs cells slots Q (F0 m pc ls (.ref v :: .int i :: .ref a :: rest)) := by
  have hlt : i.toNatClampNeg < n := Nat.not_le.mp fun q => hin (Or.inr q)
  have h0 : ¬ i < 0 := fun q => hin (Or.inl q)
  obtain ⟨kA, comp, k1, k2, k3, -⟩ := hRA
  obtain ⟨kE, hkE, -⟩ := Vm.findClass_spec k3
  obtain ⟨f3, kC, hkC⟩ := has comp k3
  refine W.aast hexec hb hc (fun q h => by cases h) (fun h => by cases h) k1 k2 rfl hkE ⟨h0, by show _ < (arrV _ _ _).slots.size; rw [arrV_size]; exact hlt⟩ hv (fun q h => by rw [hvo] at h; cases h) hkC f3 rfl rfl hdg fun H1 e z oq => ?_
  rw [arrV_store] at e
  exact kk H1 e z oq
theorem x_swst (C0 : xCx p l s m args meth c own cc nL ret L A) (hG : xG A L g s σ H locs) {q : Nat} (hq : xFr s A g H q) {V : Nat → Value} (hO : t_OB q (L.2.2.1 3) 8 (L.2.2.2.1 3) H V) {d : Nat → Int32} (hV : ∀ k, k < 8 → V k = .int (d k)) {i : Int32} (hdg : decode cc pc = .ok (.aastore, 1)) {β : Type} {f : xS → Option β} {z : β} (hF : chk i 8 (ceq i.toNatClampNeg (xn σ) (nmv (xSn σ d) f)) = some z)
    (kk : ∀ (g1 : xg) (σ1 : xS) (H1 : Heap) (locs1 : List Loc), xG A L g1 s σ1 H1 locs1 → f σ1 = some z → W p l e R s m args below meth c H1 locs1 cells slots Q (F0 m (pc + 1) ls rest)) : W p l e R s m args below meth c H locs cells slots Q (F0 m pc ls (.ref q :: .int i :: .ref (L.2.1 0) :: rest)) := by
  obtain ⟨hx, hb, hml, hown, hts, hK, hA, -⟩ := C0
  obtain ⟨hin, hF⟩ := chk_of hF
  obtain ⟨hn, hF⟩ := ceq_of hF
  have hlt : i.toNatClampNeg < 8 := Nat.not_le.mp fun q => hin (Or.inr q)
  have hc := hG.1.2.2.2.1.1
  rw [vp_cell_q] at hc
  obtain ⟨cellV, g1, g2, g3, g4⟩ := hO
  have hcls := (hK.1 3 rfl).2
  refine o_aast hx hb hc (hK.2 5 (by decide)).2 g1 g3 (fun comp hcomp => ?_) hin hdg fun H1 e1 z1 o1 => ?_
  · cases hcls.1.symm.trans hcomp
    obtain ⟨kC, hkC, -⟩ := hcls.2
    rw [g2]
    exact ⟨va_assign hcls, kC, hkC⟩
  · rw [hn] at e1
    refine kk _ _ H1 _ ⟨hG.1.pushS (by rw [← hn]; exact hlt) hq.1 hq.2.1 (t_OB.to ⟨cellV, g1, g2, g3, g4⟩ hV) e1 z1 o1, hG.2.1.put z1 o1 (hG.ownk (by decide) (by decide) (Or.inl rfl)), fun a ha => ?_⟩ hF
    by_cases haq : a = q
    · rw [haq]; exact hq.2.2.1
    · exact hG.2.2 a (fun z => ha ((va_up_n haq).trans z))
theorem x_chst (C0 : xCx p l s m args meth c own cc nL ret L A) (hG : xG A L g s σ H locs) {q : Nat} (hq : (xT g q = 0 ∨ xT g q = 200) ∧ q < H.size ∧ A q) {V : Nat → Value} (hO : t_OB q (L.2.2.1 4) 4 (L.2.2.2.1 4) H V) {d : Nat → Int32} (hV : ∀ k, k < 4 → V k = .int (d k)) {i : Int32} (hdg : decode cc pc = .ok (.aastore, 1)) {β : Type} {f : xS → Option β} {z : β} (hF : chk i 40 (cle i.toNatClampNeg (xm σ) (nmv (xSc σ i.toNatClampNeg d) f)) = some z)
    (kk : ∀ (g1 : xg) (σ1 : xS) (H1 : Heap) (locs1 : List Loc), xG A L g1 s σ1 H1 locs1 → f σ1 = some z → W p l e R s m args below meth c H1 locs1 cells slots Q (F0 m (pc + 1) ls rest)) : W p l e R s m args below meth c H locs cells slots Q (F0 m pc ls (.ref q :: .int i :: .ref (L.2.1 5) :: rest)) := by
  obtain ⟨hx, hb, hml, hown, hts, hK, hA, -⟩ := C0
  obtain ⟨hin, hF⟩ := chk_of hF
  obtain ⟨hn, hF⟩ := cle_of hF
  have hlt : i.toNatClampNeg < 40 := Nat.not_le.mp fun q => hin (Or.inr q)
  have hc := hG.1.2.2.2.2.1.1.1
  rw [vp_cell_q] at hc
  obtain ⟨cellV, g1, g2, g3, g4⟩ := hO
  have hcls := (hK.1 4 rfl).2
  refine o_aast hx hb hc (hK.2 6 (by decide)).2 g1 g3 (fun comp hcomp => ?_) hin hdg fun H1 e1 z1 o1 => ?_
  · cases hcls.1.symm.trans hcomp
    obtain ⟨kC, hkC, -⟩ := hcls.2
    rw [g2]
    exact ⟨va_assign hcls, kC, hkC⟩
  · refine kk _ _ H1 _ ⟨hG.1.putC hn hlt hq.1 hq.2.1 (t_OB.to ⟨cellV, g1, g2, g3, g4⟩ hV) e1 z1 o1, hG.2.1.put z1 o1 (hG.ownk (by decide) (by decide) (Or.inl rfl)), fun a ha => ?_⟩ hF
    by_cases haq : a = q
    · rw [haq]; exact hq.2.2
    · exact hG.2.2 a (fun z => ha ((va_up_n haq).trans z))
/-- a change that is there, moved -/
theorem x_chmv (C0 : xCx p l s m args meth c own cc nL ret L A) (hG : xG A L g s σ H locs) {u : Nat} {i : Int32} (hdg : decode cc pc = .ok (.aastore, 1)) {β : Type} {f : xS → Option β} {z : β} (hF : chl u (xm σ) (chk i 40 (cle i.toNatClampNeg (xm σ) (nmv (xSc σ i.toNatClampNeg (xC σ u)) f))) = some z)
    (kk : ∀ (g1 : xg) (σ1 : xS) (H1 : Heap) (locs1 : List Loc), xG A L g1 s σ1 H1 locs1 → f σ1 = some z → W p l e R s m args below meth c H1 locs1 cells slots Q (F0 m (pc + 1) ls rest)) : W p l e R s m args below meth c H locs cells slots Q (F0 m pc ls (.ref (g.2.1 u) :: .int i :: .ref (L.2.1 5) :: rest)) := by
  obtain ⟨hu, hF⟩ := chl_of hF
  have l4 := hG.1.2.2.2.2.2.1.2.2.2.1 u hu
  have hnz : xT g (g.2.1 u) ≠ 0 := by rw [l4]; decide
  exact x_chst C0 hG ⟨Or.inr l4, hG.1.2.2.2.2.2.2 _ hnz, hG.2.2 _ hnz⟩ (hG.1.2.2.2.2.1.1.2.2 u hu) (fun _ _ => rfl) hdg hF kk
end XHROWS
def swI (x y t : Int32) : Nat → Int32 := fun k => if k = 0 then x else if k = 1 then y else if k = 2 then t else if k = 3 then 12 else 0
def chI (x y t u : Int32) : Nat → Int32 := fun k => if k = 0 then x else if k = 1 then y else if k = 2 then t else u
theorem sw_init (x y t : Int32) : ∀ k, k < 8 → (updV (updV (updV (updV (fun k => defaultValue (tyX3 k)) 3 (.int 12)) 0 (.int x)) 1 (.int y)) 2 (.int t)) k = .int (swI x y t k) := by
  intro k hk
  match k, hk with
  | 0, _ => rfl
  | 1, _ => rfl
  | 2, _ => rfl
  | 3, _ => rfl
  | 4, _ => rfl
  | 5, _ => rfl
  | 6, _ => rfl
  | 7, _ => rfl
theorem ch_init (x y t u : Int32) : ∀ k, k < 4 → (updV (updV (updV (updV (fun k => defaultValue (tyX4 k)) 0 (.int x)) 1 (.int y)) 2 (.int t)) 3 (.int u)) k = .int (chI x y t u k) := by
  intro k hk
  match k, hk with
  | 0, _ => rfl
  | 1, _ => rfl
  | 2, _ => rfl
  | 3, _ => rfl
section XHROWS2
variable {p : Program} {l : Launch} {e : Env} {R : Room} {s : State} {m : MethodId} {args : Array Value} {below : List Frame} {meth : Method} {c : Code} {H : Heap} {locs : List Loc} {cells slots mc ms : Nat} {Q : State → Prop}
variable {own : String} {cc : ByteArray} {nL : Nat} {ret : Option FieldType} {pc : Nat} {ls : Array Slot} {rest : List Value} {A : Nat → Prop} {L : xL} {g g0 : xg} {σ : xS}
theorem x_aretsw {n : String} (C0 : xCx p l s m args meth c own cc nL (some (.object n)) L A) (hG : xG A L g s σ H locs) (hcs : cells ≤ mc ∧ slots ≤ ms) {σ1 : xS} {u r : Nat} (hdg : decode cc pc = .ok (.areturn, 1)) (hF : some (σ, u) = some (σ1, r)) : W p l e R s m args below meth c H locs cells slots (xZg below L g0 A s args σ1 (fun g => some (.ref (g.1 r))) mc ms) (F0 m pc ls [.ref (g.1 u)]) := by
  cases hF
  exact x_aretg (r := some (g.1 u)) C0 (Or.inl ⟨n, rfl⟩) hG hcs rfl hdg rfl
theorem x_cVgi {C : String} {b k n' : Nat} {st0 As : List Value} {r : Int32} {σ1 : xS} {y : MethodName} {cy : ByteArray} {ny n idx fr lo : Nat} {ry : Option FieldType} (C0 : xCx p l s m args meth c own cc nL ret L A) (hG : xG A L g s σ H locs) (hM : xMetg l y cy ny ry fr lo k n' (.ref b :: As) L g σ (fun _ => some (.int r)) σ1) (hw : GoodIn lw_all (wsV own idx C y (ws_ y cy ny ry))) (hd : y.cls = C ∧ y.cls ≠ "java/lang/invoke/MethodHandle" ∧ y.cls ≠ "java/lang/invoke/VarHandle" ∧ (parseMethodDescriptor y.desc).map (fun d => d.parameters.length) = some n)
    (hrc : ∃ cell : Cell, H[b]? = some cell ∧ cell.vm.isStatics = false ∧ s.vm.findClass C = some cell.cls) (hR : fr + 1 ≤ R.frames ∧ 8 + (ny + 11) + lo ≤ R.locals) (hRc : cells + k ≤ R.cells ∧ slots + n' ≤ R.slots) (hst : st0 = As.reverse ++ .ref b :: rest) (hn : As.length = n) (hsz : ls.size = nL) (hrm : (rest.map fun v => v.category).sum ≤ 8) (hdg : decode cc pc = .ok (.invokevirtual idx, 3))
    (kk : ∀ (g1 : xg) (H1 : Heap) (locs1 : List Loc), xG A L g1 s σ1 H1 locs1 → W p l e R s m args below meth c H1 locs1 (cells + k) (slots + n') Q (F0 m (pc + 3) ls (.int r :: rest))) : W p l e R s m args below meth c H locs cells slots Q (F0 m pc ls st0) := x_cVg C0 hG hM hw hd hrc hR hRc hst hn hsz hrm hdg kk
theorem x_cVgs {C : String} {b k n' : Nat} {st0 As : List Value} {r : Nat} {σ1 : xS} {y : MethodName} {cy : ByteArray} {ny n idx fr lo : Nat} {ry : Option FieldType} (C0 : xCx p l s m args meth c own cc nL ret L A) (hG : xG A L g s σ H locs) (hM : xMetg l y cy ny ry fr lo k n' (.ref b :: As) L g σ (fun g => some (.ref (g.1 r))) σ1) (hw : GoodIn lw_all (wsV own idx C y (ws_ y cy ny ry))) (hd : y.cls = C ∧ y.cls ≠ "java/lang/invoke/MethodHandle" ∧ y.cls ≠ "java/lang/invoke/VarHandle" ∧ (parseMethodDescriptor y.desc).map (fun d => d.parameters.length) = some n)
    (hrc : ∃ cell : Cell, H[b]? = some cell ∧ cell.vm.isStatics = false ∧ s.vm.findClass C = some cell.cls) (hR : fr + 1 ≤ R.frames ∧ 8 + (ny + 11) + lo ≤ R.locals) (hRc : cells + k ≤ R.cells ∧ slots + n' ≤ R.slots) (hst : st0 = As.reverse ++ .ref b :: rest) (hn : As.length = n) (hsz : ls.size = nL) (hrm : (rest.map fun v => v.category).sum ≤ 8) (hdg : decode cc pc = .ok (.invokevirtual idx, 3))
    (kk : ∀ (g1 : xg) (H1 : Heap) (locs1 : List Loc), xG A L g1 s σ1 H1 locs1 → W p l e R s m args below meth c H1 locs1 (cells + k) (slots + n') Q (F0 m (pc + 3) ls (.ref (g1.1 r) :: rest))) : W p l e R s m args below meth c H locs cells slots Q (F0 m pc ls st0) := x_cVg C0 hG hM hw hd hrc hR hRc hst hn hsz hrm hdg kk
end XHROWS2
