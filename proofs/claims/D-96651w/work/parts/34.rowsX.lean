def chl {α : Type} (a b : Nat) (o : Option α) : Option α := if a < b then o else none
theorem chl_of {α : Type} {a b : Nat} {o : Option α} {r : α} (h : chl a b o = some r) : a < b ∧ o = some r := by
  unfold chl at h
  split at h
  · exact ⟨by assumption, h⟩
  · cases h
section ONROWS
variable {p : Program} {l : Launch} {e : Env} {R : Room} {s : State} {m : MethodId} {args : Array Value} {below : List Frame} {meth : Method} {c : Code} {H : Heap} {locs : List Loc} {cells slots : Nat} {Q : State → Prop}
variable {cc : ByteArray} {pc : Nat} {ls : Array Slot} {rest : List Value}
theorem o_getN (hexec : p.tables.exec = Jvm.exec) (hb : c.code = cc) {own C ref host : String} {T : u_T} {N a index : Nat} {cC : ClassId} {iS : Nat → Nat} {V : Nat → Value} (hts : ∀ w ∈ lw_all, w.before args s = true) (hin : ∀ w ∈ u_ws C T N, w ∈ lw_all) (hown : s.vm.findClass own = some m.cls) (hK : u_Kn s C T N cC iS) (hO : t_OB a cC N iS H V) (k : Nat) (hk : k < N) (hlink : (Cond.fieldLinkNest own index ref (T k).2.1 (T k).2.2.1 host).before args s = true) (hsame : (T k).1 = ref) (hdg : decode cc pc = .ok (.getfield index, 3))
    (kk : W p l e R s m args below meth c H locs cells slots Q (F0 m (pc + 3) ls (V k :: rest))) : W p l e R s m args below meth c H locs cells slots Q (F0 m pc ls (.ref a :: rest)) := by
  obtain ⟨cell, q1, q2, q3, q4⟩ := hO
  obtain ⟨hS, hfc, kC, hkC, hkind⟩ := hK
  obtain ⟨cf, kf, fi, f, hi, hsl⟩ := hS k hk
  refine va_Wgetf hexec hb hown hlink (by rw [← hsame]; exact hi) (u_facts hfc hkC (u_lays hts hin hk) hi).1 q1 (by rw [q3]; exact fun h => by cases h) (v := V k) ?_ rfl rfl hdg kk
  rw [hsl, q4 k hk]
theorem o_putN (hexec : p.tables.exec = Jvm.exec) (hb : c.code = cc) {own C ref host : String} {T : u_T} {N a index : Nat} {cC : ClassId} {iS : Nat → Nat} {V : Nat → Value} (hts : ∀ w ∈ lw_all, w.before args s = true) (hin : ∀ w ∈ u_ws C T N, w ∈ lw_all) (ty0 : Nat → FieldType) (hty : ∀ k, k < N → parseFieldDescriptor (T k).2.2.1 = some (ty0 k)) (hnm : ∀ a, a < N → ∀ b, b < N → a ≠ b → (T a).2.1 ≠ (T b).2.1) (hown : s.vm.findClass own = some m.cls) (hK : u_Kn s C T N cC iS) (hO : t_OB a cC N iS H V) (k : Nat) (hk : k < N) (hlink : (Cond.fieldLinkNest own index ref (T k).2.1 (T k).2.2.1 host).before args s = true) (hsame : (T k).1 = ref) (hfin : (T k).2.2.2 = false) {v : Value} (hn : narrow (ty0 k) v = v) (hfit : fits (ty0 k) v = true) (hdg : decode cc pc = .ok (.putfield index, 3))
    (kk : ∀ H1 : Heap, t_OB a cC N iS H1 (updV V k v) → H1.size = H.size → (∀ q, q ≠ a → H1[q]? = H[q]?) → W p l e R s m args below meth c H1 (locs ++ [⟨a, iS k⟩]) cells slots Q (F0 m (pc + 3) ls rest)) : W p l e R s m args below meth c H locs cells slots Q (F0 m pc ls (v :: .ref a :: rest)) := by
  have hap := o_apart (s := s) (args := args) hts hin ty0 hty hnm hK
  obtain ⟨cell, q1, q2, q3, q4⟩ := hO
  obtain ⟨hS, hfc, kC, hkC, hkind⟩ := hK
  obtain ⟨cf, kf, fi, f, hi, hsl⟩ := hS k hk
  have hlay := hts _ (hin _ (u_in_lay hk))
  unfold u_lay at hlay
  rw [if_neg (by rw [hfin]; decide)] at hlay
  have hst := (u_facts hfc hkC (u_lays hts hin hk) hi).1
  have h6 := u_store hfc hkC hkind hlay hi (hty k hk) hn hfit
  refine va_WputK hexec hb (f := f) hown hlink (by rw [← hsame]; exact hi) hst (by rw [q2]; exact h6) q1 q3 (by rw [hsl]; exact k2_hasslot (q4 k hk)) rfl rfl hdg fun H' e1 e2 e3 => ?_
  rw [hsl] at e1 ⊢
  exact kk H' ⟨_, e1, q2, q3, t_set q4 hap hk v⟩ e2 e3
end ONROWS
theorem xTX0 (k : Nat) : (TX0 k).1 = RX0 := by unfold TX0; split <;> rfl
theorem xTX3 (k : Nat) : (TX3 k).1 = RX3 := by unfold TX3; split <;> rfl
theorem xTX4 (k : Nat) : (TX4 k).1 = RX4 := by unfold TX4; split <;> rfl
theorem xT_int : ∀ k, k < 44 → xRef k = false → (TX0 k).2.2.2 = false ∧ ((tyX0 k = .int) ∨ (tyX0 k = .boolean ∧ k = 31)) := by decide +kernel
theorem xT3_int : ∀ k, k < 8 → (TX3 k).2.2.2 = false ∧ tyX3 k = .int := by decide +kernel
abbrev xZ (below : List Frame) (L : xL) (g : xg) (A : Nat → Prop) (s : State) (args : Array Value) (σ : xS) (v : Option Value) (mc ms : Nat) : State → Prop := MQ below (xQ L g σ v A) args s mc ms A
def xMet (l : Launch) (y : MethodName) (cc : ByteArray) (nL : Nat) (ret : Option FieldType) (fr lo mc ms : Nat) (av : List Value) (L : xL) (g : xg) (σ : xS) (v : Option Value) (σ' : xS) : Prop :=
  ∀ sz : Nat, Met l y (ws_ y cc nL ret) ({ frames := fr, cells := mc, slots := ms, locals := lo }) (va_Pc av (fun U => U.heap.size = sz ∧ xW L g σ U.heap ∧ xK L U ∧ xSt (xA g sz) U)) (xQ L g σ' v (xA g sz)) mc ms (xA g sz)
/-- .. of a method with handlers -/
def xMetW (l : Launch) (y : MethodName) (cc : ByteArray) (nL : Nat) (ret : Option FieldType) (hh : List (Nat × Nat × Nat × Nat)) (fr lo mc ms : Nat) (av : List Value) (L : xL) (g : xg) (σ : xS) (v : Option Value) (σ' : xS) : Prop :=
  ∀ sz : Nat, Met l y (wsW_ y cc nL ret hh) ({ frames := fr, cells := mc, slots := ms, locals := lo }) (va_Pc av (fun U => U.heap.size = sz ∧ xW L g σ U.heap ∧ xK L U ∧ xSt (xA g sz) U)) (xQ L g σ' v (xA g sz)) mc ms (xA g sz)
section XROWS
variable {p : Program} {l : Launch} {e : Env} {R : Room} {s : State} {m : MethodId} {args : Array Value} {below : List Frame} {meth : Method} {c : Code} {H : Heap} {locs : List Loc} {cells slots mc ms : Nat} {Q : State → Prop}
variable {own : String} {cc : ByteArray} {nL : Nat} {ret : Option FieldType} {pc : Nat} {ls : Array Slot} {rest : List Value} {A : Nat → Prop} {L : xL} {g : xg} {σ : xS}
theorem x_geti (C0 : xCx p l s m args meth c RX0 cc nL ret L A) (hG : xG A L g s σ H locs) (k : Nat) (hk : k < 44) (ha : xRef k = false) {idx : Nat} (hq : Cond.fieldLink RX0 idx RX0 (TX0 k).2.1 (TX0 k).2.2.1 ∈ lw_all) (hdg : decode cc pc = .ok (.getfield idx, 3)) {β : Type} {f : Int32 → β} {z : β} (hF : nmv (xI σ k) f = z)
    (kk : ∀ x : Int32, f x = z → W p l e R s m args below meth c H locs cells slots Q (F0 m (pc + 3) ls (.int x :: rest))) : W p l e R s m args below meth c H locs cells slots Q (F0 m pc ls (.ref L.1 :: rest)) := by
  obtain ⟨hx, hb, hml, hown, hts, hK, hA, hr, hlk, -⟩ := C0
  refine o_get hx hb hts in_X0 hown (hK.1 0 rfl) hG.1.1 k hk (hts _ hq) (xTX0 k) hdg ?_
  unfold xV
  rw [if_neg (fun e => by rw [e] at ha; exact absurd ha (by decide)), if_neg (by rw [ha]; decide)]
  exact kk _ hF
theorem x_geta (C0 : xCx p l s m args meth c RX0 cc nL ret L A) (hG : xG A L g s σ H locs) (k : Nat) (hk : k < 44) (ha : xRef k = true) (h10 : k ≠ 10) {idx : Nat} (hq : Cond.fieldLink RX0 idx RX0 (TX0 k).2.1 (TX0 k).2.2.1 ∈ lw_all) (hdg : decode cc pc = .ok (.getfield idx, 3))
    (kk : W p l e R s m args below meth c H locs cells slots Q (F0 m (pc + 3) ls (.ref (L.2.1 k) :: rest))) : W p l e R s m args below meth c H locs cells slots Q (F0 m pc ls (.ref L.1 :: rest)) := by
  obtain ⟨hx, hb, hml, hown, hts, hK, hA, hr, hlk, -⟩ := C0
  refine o_get hx hb hts in_X0 hown (hK.1 0 rfl) hG.1.1 k hk (hts _ hq) (xTX0 k) hdg ?_
  unfold xV
  rw [if_neg h10, if_pos ha]
  exact kk
theorem x_getl (C0 : xCx p l s m args meth c RX0 cc nL ret L A) (hG : xG A L g s σ H locs) {idx : Nat} (hq : Cond.fieldLink RX0 idx RX0 (TX0 10).2.1 (TX0 10).2.2.1 ∈ lw_all) (hdg : decode cc pc = .ok (.getfield idx, 3))
    (kk : W p l e R s m args below meth c H locs cells slots Q (F0 m (pc + 3) ls (va_rf g.2.2.2.2.1 :: rest))) : W p l e R s m args below meth c H locs cells slots Q (F0 m pc ls (.ref L.1 :: rest)) := by
  obtain ⟨hx, hb, hml, hown, hts, hK, hA, hr, hlk, -⟩ := C0
  exact o_get hx hb hts in_X0 hown (hK.1 0 rfl) hG.1.1 10 (by decide) (hts _ hq) (xTX0 10) hdg kk
theorem xG.ownh (hG : xG A L g s σ H locs) : A L.1 := hG.2.2 _ (by rw [hG.1.2.2.2.2.2.1.1]; decide)
theorem xG.ownk (hG : xG A L g s σ H locs) {k : Nat} (hk : k < 45) (h10 : k ≠ 10) (hr : xRef k = true ∨ k = 44) : A (L.2.1 k) := hG.2.2 _ (by rw [hG.1.2.2.2.2.2.1.2.1 k hk h10 hr]; omega)
theorem xG.owns (hG : xG A L g s σ H locs) {i : Nat} (hi : i < xn σ) : A (g.1 i) := hG.2.2 _ (by rw [hG.1.2.2.2.2.2.1.2.2.1 i hi]; omega)
theorem x_puti (C0 : xCx p l s m args meth c RX0 cc nL ret L A) (hG : xG A L g s σ H locs) (k : Nat) (hk : k < 44) (ha : xRef k = false) {idx : Nat} (hq : Cond.fieldLink RX0 idx RX0 (TX0 k).2.1 (TX0 k).2.2.1 ∈ lw_all) (hdg : decode cc pc = .ok (.putfield idx, 3)) {v : Int32} (hb1 : k ≠ 31 ∨ v = 1) {β : Type} {f : xS → β} {z : β} (hF : nmv (xSi σ k v) f = z)
    (kk : ∀ (σ1 : xS) (H1 : Heap) (locs1 : List Loc), xG A L g s σ1 H1 locs1 → f σ1 = z → W p l e R s m args below meth c H1 locs1 cells slots Q (F0 m (pc + 3) ls rest)) : W p l e R s m args below meth c H locs cells slots Q (F0 m pc ls (.int v :: .ref L.1 :: rest)) := by
  obtain ⟨hx, hb, hml, hown, hts, hK, hA, hr, hlk, -⟩ := C0
  have ht := xT_int k hk ha
  have hn : narrow (tyX0 k) (.int v) = .int v ∧ fits (tyX0 k) (.int v) = true := by
    rcases ht.2 with e | ⟨e, e2⟩
    · rw [e]; exact ⟨rfl, rfl⟩
    · rw [e]
      rcases hb1 with h | h
      · exact absurd e2 h
      · subst h; exact ⟨rfl, rfl⟩
  refine o_put hx hb hts in_X0 tyX0 tyX0_ok nmX0 hown (hK.1 0 rfl) hG.1.1 k hk (hts _ hq) (xTX0 k) ht.1 hn.1 hn.2 hdg fun H1 e1 z1 o1 => ?_
  exact kk _ H1 _ ⟨hG.1.seti k hk ha e1 z1 o1, hG.2.1.put z1 o1 hG.ownh, hG.2.2⟩ hF
theorem x_ld (C0 : xCx p l s m args meth c own cc nL ret L A) (hG : xG A L g s σ H locs) (k : Nat) (hk : k < 45 ∧ xPa k = true ∧ xAk k = 0) {i : Int32} (hdg : decode cc pc = .ok (.iaload, 1)) {β : Type} {f : Int32 → Option β} {z : β} (hF : chk i (xLen k) (nmv (xJ σ k i.toNatClampNeg) f) = some z)
    (kk : ∀ x : Int32, f x = some z → W p l e R s m args below meth c H locs cells slots Q (F0 m (pc + 1) ls (.int x :: rest))) : W p l e R s m args below meth c H locs cells slots Q (F0 m pc ls (.int i :: .ref (L.2.1 k) :: rest)) := by
  obtain ⟨hx, hb, hml, hown, hts, hK, hA, hr, hlk, -⟩ := C0
  obtain ⟨hin, hF⟩ := chk_of hF
  have hlt : i.toNatClampNeg < xLen k := Nat.not_le.mp fun q => hin (Or.inr q)
  have hc := hG.1.2.1 k hk.1 hk.2.1
  rw [hk.2.2, vp_cell_i] at hc
  exact W.iald (v := .int (xJ σ k i.toNatClampNeg)) hx hb hc ((hK.2 0 (by decide)).1 _ _) (fun q => by cases q) (by rw [arrV_size]; exact hin) (by rw [arrV_read _ _ hlt]) rfl rfl hdg (kk _ hF)
theorem x_bld (C0 : xCx p l s m args meth c own cc nL ret L A) (hG : xG A L g s σ H locs) (k : Nat) (hk : k < 45 ∧ xPa k = true ∧ xAk k = 1) {i : Int32} (hdg : decode cc pc = .ok (.baload, 1)) {β : Type} {f : Int32 → Option β} {z : β} (hF : chk i (xLen k) (nmv (xJ σ k i.toNatClampNeg) f) = some z)
    (kk : ∀ x : Int32, f x = some z → W p l e R s m args below meth c H locs cells slots Q (F0 m (pc + 1) ls (.int x :: rest))) : W p l e R s m args below meth c H locs cells slots Q (F0 m pc ls (.int i :: .ref (L.2.1 k) :: rest)) := by
  obtain ⟨hx, hb, hml, hown, hts, hK, hA, hr, hlk, -⟩ := C0
  obtain ⟨hin, hF⟩ := chk_of hF
  have hlt : i.toNatClampNeg < xLen k := Nat.not_le.mp fun q => hin (Or.inr q)
  have hc := hG.1.2.1 k hk.1 hk.2.1
  rw [hk.2.2, vp_cell_i] at hc
  exact W.bald (v := .int (xJ σ k i.toNatClampNeg)) hx hb hc ((hK.2 1 (by decide)).1 _ _) (fun q => by cases q) (by rw [arrV_size]; exact hin) (by rw [arrV_read _ _ hlt]) rfl rfl hdg (kk _ hF)
theorem x_st (C0 : xCx p l s m args meth c own cc nL ret L A) (hG : xG A L g s σ H locs) (k : Nat) (hk : k < 45 ∧ xPa k = true ∧ xAk k = 0) {i x : Int32} (hdg : decode cc pc = .ok (.iastore, 1)) {β : Type} {f : xS → Option β} {z : β} (hF : chk i (xLen k) (nmv (xSj σ k i.toNatClampNeg x) f) = some z)
    (kk : ∀ (σ1 : xS) (H1 : Heap) (locs1 : List Loc), xG A L g s σ1 H1 locs1 → f σ1 = some z → W p l e R s m args below meth c H1 locs1 cells slots Q (F0 m (pc + 1) ls rest)) : W p l e R s m args below meth c H locs cells slots Q (F0 m pc ls (.int x :: .int i :: .ref (L.2.1 k) :: rest)) := by
  obtain ⟨hx, hb, hml, hown, hts, hK, hA, hr, hlk, -⟩ := C0
  obtain ⟨hin, hF⟩ := chk_of hF
  have hc := hG.1.2.1 k hk.1 hk.2.1
  have h4 := xPa_44 k hk.1 hk.2.1
  rw [hk.2.2, vp_cell_i] at hc
  refine W.iast hx hb hc ((hK.2 0 (by decide)).1 _ _) (fun q => by cases q) (by rw [arrV_size]; exact hin) rfl rfl hdg fun H1 e1 z1 o1 => ?_
  rw [arrV_store] at e1
  exact kk _ H1 _ ⟨hG.1.setj k hk.1 hk.2.1 (by rw [hk.2.2]; exact e1) z1 o1, hG.2.1.put z1 o1 (hG.ownk hk.1 h4.2.1 h4.1), hG.2.2⟩ hF
theorem x_bst (C0 : xCx p l s m args meth c own cc nL ret L A) (hG : xG A L g s σ H locs) (k : Nat) (hk : k < 45 ∧ xPa k = true ∧ xAk k = 1) {i x : Int32} (hdg : decode cc pc = .ok (.bastore, 1)) {β : Type} {f : xS → Option β} {z : β} (hF : chk i (xLen k) (nmv (xSj σ k i.toNatClampNeg x.toInt8.toInt32) f) = some z)
    (kk : ∀ (σ1 : xS) (H1 : Heap) (locs1 : List Loc), xG A L g s σ1 H1 locs1 → f σ1 = some z → W p l e R s m args below meth c H1 locs1 cells slots Q (F0 m (pc + 1) ls rest)) : W p l e R s m args below meth c H locs cells slots Q (F0 m pc ls (.int x :: .int i :: .ref (L.2.1 k) :: rest)) := by
  obtain ⟨hx, hb, hml, hown, hts, hK, hA, hr, hlk, -⟩ := C0
  obtain ⟨hin, hF⟩ := chk_of hF
  have hc := hG.1.2.1 k hk.1 hk.2.1
  have h4 := xPa_44 k hk.1 hk.2.1
  rw [hk.2.2, vp_cell_i] at hc
  refine W.bast hx hb hc ((hK.2 1 (by decide)).1 _ _) (fun q => by cases q) (by rw [arrV_size]; exact hin) rfl rfl hdg fun H1 e1 z1 o1 => ?_
  rw [arrV_store] at e1
  exact kk _ H1 _ ⟨hG.1.setj k hk.1 hk.2.1 (by rw [hk.2.2]; exact e1) z1 o1, hG.2.1.put z1 o1 (hG.ownk hk.1 h4.2.1 h4.1), hG.2.2⟩ hF
/-- a swimmer out of the row of swimmers -/
theorem x_swld (C0 : xCx p l s m args meth c own cc nL ret L A) (hG : xG A L g s σ H locs) {i : Int32} (hdg : decode cc pc = .ok (.aaload, 1)) {β : Type} {f : Nat → Option β} {z : β} (hF : chk i 8 (chl i.toNatClampNeg (xn σ) (nmv i.toNatClampNeg f)) = some z)
    (kk : ∀ u : Nat, f u = some z → W p l e R s m args below meth c H locs cells slots Q (F0 m (pc + 1) ls (.ref (g.1 u) :: rest))) : W p l e R s m args below meth c H locs cells slots Q (F0 m pc ls (.int i :: .ref (L.2.1 0) :: rest)) := by
  obtain ⟨hx, hb, hml, hown, hts, hK, hA, hr, hlk, -⟩ := C0
  obtain ⟨hin, hF⟩ := chk_of hF
  obtain ⟨hn, hF⟩ := chl_of hF
  have hlt : i.toNatClampNeg < 8 := Nat.not_le.mp fun q => hin (Or.inr q)
  have hc := hG.1.2.2.2.1.1
  rw [vp_cell_q] at hc
  have kk := kk _ hF
  exact W.aald (v := .ref (g.1 i.toNatClampNeg)) (ty := .object "EightLegs$Swimmer") hx hb hc ((hK.2 5 (by decide)).1 _ _) rfl (fun q => by cases q) (by rw [arrV_size]; exact hin) (by rw [arrV_read _ _ hlt, if_pos hn]; rfl) rfl rfl hdg kk
theorem x_swg (C0 : xCx p l s m args meth c own cc nL ret L A) (hG : xG A L g s σ H locs) (k : Nat) (hk : k < 8) {idx : Nat} {host : String} {u : Nat} (hq : Cond.fieldLinkNest own idx RX3 (TX3 k).2.1 (TX3 k).2.2.1 host ∈ lw_tbl) (hdg : decode cc pc = .ok (.getfield idx, 3)) {β : Type} {f : Int32 → Option β} {z : β} (hF : chl u (xn σ) (nmv (xE σ u k) f) = some z)
    (kk : ∀ x : Int32, f x = some z → W p l e R s m args below meth c H locs cells slots Q (F0 m (pc + 3) ls (.int x :: rest))) : W p l e R s m args below meth c H locs cells slots Q (F0 m pc ls (.ref (g.1 u) :: rest)) := by
  obtain ⟨hx, hb, hml, hown, hts, hK, hA, hr, hlk, hst, -⟩ := C0
  obtain ⟨hn, hF⟩ := chl_of hF
  exact o_getN hx hb hts in_X3 hown (hK.1 3 rfl) (hG.1.2.2.2.1.2.2 u hn) k hk (va_Nw.use rfl (hst.1.1 _ _ _ _ _ _ hq)) (xTX3 k) hdg (kk _ hF)
theorem x_swgO (C0 : xCx p l s m args meth c RX3 cc nL ret L A) (hG : xG A L g s σ H locs) (k : Nat) (hk : k < 8) {idx : Nat} {u : Nat} (hq : Cond.fieldLink RX3 idx RX3 (TX3 k).2.1 (TX3 k).2.2.1 ∈ lw_all) (hdg : decode cc pc = .ok (.getfield idx, 3)) {β : Type} {f : Int32 → Option β} {z : β} (hF : chl u (xn σ) (nmv (xE σ u k) f) = some z)
    (kk : ∀ x : Int32, f x = some z → W p l e R s m args below meth c H locs cells slots Q (F0 m (pc + 3) ls (.int x :: rest))) : W p l e R s m args below meth c H locs cells slots Q (F0 m pc ls (.ref (g.1 u) :: rest)) := by
  obtain ⟨hx, hb, hml, hown, hts, hK, hA, hr, hlk, hst, -⟩ := C0
  obtain ⟨hn, hF⟩ := chl_of hF
  exact o_get hx hb hts in_X3 hown (hK.1 3 rfl) (hG.1.2.2.2.1.2.2 u hn) k hk (hts _ hq) (xTX3 k) hdg (kk _ hF)
theorem x_swp (C0 : xCx p l s m args meth c own cc nL ret L A) (hG : xG A L g s σ H locs) (k : Nat) (hk : k < 8) {idx : Nat} {host : String} {u : Nat} {v : Int32} (hq : Cond.fieldLinkNest own idx RX3 (TX3 k).2.1 (TX3 k).2.2.1 host ∈ lw_tbl) (hdg : decode cc pc = .ok (.putfield idx, 3)) {β : Type} {f : xS → Option β} {z : β} (hF : chl u (xn σ) (nmv (xSe σ u k v) f) = some z)
    (kk : ∀ (σ1 : xS) (H1 : Heap) (locs1 : List Loc), xG A L g s σ1 H1 locs1 → f σ1 = some z → W p l e R s m args below meth c H1 locs1 cells slots Q (F0 m (pc + 3) ls rest)) : W p l e R s m args below meth c H locs cells slots Q (F0 m pc ls (.int v :: .ref (g.1 u) :: rest)) := by
  obtain ⟨hx, hb, hml, hown, hts, hK, hA, hr, hlk, hst, -⟩ := C0
  obtain ⟨hn, hF⟩ := chl_of hF
  have ht := xT3_int k hk
  refine o_putN hx hb hts in_X3 tyX3 tyX3_ok nmX3 hown (hK.1 3 rfl) (hG.1.2.2.2.1.2.2 u hn) k hk (va_Nw.use rfl (hst.1.1 _ _ _ _ _ _ hq)) (xTX3 k) ht.1 (v := .int v) (by rw [ht.2]; rfl) (by rw [ht.2]; rfl) hdg fun H1 e1 z1 o1 => ?_
  exact kk _ H1 _ ⟨hG.1.sete hn k hk e1 z1 o1, hG.2.1.put z1 o1 (hG.owns hn), hG.2.2⟩ hF
/-- a change out of the row of changes -/
theorem x_chld (C0 : xCx p l s m args meth c own cc nL ret L A) (hG : xG A L g s σ H locs) {i : Int32} (hdg : decode cc pc = .ok (.aaload, 1)) {β : Type} {f : Nat → Option β} {z : β} (hF : chk i 40 (chl i.toNatClampNeg (xm σ) (nmv i.toNatClampNeg f)) = some z)
    (kk : ∀ u : Nat, f u = some z → W p l e R s m args below meth c H locs cells slots Q (F0 m (pc + 1) ls (.ref (g.2.1 u) :: rest))) : W p l e R s m args below meth c H locs cells slots Q (F0 m pc ls (.int i :: .ref (L.2.1 5) :: rest)) := by
  obtain ⟨hx, hb, hml, hown, hts, hK, hA, hr, hlk, -⟩ := C0
  obtain ⟨hin, hF⟩ := chk_of hF
  obtain ⟨hn, hF⟩ := chl_of hF
  have hlt : i.toNatClampNeg < 40 := Nat.not_le.mp fun q => hin (Or.inr q)
  have hc := hG.1.2.2.2.2.1.1.1
  rw [vp_cell_q] at hc
  have kk := kk _ hF
  exact W.aald (v := .ref (g.2.1 i.toNatClampNeg)) (ty := .object "EightLegs$Change") hx hb hc ((hK.2 6 (by decide)).1 _ _) rfl (fun q => by cases q) (by rw [arrV_size]; exact hin) (by rw [arrV_read _ _ hlt, if_pos hn]; rfl) rfl rfl hdg kk
theorem x_chg (C0 : xCx p l s m args meth c own cc nL ret L A) (hG : xG A L g s σ H locs) (k : Nat) (hk : k < 4) {idx : Nat} {host : String} {u : Nat} (hq : Cond.fieldLinkNest own idx RX4 (TX4 k).2.1 (TX4 k).2.2.1 host ∈ lw_tbl) (hdg : decode cc pc = .ok (.getfield idx, 3)) {β : Type} {f : Int32 → Option β} {z : β} (hF : chl u (xm σ) (nmv (xC σ u k) f) = some z)
    (kk : ∀ x : Int32, f x = some z → W p l e R s m args below meth c H locs cells slots Q (F0 m (pc + 3) ls (.int x :: rest))) : W p l e R s m args below meth c H locs cells slots Q (F0 m pc ls (.ref (g.2.1 u) :: rest)) := by
  obtain ⟨hx, hb, hml, hown, hts, hK, hA, hr, hlk, hst, -⟩ := C0
  obtain ⟨hn, hF⟩ := chl_of hF
  exact o_getN hx hb hts in_X4 hown (hK.1 4 rfl) (hG.1.2.2.2.2.1.1.2.2 u hn) k hk (va_Nw.use rfl (hst.1.1 _ _ _ _ _ _ hq)) (xTX4 k) hdg (kk _ hF)
/-- whether a law was told -/
theorem x_lawnull (C0 : xCx p l s m args meth c own cc nL ret L A) (hG : xG A L g s σ H locs) {off : Int} {tgt : Nat} (hdg : decode cc pc = .ok (.ifnull off, 3)) (ht : (pc : Int) + off = (tgt : Int)) {β : Type} {a b : Option β} {z : β} (hF : (if (xY σ).isNone = true then a else b) = some z)
    (kt : a = some z → W p l e R s m args below meth c H locs cells slots Q (F0 m tgt ls rest)) (kf : b = some z → W p l e R s m args below meth c H locs cells slots Q (F0 m (pc + 3) ls rest)) : W p l e R s m args below meth c H locs cells slots Q (F0 m pc ls (va_rf g.2.2.2.2.1 :: rest)) := by
  obtain ⟨hx, hb, -⟩ := C0
  obtain ⟨-, -, -, h1, h2, h3⟩ := hG.1.2.2.2.2.1
  cases hY : xY σ with
  | none =>
    rw [h2 hY]
    rw [hY] at hF
    exact lv_ifnullN hx hb hdg ht (kt hF)
  | some Y =>
    rw [hY] at hF h1 h3
    have h4 := h3 (fun q => by cases q)
    cases Y with
    | nil => exact absurd rfl h4
    | cons x xs =>
      obtain ⟨q, gn, tn, nx, e1, -⟩ := h1
      rw [e1]
      exact lv_ifnull hx hb hdg (kf hF)
theorem xTX1 (k : Nat) : (TX1 k).1 = RX1 := by unfold TX1; split <;> rfl
theorem x_named (C0 : xCx p l s m args meth c own cc nL ret L A) (hG : xG A L g s σ H locs) {idx : Nat} {host : String} (hq : Cond.fieldLinkNest own idx RX1 (TX1 0).2.1 (TX1 0).2.2.1 host ∈ lw_tbl) (hdg : decode cc pc = .ok (.getfield idx, 3))
    (kk : W p l e R s m args below meth c H locs cells slots Q (F0 m (pc + 3) ls (.ref (L.2.1 44) :: rest))) : W p l e R s m args below meth c H locs cells slots Q (F0 m pc ls (.ref (L.2.1 11) :: rest)) := by
  obtain ⟨hx, hb, hml, hown, hts, hK, hA, hr, hlk, hst, -⟩ := C0
  exact o_getN hx hb hts in_X1 hown (hK.1 1 rfl) hG.1.2.2.1 0 (by decide) (va_Nw.use rfl (hst.1.1 _ _ _ _ _ _ hq)) (xTX1 0) hdg kk
theorem x_namedO (C0 : xCx p l s m args meth c RX1 cc nL ret L A) (hG : xG A L g s σ H locs) {idx : Nat} (hq : Cond.fieldLink RX1 idx RX1 (TX1 0).2.1 (TX1 0).2.2.1 ∈ lw_all) (hdg : decode cc pc = .ok (.getfield idx, 3))
    (kk : W p l e R s m args below meth c H locs cells slots Q (F0 m (pc + 3) ls (.ref (L.2.1 44) :: rest))) : W p l e R s m args below meth c H locs cells slots Q (F0 m pc ls (.ref (L.2.1 11) :: rest)) := by
  obtain ⟨hx, hb, hml, hown, hts, hK, hA, hr, hlk, hst, -⟩ := C0
  exact o_get hx hb hts in_X1 hown (hK.1 1 rfl) hG.1.2.2.1 0 (by decide) (hts _ hq) (xTX1 0) hdg kk
theorem x_alen (C0 : xCx p l s m args meth c own cc nL ret L A) (hG : xG A L g s σ H locs) (k : Nat) (hk : k < 45 ∧ xPa k = true ∧ xAk k = 0) {v : Int32} (hv : Int32.ofNat (xLen k) = v) (hdg : decode cc pc = .ok (.arraylength, 1))
    (kk : W p l e R s m args below meth c H locs cells slots Q (F0 m (pc + 1) ls (.int v :: rest))) : W p l e R s m args below meth c H locs cells slots Q (F0 m pc ls (.ref (L.2.1 k) :: rest)) := by
  obtain ⟨hx, hb, hml, hown, hts, hK, hA, hr, hlk, hst, -⟩ := C0
  have hc := hG.1.2.1 k hk.1 hk.2.1
  rw [hk.2.2, vp_cell_i] at hc
  subst hv
  exact W.alen (n := Int32.ofNat (xLen k)) hx hb hc ((hK.2 0 (by decide)).1 _ _) (by rw [arrV_size] <;> rfl) rfl rfl hdg kk
theorem x_rcf (C0 : xCx p l s m args meth c own cc nL ret L A) (hG : xG A L g s σ H locs) : ∃ cell : Cell, H[L.2.1 11]? = some cell ∧ cell.vm.isStatics = false ∧ s.vm.findClass RX1 = some cell.cls := o_recv (C0.2.2.2.2.2.1.1 1 rfl) hG.1.2.2.1
/-- ends -/
theorem x_end (hG : xG A L g s σ H locs) {σ1 : xS} {v : Option Value} (e1 : σ = σ1) (t : State) (ht : t.heap = H) (hW : s.WarmedH t.vm) : xQ L g σ1 v A args s (.returned v) t := by
  subst e1
  exact ⟨⟨rfl, by rw [ht]; exact hG.1⟩, hG.2.1.F ht⟩
theorem x_iret (C0 : xCx p l s m args meth c own cc nL (some .int) L A) (hG : xG A L g s σ H locs) (hcs : cells ≤ mc ∧ slots ≤ ms) {σ1 : xS} {v r : Int32} (hdg : decode cc pc = .ok (.ireturn, 1)) (hF : some (σ, v) = some (σ1, r)) : W p l e R s m args below meth c H locs cells slots (xZ below L g A s args σ1 (some (.int r)) mc ms) (F0 m pc ls [.int v]) := by
  cases hF
  exact W.widen hcs.1 hcs.2 (W.iret C0.1 C0.2.1 C0.2.2.2.2.2.2.2.1 (fun t ht hW => x_end hG rfl t ht hW) hG.2.1.2.2 hdg C0.2.2.2.2.2.2.2.2.1)
theorem x_zret (C0 : xCx p l s m args meth c own cc nL (some .boolean) L A) (hG : xG A L g s σ H locs) (hcs : cells ≤ mc ∧ slots ≤ ms) {σ1 : xS} {v r : Int32} (hdg : decode cc pc = .ok (.ireturn, 1)) (hF : chb v (some (σ, v)) = some (σ1, r)) : W p l e R s m args below meth c H locs cells slots (xZ below L g A s args σ1 (some (.int r)) mc ms) (F0 m pc ls [.int v]) := by
  obtain ⟨hv, hF⟩ := chb_of hF
  cases hF
  exact W.widen hcs.1 hcs.2 (W.zret C0.1 C0.2.1 C0.2.2.2.2.2.2.2.1 (nar_bool hv) (fun t ht hW => x_end hG rfl t ht hW) hG.2.1.2.2 hdg C0.2.2.2.2.2.2.2.2.1)
theorem x_lret (C0 : xCx p l s m args meth c own cc nL (some .long) L A) (hG : xG A L g s σ H locs) (hcs : cells ≤ mc ∧ slots ≤ ms) {σ1 : xS} {v r : Int64} (hdg : decode cc pc = .ok (.lreturn, 1)) (hF : some (σ, v) = some (σ1, r)) : W p l e R s m args below meth c H locs cells slots (xZ below L g A s args σ1 (some (.long r)) mc ms) (F0 m pc ls [.long v]) := by
  cases hF
  exact W.widen hcs.1 hcs.2 (W.lret C0.1 C0.2.1 C0.2.2.2.2.2.2.2.1 (fun t ht hW => x_end hG rfl t ht hW) hG.2.1.2.2 hdg C0.2.2.2.2.2.2.2.2.1)
theorem x_vret (C0 : xCx p l s m args meth c own cc nL none L A) (hG : xG A L g s σ H locs) (hcs : cells ≤ mc ∧ slots ≤ ms) {σ1 : xS} {r : Unit} (hdg : decode cc pc = .ok (.return_, 1)) (hF : some (σ, ()) = some (σ1, r)) : W p l e R s m args below meth c H locs cells slots (xZ below L g A s args σ1 none mc ms) (F0 m pc ls []) := by
  cases hF
  exact W.widen hcs.1 hcs.2 (W.vret C0.1 C0.2.1 C0.2.2.2.2.2.2.2.1 (fun t ht hW => x_end hG rfl t ht hW) hG.2.1.2.2 hdg C0.2.2.2.2.2.2.2.2.1)
theorem xA_sub (hG : xG A L g s σ H locs) (hA : ∀ q, s.heap.size ≤ q → A q) : ∀ q, xA g H.size q → A q := fun q h => h.elim (hG.2.2 q) (fun h => hA q (Nat.le_trans hG.2.1.1 h))
/-- calls -/
theorem x_call {k n : Nat} {st0 : List Value} {a : Array Value} {v : Option Value} {σ1 : xS} (C0 : xCx p l s m args meth c own cc nL ret L A) (hG : xG A L g s σ H locs) (hr : va_Run p l e R s m args below meth c H locs cells slots k n (F0 m pc ls st0) rest (xQ L g σ1 v (xA g H.size) a) (xA g H.size))
    (kk : ∀ (H1 : Heap) (locs1 : List Loc), xG A L g s σ1 H1 locs1 → W p l e R s m args below meth c H1 locs1 (cells + k) (slots + n) Q (F0 m (pc + 3) ls (v.toList ++ rest))) : W p l e R s m args below meth c H locs cells slots Q (F0 m pc ls st0) := by
  intro T hT X
  have hsub := xA_sub hG C0.2.2.2.2.2.2.1
  obtain ⟨hGW, hS, hGA⟩ := hG
  obtain ⟨v', st₀, t, T', Lc, h0, X', hL, e1, e2, ⟨⟨hv, hw⟩, hz, hk⟩, st⟩ := hr T hT X
  cases hv
  rw [h0] at hz hk
  obtain ⟨t2, a1, b1⟩ := kk T'.heap (locs ++ Lc) ⟨by rw [e1]; exact hw,
    ⟨Nat.le_trans hS.1 (by rw [e1]; exact hz), fun q h1 h2 => by rw [e1, hk q (Nat.lt_of_lt_of_le h1 hS.1) (fun z => h2 (hsub q z))]; exact hS.2.1 q h1 h2, fun q hq => by
      rcases List.mem_append.mp hq with h | h
      · exact hS.2.2 q h
      · exact hsub _ (hL q h)⟩, hGA⟩ T' rfl X'
  exact ⟨t2, st t2 a1, b1⟩
theorem xSt.blind {A : Nat → Prop} {U : State} {a : Array Value} {g0 : JFrame} {mk : MethodId} (h : xSt A U) : xSt A (U.calling g0 mk a) :=
  ⟨h.1.warm (U := U.calling g0 mk a) (State.WarmedH.refl U), vx_Zq.moved (u := U) (U := U.calling g0 mk a) (Vm.Alike.refl U.vm) h.2.1, vx_Zq.moved (u := U) (U := U.calling g0 mk a) (Vm.Alike.refl U.vm) h.2.2.1, xFw.moved (u := U) (U := U.calling g0 mk a) (Vm.Alike.refl U.vm) h.2.2.2.1, xMr.moved (u := U) (U := U.calling g0 mk a) (Vm.Alike.refl U.vm) h.2.2.2.2.1, xNc.moved (u := U) (U := U.calling g0 mk a) (Vm.Alike.refl U.vm) h.2.2.2.2.2⟩
theorem xSt.at {A B : Nat → Prop} {U : State} (h : xSt A s) (hS : va_S A s.heap H locs) (hBA : ∀ q, B q → A q) (hU : U.heap = H) (hW : s.WarmedH U.vm) : xSt B U :=
  ⟨h.1.warm hW, by rw [hU]; exact vx_Zq.moved hW.alike ((h.2.1.kept hS.2.1).narrow hBA), by rw [hU]; exact vx_Zq.moved hW.alike ((h.2.2.1.kept hS.2.1).narrow hBA), h.2.2.2.1.moved hW.alike, xMr.moved hW.alike h.2.2.2.2.1, h.2.2.2.2.2.moved hW.alike⟩
theorem xBlind {av : List Value} {sz : Nat} {B : Nat → Prop} : FrameBlind (va_Pc av (fun U => U.heap.size = sz ∧ xW L g σ U.heap ∧ xK L U ∧ xSt B U)) := fun a U g0 mk q => by
  obtain ⟨q0, q1, q2, q3, q4⟩ := q
  exact ⟨q0, q1, q2, xK.moved (u := U) (U := U.calling g0 mk a) (Vm.Alike.refl U.vm) q3, q4.blind⟩
theorem xPre (C0 : xCx p l s m args meth c own cc nL ret L A) (hG : xG A L g s σ H locs) {av : List Value} : ∀ U : State, U.heap = H → s.WarmedH U.vm → va_Pc av (fun U => U.heap.size = H.size ∧ xW L g σ U.heap ∧ xK L U ∧ xSt (xA g H.size) U) av.toArray U := fun U hU hW =>
  ⟨rfl, by rw [hU], by rw [hU]; exact hG.1, C0.2.2.2.2.2.1.moved hW.alike, xSt.at C0.2.2.2.2.2.2.2.2.2.1 hG.2.1 (xA_sub hG C0.2.2.2.2.2.2.1) hU hW⟩
/-- a call through an object of class C at b -/
theorem x_cV {C : String} {b k n' : Nat} {st0 As : List Value} {v : Option Value} {σ1 : xS} {y : MethodName} {cy : ByteArray} {ny n idx fr lo : Nat} {ry : Option FieldType} (C0 : xCx p l s m args meth c own cc nL ret L A) (hG : xG A L g s σ H locs) (hM : xMet l y cy ny ry fr lo k n' (.ref b :: As) L g σ v σ1) (hw : GoodIn lw_all (wsV own idx C y (ws_ y cy ny ry))) (hd : y.cls = C ∧ y.cls ≠ "java/lang/invoke/MethodHandle" ∧ y.cls ≠ "java/lang/invoke/VarHandle" ∧ (parseMethodDescriptor y.desc).map (fun d => d.parameters.length) = some n)
    (hrc : ∃ cell : Cell, H[b]? = some cell ∧ cell.vm.isStatics = false ∧ s.vm.findClass C = some cell.cls) (hR : fr + 1 ≤ R.frames ∧ 8 + (ny + 11) + lo ≤ R.locals) (hRc : cells + k ≤ R.cells ∧ slots + n' ≤ R.slots) (hst : st0 = As.reverse ++ .ref b :: rest) (hn : As.length = n) (hsz : ls.size = nL) (hrm : (rest.map fun v => v.category).sum ≤ 8) (hdg : decode cc pc = .ok (.invokevirtual idx, 3))
    (kk : ∀ (H1 : Heap) (locs1 : List Loc), xG A L g s σ1 H1 locs1 → W p l e R s m args below meth c H1 locs1 (cells + k) (slots + n') Q (F0 m (pc + 3) ls (v.toList ++ rest))) : W p l e R s m args below meth c H locs cells slots Q (F0 m pc ls st0) := by
  refine x_call (a := (Value.ref b :: As).toArray) C0 hG ?_ kk
  exact va_runV (As := As) (rest := rest) ⟨C0.1, C0.2.1, C0.2.2.1, C0.2.2.2.1, C0.2.2.2.2.1⟩ (hM H.size) (cwV n C0.2.2.2.2.1 hw rfl rfl rfl hd hR) ⟨xBlind, hrc, xPre C0 hG⟩ rfl hn hsz hst (lv_room hrm) hdg hRc
theorem x_cW {C : String} {b k n' : Nat} {st0 As : List Value} {v : Option Value} {σ1 : xS} {y : MethodName} {cy : ByteArray} {ny n idx fr lo : Nat} {ry : Option FieldType} {hh : List (Nat × Nat × Nat × Nat)} (C0 : xCx p l s m args meth c own cc nL ret L A) (hG : xG A L g s σ H locs) (hM : xMetW l y cy ny ry hh fr lo k n' (.ref b :: As) L g σ v σ1) (hw : GoodIn lw_all (wsV own idx C y (wsW_ y cy ny ry hh))) (hd : y.cls = C ∧ y.cls ≠ "java/lang/invoke/MethodHandle" ∧ y.cls ≠ "java/lang/invoke/VarHandle" ∧ (parseMethodDescriptor y.desc).map (fun d => d.parameters.length) = some n)
    (hrc : ∃ cell : Cell, H[b]? = some cell ∧ cell.vm.isStatics = false ∧ s.vm.findClass C = some cell.cls) (hR : fr + 1 ≤ R.frames ∧ 8 + (ny + 11) + lo ≤ R.locals) (hRc : cells + k ≤ R.cells ∧ slots + n' ≤ R.slots) (hst : st0 = As.reverse ++ .ref b :: rest) (hn : As.length = n) (hsz : ls.size = nL) (hrm : (rest.map fun v => v.category).sum ≤ 8) (hdg : decode cc pc = .ok (.invokevirtual idx, 3))
    (kk : ∀ (H1 : Heap) (locs1 : List Loc), xG A L g s σ1 H1 locs1 → W p l e R s m args below meth c H1 locs1 (cells + k) (slots + n') Q (F0 m (pc + 3) ls (v.toList ++ rest))) : W p l e R s m args below meth c H locs cells slots Q (F0 m pc ls st0) := by
  refine x_call (a := (Value.ref b :: As).toArray) C0 hG ?_ kk
  exact vx_runVW (hh := hh) (As := As) (rest := rest) ⟨C0.1, C0.2.1, C0.2.2.1, C0.2.2.2.1, C0.2.2.2.2.1⟩ (hM H.size) (vx_cwVW n C0.2.2.2.2.1 hw rfl rfl rfl hd hR) ⟨xBlind, hrc, xPre C0 hG⟩ rfl hn hsz hst (lv_room hrm) hdg hRc
theorem x_cWi {C : String} {b k n' : Nat} {st0 As : List Value} {r : Int32} {σ1 : xS} {y : MethodName} {cy : ByteArray} {ny n idx fr lo : Nat} {ry : Option FieldType} {hh : List (Nat × Nat × Nat × Nat)} (C0 : xCx p l s m args meth c own cc nL ret L A) (hG : xG A L g s σ H locs) (hM : xMetW l y cy ny ry hh fr lo k n' (.ref b :: As) L g σ (some (.int r)) σ1) (hw : GoodIn lw_all (wsV own idx C y (wsW_ y cy ny ry hh))) (hd : y.cls = C ∧ y.cls ≠ "java/lang/invoke/MethodHandle" ∧ y.cls ≠ "java/lang/invoke/VarHandle" ∧ (parseMethodDescriptor y.desc).map (fun d => d.parameters.length) = some n)
    (hrc : ∃ cell : Cell, H[b]? = some cell ∧ cell.vm.isStatics = false ∧ s.vm.findClass C = some cell.cls) (hR : fr + 1 ≤ R.frames ∧ 8 + (ny + 11) + lo ≤ R.locals) (hRc : cells + k ≤ R.cells ∧ slots + n' ≤ R.slots) (hst : st0 = As.reverse ++ .ref b :: rest) (hn : As.length = n) (hsz : ls.size = nL) (hrm : (rest.map fun v => v.category).sum ≤ 8) (hdg : decode cc pc = .ok (.invokevirtual idx, 3))
    (kk : ∀ (H1 : Heap) (locs1 : List Loc), xG A L g s σ1 H1 locs1 → W p l e R s m args below meth c H1 locs1 (cells + k) (slots + n') Q (F0 m (pc + 3) ls (.int r :: rest))) : W p l e R s m args below meth c H locs cells slots Q (F0 m pc ls st0) := x_cW C0 hG hM hw hd hrc hR hRc hst hn hsz hrm hdg kk
theorem x_cWl {C : String} {b k n' : Nat} {st0 As : List Value} {r : Int64} {σ1 : xS} {y : MethodName} {cy : ByteArray} {ny n idx fr lo : Nat} {ry : Option FieldType} {hh : List (Nat × Nat × Nat × Nat)} (C0 : xCx p l s m args meth c own cc nL ret L A) (hG : xG A L g s σ H locs) (hM : xMetW l y cy ny ry hh fr lo k n' (.ref b :: As) L g σ (some (.long r)) σ1) (hw : GoodIn lw_all (wsV own idx C y (wsW_ y cy ny ry hh))) (hd : y.cls = C ∧ y.cls ≠ "java/lang/invoke/MethodHandle" ∧ y.cls ≠ "java/lang/invoke/VarHandle" ∧ (parseMethodDescriptor y.desc).map (fun d => d.parameters.length) = some n)
    (hrc : ∃ cell : Cell, H[b]? = some cell ∧ cell.vm.isStatics = false ∧ s.vm.findClass C = some cell.cls) (hR : fr + 1 ≤ R.frames ∧ 8 + (ny + 11) + lo ≤ R.locals) (hRc : cells + k ≤ R.cells ∧ slots + n' ≤ R.slots) (hst : st0 = As.reverse ++ .ref b :: rest) (hn : As.length = n) (hsz : ls.size = nL) (hrm : (rest.map fun v => v.category).sum ≤ 8) (hdg : decode cc pc = .ok (.invokevirtual idx, 3))
    (kk : ∀ (H1 : Heap) (locs1 : List Loc), xG A L g s σ1 H1 locs1 → W p l e R s m args below meth c H1 locs1 (cells + k) (slots + n') Q (F0 m (pc + 3) ls (.long r :: rest))) : W p l e R s m args below meth c H locs cells slots Q (F0 m pc ls st0) := x_cW C0 hG hM hw hd hrc hR hRc hst hn hsz hrm hdg kk
theorem x_rc0 (C0 : xCx p l s m args meth c own cc nL ret L A) (hG : xG A L g s σ H locs) : ∃ cell : Cell, H[L.1]? = some cell ∧ cell.vm.isStatics = false ∧ s.vm.findClass RX0 = some cell.cls := o_recv (C0.2.2.2.2.2.1.1 0 rfl) hG.1.1
theorem x_rcs (C0 : xCx p l s m args meth c own cc nL ret L A) (hG : xG A L g s σ H locs) {u : Nat} (hu : u < xn σ) : ∃ cell : Cell, H[g.1 u]? = some cell ∧ cell.vm.isStatics = false ∧ s.vm.findClass RX3 = some cell.cls := o_recv (C0.2.2.2.2.2.1.1 3 rfl) (hG.1.2.2.2.1.2.2 u hu)
theorem x_cS {k n' : Nat} {st0 As : List Value} {v : Option Value} {σ1 : xS} {y : MethodName} {cy : ByteArray} {ny n idx fr lo : Nat} {ry : Option FieldType} (C0 : xCx p l s m args meth c own cc nL ret L A) (hG : xG A L g s σ H locs) (hM : xMet l y cy ny ry fr lo k n' As L g σ v σ1) (hw : GoodIn lw_all (va_wsS own idx y (ws_ y cy ny ry))) (hd : y.cls ≠ "java/lang/invoke/MethodHandle" ∧ y.cls ≠ "java/lang/invoke/VarHandle" ∧ (parseMethodDescriptor y.desc).map (fun d => d.parameters.length) = some n)
    (hR : fr + 1 ≤ R.frames ∧ 8 + (ny + 11) + lo ≤ R.locals) (hRc : cells + k ≤ R.cells ∧ slots + n' ≤ R.slots) (hst : st0 = As.reverse ++ rest) (hn : As.length = n) (hsz : ls.size = nL) (hrm : (rest.map fun v => v.category).sum ≤ 8) (hdg : decode cc pc = .ok (.invokestatic idx, 3))
    (kk : ∀ (H1 : Heap) (locs1 : List Loc), xG A L g s σ1 H1 locs1 → W p l e R s m args below meth c H1 locs1 (cells + k) (slots + n') Q (F0 m (pc + 3) ls (v.toList ++ rest))) : W p l e R s m args below meth c H locs cells slots Q (F0 m pc ls st0) := by
  refine x_call (a := As.toArray) C0 hG ?_ kk
  exact va_runS (As := As) (rest := rest) ⟨C0.1, C0.2.1, C0.2.2.1, C0.2.2.2.1, C0.2.2.2.2.1⟩ (hM H.size) (va_cwS n C0.2.2.2.2.1 hw rfl rfl rfl hd hR) ⟨xBlind, xPre C0 hG⟩ rfl hn hsz hst (lv_room hrm) hdg hRc
theorem x_cVi {C : String} {b k n' : Nat} {st0 As : List Value} {r : Int32} {σ1 : xS} {y : MethodName} {cy : ByteArray} {ny n idx fr lo : Nat} {ry : Option FieldType} (C0 : xCx p l s m args meth c own cc nL ret L A) (hG : xG A L g s σ H locs) (hM : xMet l y cy ny ry fr lo k n' (.ref b :: As) L g σ (some (.int r)) σ1) (hw : GoodIn lw_all (wsV own idx C y (ws_ y cy ny ry))) (hd : y.cls = C ∧ y.cls ≠ "java/lang/invoke/MethodHandle" ∧ y.cls ≠ "java/lang/invoke/VarHandle" ∧ (parseMethodDescriptor y.desc).map (fun d => d.parameters.length) = some n)
    (hrc : ∃ cell : Cell, H[b]? = some cell ∧ cell.vm.isStatics = false ∧ s.vm.findClass C = some cell.cls) (hR : fr + 1 ≤ R.frames ∧ 8 + (ny + 11) + lo ≤ R.locals) (hRc : cells + k ≤ R.cells ∧ slots + n' ≤ R.slots) (hst : st0 = As.reverse ++ .ref b :: rest) (hn : As.length = n) (hsz : ls.size = nL) (hrm : (rest.map fun v => v.category).sum ≤ 8) (hdg : decode cc pc = .ok (.invokevirtual idx, 3))
    (kk : ∀ (H1 : Heap) (locs1 : List Loc), xG A L g s σ1 H1 locs1 → W p l e R s m args below meth c H1 locs1 (cells + k) (slots + n') Q (F0 m (pc + 3) ls (.int r :: rest))) : W p l e R s m args below meth c H locs cells slots Q (F0 m pc ls st0) := x_cV C0 hG hM hw hd hrc hR hRc hst hn hsz hrm hdg kk
theorem x_cVl {C : String} {b k n' : Nat} {st0 As : List Value} {r : Int64} {σ1 : xS} {y : MethodName} {cy : ByteArray} {ny n idx fr lo : Nat} {ry : Option FieldType} (C0 : xCx p l s m args meth c own cc nL ret L A) (hG : xG A L g s σ H locs) (hM : xMet l y cy ny ry fr lo k n' (.ref b :: As) L g σ (some (.long r)) σ1) (hw : GoodIn lw_all (wsV own idx C y (ws_ y cy ny ry))) (hd : y.cls = C ∧ y.cls ≠ "java/lang/invoke/MethodHandle" ∧ y.cls ≠ "java/lang/invoke/VarHandle" ∧ (parseMethodDescriptor y.desc).map (fun d => d.parameters.length) = some n)
    (hrc : ∃ cell : Cell, H[b]? = some cell ∧ cell.vm.isStatics = false ∧ s.vm.findClass C = some cell.cls) (hR : fr + 1 ≤ R.frames ∧ 8 + (ny + 11) + lo ≤ R.locals) (hRc : cells + k ≤ R.cells ∧ slots + n' ≤ R.slots) (hst : st0 = As.reverse ++ .ref b :: rest) (hn : As.length = n) (hsz : ls.size = nL) (hrm : (rest.map fun v => v.category).sum ≤ 8) (hdg : decode cc pc = .ok (.invokevirtual idx, 3))
    (kk : ∀ (H1 : Heap) (locs1 : List Loc), xG A L g s σ1 H1 locs1 → W p l e R s m args below meth c H1 locs1 (cells + k) (slots + n') Q (F0 m (pc + 3) ls (.long r :: rest))) : W p l e R s m args below meth c H locs cells slots Q (F0 m pc ls st0) := x_cV C0 hG hM hw hd hrc hR hRc hst hn hsz hrm hdg kk
theorem x_cVv {C : String} {b k n' : Nat} {st0 As : List Value} {σ1 : xS} {y : MethodName} {cy : ByteArray} {ny n idx fr lo : Nat} {ry : Option FieldType} (C0 : xCx p l s m args meth c own cc nL ret L A) (hG : xG A L g s σ H locs) (hM : xMet l y cy ny ry fr lo k n' (.ref b :: As) L g σ none σ1) (hw : GoodIn lw_all (wsV own idx C y (ws_ y cy ny ry))) (hd : y.cls = C ∧ y.cls ≠ "java/lang/invoke/MethodHandle" ∧ y.cls ≠ "java/lang/invoke/VarHandle" ∧ (parseMethodDescriptor y.desc).map (fun d => d.parameters.length) = some n)
    (hrc : ∃ cell : Cell, H[b]? = some cell ∧ cell.vm.isStatics = false ∧ s.vm.findClass C = some cell.cls) (hR : fr + 1 ≤ R.frames ∧ 8 + (ny + 11) + lo ≤ R.locals) (hRc : cells + k ≤ R.cells ∧ slots + n' ≤ R.slots) (hst : st0 = As.reverse ++ .ref b :: rest) (hn : As.length = n) (hsz : ls.size = nL) (hrm : (rest.map fun v => v.category).sum ≤ 8) (hdg : decode cc pc = .ok (.invokevirtual idx, 3))
    (kk : ∀ (H1 : Heap) (locs1 : List Loc), xG A L g s σ1 H1 locs1 → W p l e R s m args below meth c H1 locs1 (cells + k) (slots + n') Q (F0 m (pc + 3) ls rest)) : W p l e R s m args below meth c H locs cells slots Q (F0 m pc ls st0) := x_cV C0 hG hM hw hd hrc hR hRc hst hn hsz hrm hdg kk
theorem x_cSi {k n' : Nat} {st0 As : List Value} {r : Int32} {σ1 : xS} {y : MethodName} {cy : ByteArray} {ny n idx fr lo : Nat} {ry : Option FieldType} (C0 : xCx p l s m args meth c own cc nL ret L A) (hG : xG A L g s σ H locs) (hM : xMet l y cy ny ry fr lo k n' As L g σ (some (.int r)) σ1) (hw : GoodIn lw_all (va_wsS own idx y (ws_ y cy ny ry))) (hd : y.cls ≠ "java/lang/invoke/MethodHandle" ∧ y.cls ≠ "java/lang/invoke/VarHandle" ∧ (parseMethodDescriptor y.desc).map (fun d => d.parameters.length) = some n)
    (hR : fr + 1 ≤ R.frames ∧ 8 + (ny + 11) + lo ≤ R.locals) (hRc : cells + k ≤ R.cells ∧ slots + n' ≤ R.slots) (hst : st0 = As.reverse ++ rest) (hn : As.length = n) (hsz : ls.size = nL) (hrm : (rest.map fun v => v.category).sum ≤ 8) (hdg : decode cc pc = .ok (.invokestatic idx, 3))
    (kk : ∀ (H1 : Heap) (locs1 : List Loc), xG A L g s σ1 H1 locs1 → W p l e R s m args below meth c H1 locs1 (cells + k) (slots + n') Q (F0 m (pc + 3) ls (.int r :: rest))) : W p l e R s m args below meth c H locs cells slots Q (F0 m pc ls st0) := x_cS C0 hG hM hw hd hR hRc hst hn hsz hrm hdg kk
theorem x_cSl {k n' : Nat} {st0 As : List Value} {r : Int64} {σ1 : xS} {y : MethodName} {cy : ByteArray} {ny n idx fr lo : Nat} {ry : Option FieldType} (C0 : xCx p l s m args meth c own cc nL ret L A) (hG : xG A L g s σ H locs) (hM : xMet l y cy ny ry fr lo k n' As L g σ (some (.long r)) σ1) (hw : GoodIn lw_all (va_wsS own idx y (ws_ y cy ny ry))) (hd : y.cls ≠ "java/lang/invoke/MethodHandle" ∧ y.cls ≠ "java/lang/invoke/VarHandle" ∧ (parseMethodDescriptor y.desc).map (fun d => d.parameters.length) = some n)
    (hR : fr + 1 ≤ R.frames ∧ 8 + (ny + 11) + lo ≤ R.locals) (hRc : cells + k ≤ R.cells ∧ slots + n' ≤ R.slots) (hst : st0 = As.reverse ++ rest) (hn : As.length = n) (hsz : ls.size = nL) (hrm : (rest.map fun v => v.category).sum ≤ 8) (hdg : decode cc pc = .ok (.invokestatic idx, 3))
    (kk : ∀ (H1 : Heap) (locs1 : List Loc), xG A L g s σ1 H1 locs1 → W p l e R s m args below meth c H1 locs1 (cells + k) (slots + n') Q (F0 m (pc + 3) ls (.long r :: rest))) : W p l e R s m args below meth c H locs cells slots Q (F0 m pc ls st0) := x_cS C0 hG hM hw hd hR hRc hst hn hsz hrm hdg kk
theorem x_cSv {k n' : Nat} {st0 As : List Value} {σ1 : xS} {y : MethodName} {cy : ByteArray} {ny n idx fr lo : Nat} {ry : Option FieldType} (C0 : xCx p l s m args meth c own cc nL ret L A) (hG : xG A L g s σ H locs) (hM : xMet l y cy ny ry fr lo k n' As L g σ none σ1) (hw : GoodIn lw_all (va_wsS own idx y (ws_ y cy ny ry))) (hd : y.cls ≠ "java/lang/invoke/MethodHandle" ∧ y.cls ≠ "java/lang/invoke/VarHandle" ∧ (parseMethodDescriptor y.desc).map (fun d => d.parameters.length) = some n)
    (hR : fr + 1 ≤ R.frames ∧ 8 + (ny + 11) + lo ≤ R.locals) (hRc : cells + k ≤ R.cells ∧ slots + n' ≤ R.slots) (hst : st0 = As.reverse ++ rest) (hn : As.length = n) (hsz : ls.size = nL) (hrm : (rest.map fun v => v.category).sum ≤ 8) (hdg : decode cc pc = .ok (.invokestatic idx, 3))
    (kk : ∀ (H1 : Heap) (locs1 : List Loc), xG A L g s σ1 H1 locs1 → W p l e R s m args below meth c H1 locs1 (cells + k) (slots + n') Q (F0 m (pc + 3) ls rest)) : W p l e R s m args below meth c H locs cells slots Q (F0 m pc ls st0) := x_cS C0 hG hM hw hd hR hRc hst hn hsz hrm hdg kk
theorem x_cVi0 {C : String} {b : Nat} {st0 As : List Value} {r : Int32} {σ1 : xS} {y : MethodName} {cy : ByteArray} {ny n idx fr lo : Nat} {ry : Option FieldType} (C0 : xCx p l s m args meth c own cc nL ret L A) (hG : xG A L g s σ H locs) (hM : xMet l y cy ny ry fr lo 0 0 (.ref b :: As) L g σ (some (.int r)) σ1) (hw : GoodIn lw_all (wsV own idx C y (ws_ y cy ny ry))) (hd : y.cls = C ∧ y.cls ≠ "java/lang/invoke/MethodHandle" ∧ y.cls ≠ "java/lang/invoke/VarHandle" ∧ (parseMethodDescriptor y.desc).map (fun d => d.parameters.length) = some n)
    (hrc : ∃ cell : Cell, H[b]? = some cell ∧ cell.vm.isStatics = false ∧ s.vm.findClass C = some cell.cls) (hR : fr + 1 ≤ R.frames ∧ 8 + (ny + 11) + lo ≤ R.locals) (hRc : cells ≤ R.cells ∧ slots ≤ R.slots) (hst : st0 = As.reverse ++ .ref b :: rest) (hn : As.length = n) (hsz : ls.size = nL) (hrm : (rest.map fun v => v.category).sum ≤ 8) (hdg : decode cc pc = .ok (.invokevirtual idx, 3))
    (kk : ∀ (H1 : Heap) (locs1 : List Loc), xG A L g s σ1 H1 locs1 → W p l e R s m args below meth c H1 locs1 cells slots Q (F0 m (pc + 3) ls (.int r :: rest))) : W p l e R s m args below meth c H locs cells slots Q (F0 m pc ls st0) := x_cV C0 hG hM hw hd hrc hR hRc hst hn hsz hrm hdg kk
theorem x_cVl0 {C : String} {b : Nat} {st0 As : List Value} {r : Int64} {σ1 : xS} {y : MethodName} {cy : ByteArray} {ny n idx fr lo : Nat} {ry : Option FieldType} (C0 : xCx p l s m args meth c own cc nL ret L A) (hG : xG A L g s σ H locs) (hM : xMet l y cy ny ry fr lo 0 0 (.ref b :: As) L g σ (some (.long r)) σ1) (hw : GoodIn lw_all (wsV own idx C y (ws_ y cy ny ry))) (hd : y.cls = C ∧ y.cls ≠ "java/lang/invoke/MethodHandle" ∧ y.cls ≠ "java/lang/invoke/VarHandle" ∧ (parseMethodDescriptor y.desc).map (fun d => d.parameters.length) = some n)
    (hrc : ∃ cell : Cell, H[b]? = some cell ∧ cell.vm.isStatics = false ∧ s.vm.findClass C = some cell.cls) (hR : fr + 1 ≤ R.frames ∧ 8 + (ny + 11) + lo ≤ R.locals) (hRc : cells ≤ R.cells ∧ slots ≤ R.slots) (hst : st0 = As.reverse ++ .ref b :: rest) (hn : As.length = n) (hsz : ls.size = nL) (hrm : (rest.map fun v => v.category).sum ≤ 8) (hdg : decode cc pc = .ok (.invokevirtual idx, 3))
    (kk : ∀ (H1 : Heap) (locs1 : List Loc), xG A L g s σ1 H1 locs1 → W p l e R s m args below meth c H1 locs1 cells slots Q (F0 m (pc + 3) ls (.long r :: rest))) : W p l e R s m args below meth c H locs cells slots Q (F0 m pc ls st0) := x_cV C0 hG hM hw hd hrc hR hRc hst hn hsz hrm hdg kk
theorem x_cVv0 {C : String} {b : Nat} {st0 As : List Value} {σ1 : xS} {y : MethodName} {cy : ByteArray} {ny n idx fr lo : Nat} {ry : Option FieldType} (C0 : xCx p l s m args meth c own cc nL ret L A) (hG : xG A L g s σ H locs) (hM : xMet l y cy ny ry fr lo 0 0 (.ref b :: As) L g σ none σ1) (hw : GoodIn lw_all (wsV own idx C y (ws_ y cy ny ry))) (hd : y.cls = C ∧ y.cls ≠ "java/lang/invoke/MethodHandle" ∧ y.cls ≠ "java/lang/invoke/VarHandle" ∧ (parseMethodDescriptor y.desc).map (fun d => d.parameters.length) = some n)
    (hrc : ∃ cell : Cell, H[b]? = some cell ∧ cell.vm.isStatics = false ∧ s.vm.findClass C = some cell.cls) (hR : fr + 1 ≤ R.frames ∧ 8 + (ny + 11) + lo ≤ R.locals) (hRc : cells ≤ R.cells ∧ slots ≤ R.slots) (hst : st0 = As.reverse ++ .ref b :: rest) (hn : As.length = n) (hsz : ls.size = nL) (hrm : (rest.map fun v => v.category).sum ≤ 8) (hdg : decode cc pc = .ok (.invokevirtual idx, 3))
    (kk : ∀ (H1 : Heap) (locs1 : List Loc), xG A L g s σ1 H1 locs1 → W p l e R s m args below meth c H1 locs1 cells slots Q (F0 m (pc + 3) ls rest)) : W p l e R s m args below meth c H locs cells slots Q (F0 m pc ls st0) := x_cV C0 hG hM hw hd hrc hR hRc hst hn hsz hrm hdg kk
theorem x_cSi0 {st0 As : List Value} {r : Int32} {σ1 : xS} {y : MethodName} {cy : ByteArray} {ny n idx fr lo : Nat} {ry : Option FieldType} (C0 : xCx p l s m args meth c own cc nL ret L A) (hG : xG A L g s σ H locs) (hM : xMet l y cy ny ry fr lo 0 0 As L g σ (some (.int r)) σ1) (hw : GoodIn lw_all (va_wsS own idx y (ws_ y cy ny ry))) (hd : y.cls ≠ "java/lang/invoke/MethodHandle" ∧ y.cls ≠ "java/lang/invoke/VarHandle" ∧ (parseMethodDescriptor y.desc).map (fun d => d.parameters.length) = some n)
    (hR : fr + 1 ≤ R.frames ∧ 8 + (ny + 11) + lo ≤ R.locals) (hRc : cells ≤ R.cells ∧ slots ≤ R.slots) (hst : st0 = As.reverse ++ rest) (hn : As.length = n) (hsz : ls.size = nL) (hrm : (rest.map fun v => v.category).sum ≤ 8) (hdg : decode cc pc = .ok (.invokestatic idx, 3))
    (kk : ∀ (H1 : Heap) (locs1 : List Loc), xG A L g s σ1 H1 locs1 → W p l e R s m args below meth c H1 locs1 cells slots Q (F0 m (pc + 3) ls (.int r :: rest))) : W p l e R s m args below meth c H locs cells slots Q (F0 m pc ls st0) := x_cS C0 hG hM hw hd hR hRc hst hn hsz hrm hdg kk
theorem x_cSl0 {st0 As : List Value} {r : Int64} {σ1 : xS} {y : MethodName} {cy : ByteArray} {ny n idx fr lo : Nat} {ry : Option FieldType} (C0 : xCx p l s m args meth c own cc nL ret L A) (hG : xG A L g s σ H locs) (hM : xMet l y cy ny ry fr lo 0 0 As L g σ (some (.long r)) σ1) (hw : GoodIn lw_all (va_wsS own idx y (ws_ y cy ny ry))) (hd : y.cls ≠ "java/lang/invoke/MethodHandle" ∧ y.cls ≠ "java/lang/invoke/VarHandle" ∧ (parseMethodDescriptor y.desc).map (fun d => d.parameters.length) = some n)
    (hR : fr + 1 ≤ R.frames ∧ 8 + (ny + 11) + lo ≤ R.locals) (hRc : cells ≤ R.cells ∧ slots ≤ R.slots) (hst : st0 = As.reverse ++ rest) (hn : As.length = n) (hsz : ls.size = nL) (hrm : (rest.map fun v => v.category).sum ≤ 8) (hdg : decode cc pc = .ok (.invokestatic idx, 3))
    (kk : ∀ (H1 : Heap) (locs1 : List Loc), xG A L g s σ1 H1 locs1 → W p l e R s m args below meth c H1 locs1 cells slots Q (F0 m (pc + 3) ls (.long r :: rest))) : W p l e R s m args below meth c H locs cells slots Q (F0 m pc ls st0) := x_cS C0 hG hM hw hd hR hRc hst hn hsz hrm hdg kk
theorem x_cSv0 {st0 As : List Value} {σ1 : xS} {y : MethodName} {cy : ByteArray} {ny n idx fr lo : Nat} {ry : Option FieldType} (C0 : xCx p l s m args meth c own cc nL ret L A) (hG : xG A L g s σ H locs) (hM : xMet l y cy ny ry fr lo 0 0 As L g σ none σ1) (hw : GoodIn lw_all (va_wsS own idx y (ws_ y cy ny ry))) (hd : y.cls ≠ "java/lang/invoke/MethodHandle" ∧ y.cls ≠ "java/lang/invoke/VarHandle" ∧ (parseMethodDescriptor y.desc).map (fun d => d.parameters.length) = some n)
    (hR : fr + 1 ≤ R.frames ∧ 8 + (ny + 11) + lo ≤ R.locals) (hRc : cells ≤ R.cells ∧ slots ≤ R.slots) (hst : st0 = As.reverse ++ rest) (hn : As.length = n) (hsz : ls.size = nL) (hrm : (rest.map fun v => v.category).sum ≤ 8) (hdg : decode cc pc = .ok (.invokestatic idx, 3))
    (kk : ∀ (H1 : Heap) (locs1 : List Loc), xG A L g s σ1 H1 locs1 → W p l e R s m args below meth c H1 locs1 cells slots Q (F0 m (pc + 3) ls rest)) : W p l e R s m args below meth c H locs cells slots Q (F0 m pc ls st0) := x_cS C0 hG hM hw hd hR hRc hst hn hsz hrm hdg kk
/-- a static method that touches no cell -/
theorem x_cP {st0 As : List Value} {r : Int32} {y : MethodName} {cy : ByteArray} {ny n idx fr lo : Nat} {ry : Option FieldType} (C0 : xCx p l s m args meth c own cc nL ret L A) (hM : qMet l y cy ny ry fr lo As (some (.int r))) (hw : GoodIn lw_all (va_wsS own idx y (ws_ y cy ny ry))) (hd : y.cls ≠ "java/lang/invoke/MethodHandle" ∧ y.cls ≠ "java/lang/invoke/VarHandle" ∧ (parseMethodDescriptor y.desc).map (fun d => d.parameters.length) = some n)
    (hR : fr + 1 ≤ R.frames ∧ 8 + (ny + 11) + lo ≤ R.locals) (hRc : cells ≤ R.cells ∧ slots ≤ R.slots) (hst : st0 = As.reverse ++ rest) (hn : As.length = n) (hsz : ls.size = nL) (hrm : (rest.map fun v => v.category).sum ≤ 8) (hdg : decode cc pc = .ok (.invokestatic idx, 3)) {β : Type} {f : Int32 → β} {z : β} (hF : nmv r f = z)
    (kk : ∀ x : Int32, f x = z → W p l e R s m args below meth c H locs cells slots Q (F0 m (pc + 3) ls (.int x :: rest))) : W p l e R s m args below meth c H locs cells slots Q (F0 m pc ls st0) := by
  have hr := va_runS (p := p) (l := l) (e := e) (R := R) (s := s) (m := m) (args := args) (below := below) (meth := meth) (c := c) (H := H) (locs := locs) (cells := cells) (slots := slots) (g := F0 m pc ls st0) (As := As) (rest := rest) ⟨C0.1, C0.2.1, C0.2.2.1, C0.2.2.2.1, C0.2.2.2.2.1⟩ hM (va_cwS n C0.2.2.2.2.1 hw rfl rfl rfl hd hR) ⟨fun a U g mk q => ⟨q.1, trivial⟩, fun U hU hW => ⟨rfl, trivial⟩⟩ rfl hn hsz hst (lv_room hrm) hdg ⟨hRc.1, hRc.2⟩
  intro T hT X
  obtain ⟨v', st₀, t, T', Lc, h0, X', hL, e1, e2, ⟨hv, hz⟩, st⟩ := hr T hT X
  cases hv
  have hLc : Lc = [] := List.eq_nil_iff_forall_not_mem.mpr (fun q hq => hL q hq)
  subst hLc
  rw [List.append_nil] at X'
  obtain ⟨t2, a1, b1⟩ := kk r hF T' (by rw [e1, hz, h0]) X'
  exact ⟨t2, st t2 a1, b1⟩
/-- a method's head -/
theorem x_head {y : MethodName} {own : String} {av : List Value} {v : Option Value} {σ1 : xS} {fr lo : Nat} (hl : l.stackTraces = false) (hy : plainName y.cls = true) (hcls : y.cls = own)
    (body : ∀ (p : Program) (e : Env) (s : State) (m : MethodId) (below : List Frame) (meth : Method) (c : Code) (A : Nat → Prop), xCx p l s m av.toArray meth c own cc nL ret L A → xG A L g s σ s.heap [] → W p l e ({ frames := fr, cells := mc, slots := ms, locals := lo }) s m av.toArray below meth c s.heap [] 0 0 (xZ below L g A s av.toArray σ1 v mc ms) (entryFrame m av.toArray nL)) : xMet l y cc nL ret fr lo mc ms av L g σ v σ1 := by
  intro sz
  refine Met.ofW (cc := cc) (maxL := nL) (ret := ret) hy rfl ?_
  intro p e s m args below meth c s₁ B hml hv
  obtain ⟨rfl, hsz, hW, hK, hst⟩ := hv
  subst hsz
  have hts := atoms_spec (ws := ws_ y cc nL ret) B.pre
  have hown : s.vm.findClass own = some m.cls := by rw [← hcls]; exact findClass_of_methodNamed B.named
  exact body p e s m below meth c (xA g s.heap.size) ⟨B.exec, B.bytes, hml, hown, fun w h => hts w (List.mem_cons_of_mem _ h), hK, fun q h => Or.inr h, B.returns, B.notSynchronized, hst, hl⟩ ⟨hW, va_S.rf, fun q h => Or.inl h⟩
theorem x_max (C0 : xCx p l s m args meth c own cc nL ret L A) (hsz : ls.size = nL) {idx : Nat} (hq : Cond.methodLink own idx Lib.Math.max.name ∈ lw_all) (h2 : Cond.static Lib.Math.max.name ∈ lw_all) (h3 : Cond.initialized "java/lang/Math" ∈ lw_all) (h4 : Cond.code Lib.Math.max.name Lib.Math.max.code 2 (some .int) ∈ lw_all) (hR : 1 ≤ R.frames ∧ 21 ≤ R.locals) (hRc : cells ≤ R.cells ∧ slots ≤ R.slots) (hrm : (rest.map fun v => v.category).sum ≤ 8) {x y : Int32} (hdg : decode cc pc = .ok (.invokestatic idx, 3)) {β : Type} {f : Int32 → β} {z : β} (hF : nmv (if x < y then y else x) f = z)
    (kk : ∀ r : Int32, f r = z → W p l e R s m args below meth c H locs cells slots Q (F0 m (pc + 3) ls (.int r :: rest))) : W p l e R s m args below meth c H locs cells slots Q (F0 m pc ls (.int y :: .int x :: rest)) :=
  va_mmax C0.1 C0.2.1 (C0.2.2.1.trans hsz.symm) C0.2.2.2.1 (C0.2.2.2.2.1 _ hq) (C0.2.2.2.2.1 _ h2) (C0.2.2.2.2.1 _ h3) (C0.2.2.2.2.1 _ h4) hR.1 (by omega) hRc.1 hRc.2 hdg (kk _ hF)
theorem x_min (C0 : xCx p l s m args meth c own cc nL ret L A) (hsz : ls.size = nL) {idx : Nat} (hq : Cond.methodLink own idx Lib.Math.min.name ∈ lw_all) (h2 : Cond.static Lib.Math.min.name ∈ lw_all) (h3 : Cond.initialized "java/lang/Math" ∈ lw_all) (h4 : Cond.code Lib.Math.min.name Lib.Math.min.code 2 (some .int) ∈ lw_all) (hR : 1 ≤ R.frames ∧ 21 ≤ R.locals) (hRc : cells ≤ R.cells ∧ slots ≤ R.slots) (hrm : (rest.map fun v => v.category).sum ≤ 8) {x y : Int32} (hdg : decode cc pc = .ok (.invokestatic idx, 3)) {β : Type} {f : Int32 → β} {z : β} (hF : nmv (if y < x then y else x) f = z)
    (kk : ∀ r : Int32, f r = z → W p l e R s m args below meth c H locs cells slots Q (F0 m (pc + 3) ls (.int r :: rest))) : W p l e R s m args below meth c H locs cells slots Q (F0 m pc ls (.int y :: .int x :: rest)) :=
  va_mmin C0.1 C0.2.1 (C0.2.2.1.trans hsz.symm) C0.2.2.2.1 (C0.2.2.2.2.1 _ hq) (C0.2.2.2.2.1 _ h2) (C0.2.2.2.2.1 _ h3) (C0.2.2.2.2.1 _ h4) hR.1 (by omega) hRc.1 hRc.2 hdg (kk _ hF)
theorem x_abs (C0 : xCx p l s m args meth c own cc nL ret L A) (hsz : ls.size = nL) {idx : Nat} (hq : Cond.methodLink own idx Lib.Math.abs.name ∈ lw_all) (h2 : Cond.static Lib.Math.abs.name ∈ lw_all) (h3 : Cond.initialized "java/lang/Math" ∈ lw_all) (h4 : Cond.code Lib.Math.abs.name Lib.Math.abs.code 1 (some .int) ∈ lw_all) (hR : 1 ≤ R.frames ∧ 21 ≤ R.locals) (hRc : cells ≤ R.cells ∧ slots ≤ R.slots) (hrm : (rest.map fun v => v.category).sum ≤ 8) {x : Int32} (hdg : decode cc pc = .ok (.invokestatic idx, 3)) {β : Type} {f : Int32 → β} {z : β} (hF : nmv (if 0 ≤ x then x else 0 - x) f = z)
    (kk : ∀ r : Int32, f r = z → W p l e R s m args below meth c H locs cells slots Q (F0 m (pc + 3) ls (.int r :: rest))) : W p l e R s m args below meth c H locs cells slots Q (F0 m pc ls (.int x :: rest)) :=
  va_mabs C0.1 C0.2.1 (C0.2.2.1.trans hsz.symm) C0.2.2.2.1 (C0.2.2.2.2.1 _ hq) (C0.2.2.2.2.1 _ h2) (C0.2.2.2.2.1 _ h3) (C0.2.2.2.2.1 _ h4) hR.1 (by omega) hRc.1 hRc.2 hdg (kk _ hF)
end XROWS
