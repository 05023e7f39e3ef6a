/-! Rows on shelves: sort + 1 is t -/
def xrC (t : Nat) : String := match t with
  | 1 => RX23
  | 2 => RX24
  | 3 => RX25
  | 4 => RX26
  | _ => RX27
def xrT (t : Nat) : u_T := match t with
  | 1 => TX23
  | 2 => TX24
  | 3 => TX25
  | 4 => TX26
  | _ => TX27
theorem xr_Kn {s : State} {L : xL} {t : Nat} (h0 : t ≠ 0) (h : t < 6) (hK : xK L s) : u_Kn s (xrC t) (xrT t) 1 (L.2.2.1 (22 + t)) (L.2.2.2.1 (22 + t)) := by
  match t, h0, h with
  | 1, _, _ => exact hK.1 23 rfl
  | 2, _, _ => exact hK.1 24 rfl
  | 3, _, _ => exact hK.1 25 rfl
  | 4, _, _ => exact hK.1 26 rfl
  | 5, _, _ => exact hK.1 27 rfl
theorem xr_in {t : Nat} (h0 : t ≠ 0) (h : t < 6) : ∀ w ∈ u_ws (xrC t) (xrT t) 1, w ∈ lw_all := by
  match t, h0, h with
  | 1, _, _ => exact in_X23
  | 2, _, _ => exact in_X24
  | 3, _, _ => exact in_X25
  | 4, _, _ => exact in_X26
  | 5, _, _ => exact in_X27
def chR {α : Type} (t j : Nat) (σ : xS) (o : Option α) : Option α := if j < 6 ∧ (xH σ j).1 = t then o else none
theorem chR_of {α : Type} {t j : Nat} {σ : xS} {o : Option α} {r : α} (h : chR t j σ o = some r) : (j < 6 ∧ (xH σ j).1 = t) ∧ o = some r := by
  unfold chR at h
  split at h
  · exact ⟨by assumption, h⟩
  · cases h
theorem xW.setR {L : xL} {g : xg} {σ : xS} {H H1 : Heap} (h : xW L g σ H) {t j i : Nat} (h0 : t ≠ 0) (h6 : t < 6) (hj : j < 6 ∧ (xH σ j).1 = t) {v : Int64} (hv : t ≠ 4 → v.toInt32.toInt64 = v)
    (ea : H1[(g.2.2.2.1 j).2]? = some (xRowA L t (xH σ j).2.1 (vp_updL (xH σ j).2.2 i v))) (oz : H1.size = H.size) (oq : ∀ a, a ≠ (g.2.2.2.1 j).2 → H1[a]? = H[a]?) : xW L g (xSh σ j (t, (xH σ j).2.1, vp_updL (xH σ j).2.2 i v)) H1 := by
  obtain ⟨h1, h2, h3, ⟨h4, h5, h6'⟩, ⟨⟨a1, a2, a3⟩, ⟨b1, b2, b3⟩, ⟨c1, c2⟩, d1, d2⟩, h8, h9⟩ := h
  have h8' := h8
  obtain ⟨l1, l2, l3, l4, l5⟩ := h8
  have hs := (c2 j hj.1).1 (by rw [hj.2]; exact h0) (by rw [hj.2]; exact h6)
  rw [hj.2] at hs
  obtain ⟨s1, s2, s3, s4, s5, s6⟩ := hs
  have l0 : xT g (g.2.2.2.1 j).2 = 310 + j := s5
  refine ⟨h1.kept (x_oq g oq ?_), fun i hi ja => ?_, h3.kept (x_oq g oq ?_), ⟨(x_oq g oq ?_).trans h4, h5, fun i hi => (h6' i hi).kept (x_oq g oq ?_)⟩, ⟨⟨(x_oq g oq ?_).trans a1, a2, fun i hi => (a3 i hi).kept (x_oq g oq ?_)⟩, ⟨(x_oq g oq ?_).trans b1, b2, fun i hi => ⟨(b3 i hi).1, (b3 i hi).2.kept (x_oq g oq ?_)⟩⟩, ⟨?_, fun k hk => ?_⟩, xLine.kept (fun a ha => x_oq g oq ?_) _ _ d1, d2⟩, h8', fun a ha => ?_⟩
  · rw [l1, l0]; omega
  · rw [x_oq g oq (by rw [l0, l2 i hi (xPa_44 i hi ja).2.1 (xPa_44 i hi ja).1]; omega), h2 i hi ja]
  · rw [l0, l2 11 (by decide) (by decide) (Or.inl rfl)]; omega
  · rw [l0, l2 0 (by decide) (by decide) (Or.inl rfl)]; omega
  · have hi' : i < xn σ := hi
    rw [l0, l3 i hi]; omega
  · rw [l0, l2 5 (by decide) (by decide) (Or.inl rfl)]; omega
  · rw [l0, l4 i hi]; omega
  · rw [l0, l2 41 (by decide) (by decide) (Or.inl rfl)]; omega
  · rw [l0, l5 i hi]; omega
  · rw [x_oq g oq (by rw [l0, l2 43 (by decide) (by decide) (Or.inl rfl)]; omega), c1]
    congr 4
    funext k
    show (if k < 6 then xShR g k (xH σ k) else none) = (if k < 6 then xShR g k (va_up (xH σ) j (t, (xH σ j).2.1, vp_updL (xH σ j).2.2 i v) k) else none)
    by_cases hkj : k = j
    · subst hkj
      rw [va_up_s]
      unfold xShR
      rw [hj.2]
    · rw [va_up_n hkj]
  · show xShelf L g (xk σ) H1 k (va_up (xH σ) j (t, (xH σ j).2.1, vp_updL (xH σ j).2.2 i v) k)
    by_cases hkj : k = j
    · subst hkj
      rw [va_up_s]
      refine ⟨fun _ _ => ⟨s1, s2.kept (x_oq g oq (by rw [l0, s4]; omega)), ea, s4, s5, fun h4 q => ?_⟩, fun x => absurd x (by show ¬ 6 ≤ t; omega)⟩
      show (vp_updL (xH σ k).2.2 i v q).toInt32.toInt64 = vp_updL (xH σ k).2.2 i v q
      unfold vp_updL
      split
      · exact hv h4
      · exact s6 h4 q
    · rw [va_up_n hkj]
      obtain ⟨k1, k2⟩ := c2 k hk
      refine ⟨fun x y => ?_, k2⟩
      obtain ⟨u1, u2, u3, u4, u5, u6⟩ := k1 x y
      exact ⟨u1, u2.kept (x_oq g oq (by rw [l0, u4]; omega)), (x_oq g oq (by rw [l0, u5]; omega)).trans u3, u4, u5, u6⟩
  · rw [l0, ha]; omega
  · rw [oz]; exact h9 a ha
section XRROWS
variable {p : Program} {l : Launch} {e : Env} {R : Room} {s : State} {m : MethodId} {args : Array Value} {below : List Frame} {meth : Method} {c : Code} {H : Heap} {locs : List Loc} {cells slots mc ms : Nat} {Q : State → Prop}
variable {own : String} {cc : ByteArray} {nL : Nat} {ret : Option FieldType} {pc : Nat} {ls : Array Slot} {rest : List Value} {A : Nat → Prop} {L : xL} {g : xg} {σ : xS}
theorem xG.rw (hG : xG A L g s σ H locs) {t j : Nat} (h0 : t ≠ 0) (h6 : t < 6) (hj : j < 6 ∧ (xH σ j).1 = t) : (xH σ j).2.1 ≤ 60 ∧ t_OB (g.2.2.2.1 j).1 (L.2.2.1 (22 + t)) 1 (L.2.2.2.1 (22 + t)) H (fun _ => .ref (g.2.2.2.1 j).2) ∧ H[(g.2.2.2.1 j).2]? = some (xRowA L t (xH σ j).2.1 (xH σ j).2.2) ∧ xT g (g.2.2.2.1 j).1 = 300 + j ∧ xT g (g.2.2.2.1 j).2 = 310 + j ∧ (t ≠ 4 → ∀ i, ((xH σ j).2.2 i).toInt32.toInt64 = (xH σ j).2.2 i) := by
  have h := (hG.1.2.2.2.2.1.2.2.1.2 j hj.1).1 (by rw [hj.2]; exact h0) (by rw [hj.2]; exact h6)
  rw [hj.2] at h
  exact h
/-- its array -/
theorem x_rwit (C0 : xCx p l s m args meth c own cc nL ret L A) (hG : xG A L g s σ H locs) {t j idx : Nat} {d : String} (h0 : t ≠ 0) (h6 : t < 6) (hT : (xrT t 0).1 = own ∧ (xrT t 0).2.1 = "items" ∧ (xrT t 0).2.2.1 = d) (hq : Cond.fieldLink own idx own "items" d ∈ lw_all) (hdg : decode cc pc = .ok (.getfield idx, 3)) (hj : j < 6 ∧ (xH σ j).1 = t)
    (kk : W p l e R s m args below meth c H locs cells slots Q (F0 m (pc + 3) ls (.ref (g.2.2.2.1 j).2 :: rest))) : W p l e R s m args below meth c H locs cells slots Q (F0 m pc ls (.ref (g.2.2.2.1 j).1 :: rest)) := by
  obtain ⟨hx, hb, hml, hown, hts, hK, hA, -⟩ := C0
  obtain ⟨hn, hO, hr⟩ := hG.rw h0 h6 hj
  refine o_get hx hb hts (xr_in h0 h6) hown (xr_Kn h0 h6 hK) hO 0 (by decide) (ref := own) (by rw [hT.2.1, hT.2.2]; exact hts _ hq) hT.1 hdg ?_
  exact kk
theorem x_rcr (C0 : xCx p l s m args meth c own cc nL ret L A) (hG : xG A L g s σ H locs) {t j : Nat} (h0 : t ≠ 0) (h6 : t < 6) (hj : j < 6 ∧ (xH σ j).1 = t) : ∃ cell : Cell, H[(g.2.2.2.1 j).1]? = some cell ∧ cell.vm.isStatics = false ∧ s.vm.findClass (xrC t) = some cell.cls := o_recv (xr_Kn h0 h6 C0.2.2.2.2.2.1) (hG.rw h0 h6 hj).2.1
/-- one array, as the kit's rows want a world -/
abbrev x1K (cA : ClassId) (ty : FieldType) (U : State) : Prop := va_K ((fun _ => 0), (fun _ _ => 0)) [] [(cA, ty)] U
theorem x1_K {cA : ClassId} {ty : FieldType} (h : ArrOfT s cA ty ∧ va_RA s cA ty) : x1K cA ty s := by
  refine ⟨fun c q hq => (by cases hq), ?_⟩
  intro k q hq
  match k, hq with
  | 0, hq => cases hq; exact h
  | k + 1, hq => cases hq
theorem x1_P {cA : ClassId} {a : Nat} {x : vp_A} (h : H[a]? = some (vp_cell cA x)) : va_P ((fun _ => 0), (fun _ _ => 0)) [] [(a, .inl (cA, x))] H := by
  intro k q hq
  match k, hq with
  | 0, hq => cases hq; exact h
  | k + 1, hq => cases hq
theorem x_rwlen (C0 : xCx p l s m args meth c own cc nL ret L A) (hG : xG A L g s σ H locs) {t j : Nat} (h0 : t ≠ 0) (h6 : t < 6) (hdg : decode cc pc = .ok (.arraylength, 1)) (hj : j < 6 ∧ (xH σ j).1 = t)
    (kk : W p l e R s m args below meth c H locs cells slots Q (F0 m (pc + 1) ls (.int (nI (xH σ j).2.1) :: rest))) : W p l e R s m args below meth c H locs cells slots Q (F0 m pc ls (.ref (g.2.2.2.1 j).2 :: rest)) := by
  obtain ⟨hx, hb, hml, hown, hts, hK, hA, -⟩ := C0
  obtain ⟨hn, hO, hr, -⟩ := hG.rw h0 h6 hj
  have hr : H[(g.2.2.2.1 j).2]? = some (xRowA L t (xH σ j).2.1 (xH σ j).2.2) := hr
  match t, h0, h6 with
  | 1, _, _ => exact W.alen (n := nI (xH σ j).2.1) hx hb hr ((hK.2 1 (by decide)).1 _ _) (by show Int32.ofNat (arrV _ _ _).slots.size = _; rw [arrV_size]; rfl) rfl rfl hdg kk
  | 2, _, _ => exact W.alen (n := nI (xH σ j).2.1) hx hb hr ((hK.2 2 (by decide)).1 _ _) (by show Int32.ofNat (arrV _ _ _).slots.size = _; rw [arrV_size]; rfl) rfl rfl hdg kk
  | 3, _, _ => exact W.alen (n := nI (xH σ j).2.1) hx hb hr ((hK.2 0 (by decide)).1 _ _) (by show Int32.ofNat (arrV _ _ _).slots.size = _; rw [arrV_size]; rfl) rfl rfl hdg kk
  | 4, _, _ => exact W.alen (n := nI (xH σ j).2.1) hx hb hr ((hK.2 3 (by decide)).1 _ _) (by show Int32.ofNat (arrV _ _ _).slots.size = _; rw [arrV_size]; rfl) rfl rfl hdg kk
  | 5, _, _ => exact W.alen (n := nI (xH σ j).2.1) hx hb hr ((hK.2 4 (by decide)).1 _ _) (by show Int32.ofNat (arrV _ _ _).slots.size = _; rw [arrV_size]; rfl) rfl rfl hdg kk
theorem x_rwld1 (C0 : xCx p l s m args meth c own cc nL ret L A) (hG : xG A L g s σ H locs) {j : Nat} {i : Int32} (hj : j < 6 ∧ (xH σ j).1 = 1) (hdg : decode cc pc = .ok (.baload, 1)) {β : Type} {f : Int32 → Option β} {z : β} (hF : chk i (xH σ j).2.1 (nmv ((xH σ j).2.2 i.toNatClampNeg).toInt32 f) = some z)
    (kk : ∀ x : Int32, f x = some z → W p l e R s m args below meth c H locs cells slots Q (F0 m (pc + 1) ls (.int x :: rest))) : W p l e R s m args below meth c H locs cells slots Q (F0 m pc ls (.int i :: .ref (g.2.2.2.1 j).2 :: rest)) := by
  obtain ⟨hx, hb, hml, hown, hts, hK, hA, -⟩ := C0
  obtain ⟨hin, hF⟩ := chk_of hF
  obtain ⟨hn, hO, hr, -⟩ := hG.rw (t := 1) (by decide) (by decide) hj
  exact va_bald (f := fun k => ((xH σ j).2.2 k).toInt32) hx hb (x1_K (hK.2 1 (by decide))) (x1_P hr) 0 0 rfl rfl hin hdg (kk _ hF)
theorem x_rwld2 (C0 : xCx p l s m args meth c own cc nL ret L A) (hG : xG A L g s σ H locs) {j : Nat} {i : Int32} (hj : j < 6 ∧ (xH σ j).1 = 2) (hdg : decode cc pc = .ok (.saload, 1)) {β : Type} {f : Int32 → Option β} {z : β} (hF : chk i (xH σ j).2.1 (nmv ((xH σ j).2.2 i.toNatClampNeg).toInt32 f) = some z)
    (kk : ∀ x : Int32, f x = some z → W p l e R s m args below meth c H locs cells slots Q (F0 m (pc + 1) ls (.int x :: rest))) : W p l e R s m args below meth c H locs cells slots Q (F0 m pc ls (.int i :: .ref (g.2.2.2.1 j).2 :: rest)) := by
  obtain ⟨hx, hb, hml, hown, hts, hK, hA, -⟩ := C0
  obtain ⟨hin, hF⟩ := chk_of hF
  obtain ⟨hn, hO, hr, -⟩ := hG.rw (t := 2) (by decide) (by decide) hj
  exact va_sald (f := fun k => ((xH σ j).2.2 k).toInt32) hx hb (x1_K (hK.2 2 (by decide))) (x1_P hr) 0 0 rfl rfl hin hdg (kk _ hF)
theorem x_rwld3 (C0 : xCx p l s m args meth c own cc nL ret L A) (hG : xG A L g s σ H locs) {j : Nat} {i : Int32} (hj : j < 6 ∧ (xH σ j).1 = 3) (hdg : decode cc pc = .ok (.iaload, 1)) {β : Type} {f : Int32 → Option β} {z : β} (hF : chk i (xH σ j).2.1 (nmv ((xH σ j).2.2 i.toNatClampNeg).toInt32 f) = some z)
    (kk : ∀ x : Int32, f x = some z → W p l e R s m args below meth c H locs cells slots Q (F0 m (pc + 1) ls (.int x :: rest))) : W p l e R s m args below meth c H locs cells slots Q (F0 m pc ls (.int i :: .ref (g.2.2.2.1 j).2 :: rest)) := by
  obtain ⟨hx, hb, hml, hown, hts, hK, hA, -⟩ := C0
  obtain ⟨hin, hF⟩ := chk_of hF
  obtain ⟨hn, hO, hr, -⟩ := hG.rw (t := 3) (by decide) (by decide) hj
  exact va_iald (f := fun k => ((xH σ j).2.2 k).toInt32) hx hb (x1_K (hK.2 0 (by decide))) (x1_P hr) 0 0 rfl rfl hin hdg (kk _ hF)
theorem x_rwld5 (C0 : xCx p l s m args meth c own cc nL ret L A) (hG : xG A L g s σ H locs) {j : Nat} {i : Int32} (hj : j < 6 ∧ (xH σ j).1 = 5) (hdg : decode cc pc = .ok (.baload, 1)) {β : Type} {f : Int32 → Option β} {z : β} (hF : chk i (xH σ j).2.1 (nmv ((xH σ j).2.2 i.toNatClampNeg).toInt32 f) = some z)
    (kk : ∀ x : Int32, f x = some z → W p l e R s m args below meth c H locs cells slots Q (F0 m (pc + 1) ls (.int x :: rest))) : W p l e R s m args below meth c H locs cells slots Q (F0 m pc ls (.int i :: .ref (g.2.2.2.1 j).2 :: rest)) := by
  obtain ⟨hx, hb, hml, hown, hts, hK, hA, -⟩ := C0
  obtain ⟨hin, hF⟩ := chk_of hF
  obtain ⟨hn, hO, hr, -⟩ := hG.rw (t := 5) (by decide) (by decide) hj
  exact va_zald (f := fun k => ((xH σ j).2.2 k).toInt32) hx hb (x1_K (hK.2 4 (by decide))) (x1_P hr) 0 0 rfl rfl hin hdg (kk _ hF)
theorem x_rwld4 (C0 : xCx p l s m args meth c own cc nL ret L A) (hG : xG A L g s σ H locs) {j : Nat} {i : Int32} (hj : j < 6 ∧ (xH σ j).1 = 4) (hdg : decode cc pc = .ok (.laload, 1)) {β : Type} {f : Int64 → Option β} {z : β} (hF : chk i (xH σ j).2.1 (nmv ((xH σ j).2.2 i.toNatClampNeg) f) = some z)
    (kk : ∀ x : Int64, f x = some z → W p l e R s m args below meth c H locs cells slots Q (F0 m (pc + 1) ls (.long x :: rest))) : W p l e R s m args below meth c H locs cells slots Q (F0 m pc ls (.int i :: .ref (g.2.2.2.1 j).2 :: rest)) := by
  obtain ⟨hx, hb, hml, hown, hts, hK, hA, -⟩ := C0
  obtain ⟨hin, hF⟩ := chk_of hF
  obtain ⟨hn, hO, hr, -⟩ := hG.rw (t := 4) (by decide) (by decide) hj
  exact va_lald (f := (xH σ j).2.2) hx hb (x1_K (hK.2 3 (by decide))) (x1_P hr) 0 0 rfl rfl hin hdg (kk _ hF)
theorem x_rwst1 (C0 : xCx p l s m args meth c own cc nL ret L A) (hG : xG A L g s σ H locs) {j : Nat} {i x : Int32} (hj : j < 6 ∧ (xH σ j).1 = 1) (hdg : decode cc pc = .ok (.bastore, 1)) {β : Type} {f : xS → Option β} {z : β} (hF : chk i (xH σ j).2.1 (nmv (xSh σ j (1, (xH σ j).2.1, vp_updL (xH σ j).2.2 i.toNatClampNeg (x.toInt8.toInt32).toInt64)) f) = some z)
    (kk : ∀ (σ1 : xS) (H1 : Heap) (locs1 : List Loc), xG A L g s σ1 H1 locs1 → f σ1 = some z → W p l e R s m args below meth c H1 locs1 cells slots Q (F0 m (pc + 1) ls rest)) : W p l e R s m args below meth c H locs cells slots Q (F0 m pc ls (.int x :: .int i :: .ref (g.2.2.2.1 j).2 :: rest)) := by
  obtain ⟨hx, hb, hml, hown, hts, hK, hA, -⟩ := C0
  obtain ⟨hin, hF⟩ := chk_of hF
  obtain ⟨hn, hO, hr, hl1, hl2, -⟩ := hG.rw (t := 1) (by decide) (by decide) hj
  have hr : H[(g.2.2.2.1 j).2]? = some (arrV (L.2.2.2.2 1) (xH σ j).2.1 (fun k => .int ((xH σ j).2.2 k).toInt32)) := hr
  have hA2 : A (g.2.2.2.1 j).2 := hG.2.2 _ (by rw [hl2]; omega)
  refine W.bast hx hb hr ((hK.2 1 (by decide)).1 _ _) (fun q => by cases q) (by rw [arrV_size]; exact hin) rfl rfl hdg fun H1 e1 z1 o1 => ?_
  rw [arrV_store] at e1
  refine kk _ H1 _ ⟨hG.1.setR (t := 1) (by decide) (by decide) hj (fun _ => by rw [Int32.toInt32_toInt64]) ?_ z1 o1, hG.2.1.put z1 o1 hA2, hG.2.2⟩ hF
  rw [e1]
  show some (arrV _ _ _) = some (arrV _ _ (fun k => Value.int (vp_updL (xH σ j).2.2 i.toNatClampNeg (x.toInt8.toInt32).toInt64 k).toInt32))
  congr 2
  funext k
  unfold updV vp_updL
  by_cases hk : k = i.toNatClampNeg
  · rw [if_pos hk, if_pos hk, Int32.toInt32_toInt64]
    first | rfl | exact pk_nb _ | exact pk_ns _
  · rw [if_neg hk, if_neg hk]
theorem x_rwst2 (C0 : xCx p l s m args meth c own cc nL ret L A) (hG : xG A L g s σ H locs) {j : Nat} {i x : Int32} (hj : j < 6 ∧ (xH σ j).1 = 2) (hdg : decode cc pc = .ok (.sastore, 1)) {β : Type} {f : xS → Option β} {z : β} (hF : chk i (xH σ j).2.1 (nmv (xSh σ j (2, (xH σ j).2.1, vp_updL (xH σ j).2.2 i.toNatClampNeg (x.toInt16.toInt32).toInt64)) f) = some z)
    (kk : ∀ (σ1 : xS) (H1 : Heap) (locs1 : List Loc), xG A L g s σ1 H1 locs1 → f σ1 = some z → W p l e R s m args below meth c H1 locs1 cells slots Q (F0 m (pc + 1) ls rest)) : W p l e R s m args below meth c H locs cells slots Q (F0 m pc ls (.int x :: .int i :: .ref (g.2.2.2.1 j).2 :: rest)) := by
  obtain ⟨hx, hb, hml, hown, hts, hK, hA, -⟩ := C0
  obtain ⟨hin, hF⟩ := chk_of hF
  obtain ⟨hn, hO, hr, hl1, hl2, -⟩ := hG.rw (t := 2) (by decide) (by decide) hj
  have hr : H[(g.2.2.2.1 j).2]? = some (arrV (L.2.2.2.2 2) (xH σ j).2.1 (fun k => .int ((xH σ j).2.2 k).toInt32)) := hr
  have hA2 : A (g.2.2.2.1 j).2 := hG.2.2 _ (by rw [hl2]; omega)
  refine W.sast hx hb hr ((hK.2 2 (by decide)).1 _ _) (fun q => by cases q) (by rw [arrV_size]; exact hin) rfl rfl hdg fun H1 e1 z1 o1 => ?_
  rw [arrV_store] at e1
  refine kk _ H1 _ ⟨hG.1.setR (t := 2) (by decide) (by decide) hj (fun _ => by rw [Int32.toInt32_toInt64]) ?_ z1 o1, hG.2.1.put z1 o1 hA2, hG.2.2⟩ hF
  rw [e1]
  show some (arrV _ _ _) = some (arrV _ _ (fun k => Value.int (vp_updL (xH σ j).2.2 i.toNatClampNeg (x.toInt16.toInt32).toInt64 k).toInt32))
  congr 2
  funext k
  unfold updV vp_updL
  by_cases hk : k = i.toNatClampNeg
  · rw [if_pos hk, if_pos hk, Int32.toInt32_toInt64]
    first | rfl | exact pk_nb _ | exact pk_ns _
  · rw [if_neg hk, if_neg hk]
theorem x_rwst3 (C0 : xCx p l s m args meth c own cc nL ret L A) (hG : xG A L g s σ H locs) {j : Nat} {i x : Int32} (hj : j < 6 ∧ (xH σ j).1 = 3) (hdg : decode cc pc = .ok (.iastore, 1)) {β : Type} {f : xS → Option β} {z : β} (hF : chk i (xH σ j).2.1 (nmv (xSh σ j (3, (xH σ j).2.1, vp_updL (xH σ j).2.2 i.toNatClampNeg (x).toInt64)) f) = some z)
    (kk : ∀ (σ1 : xS) (H1 : Heap) (locs1 : List Loc), xG A L g s σ1 H1 locs1 → f σ1 = some z → W p l e R s m args below meth c H1 locs1 cells slots Q (F0 m (pc + 1) ls rest)) : W p l e R s m args below meth c H locs cells slots Q (F0 m pc ls (.int x :: .int i :: .ref (g.2.2.2.1 j).2 :: rest)) := by
  obtain ⟨hx, hb, hml, hown, hts, hK, hA, -⟩ := C0
  obtain ⟨hin, hF⟩ := chk_of hF
  obtain ⟨hn, hO, hr, hl1, hl2, -⟩ := hG.rw (t := 3) (by decide) (by decide) hj
  have hr : H[(g.2.2.2.1 j).2]? = some (arrV (L.2.2.2.2 0) (xH σ j).2.1 (fun k => .int ((xH σ j).2.2 k).toInt32)) := hr
  have hA2 : A (g.2.2.2.1 j).2 := hG.2.2 _ (by rw [hl2]; omega)
  refine W.iast hx hb hr ((hK.2 0 (by decide)).1 _ _) (fun q => by cases q) (by rw [arrV_size]; exact hin) rfl rfl hdg fun H1 e1 z1 o1 => ?_
  rw [arrV_store] at e1
  refine kk _ H1 _ ⟨hG.1.setR (t := 3) (by decide) (by decide) hj (fun _ => by rw [Int32.toInt32_toInt64]) ?_ z1 o1, hG.2.1.put z1 o1 hA2, hG.2.2⟩ hF
  rw [e1]
  show some (arrV _ _ _) = some (arrV _ _ (fun k => Value.int (vp_updL (xH σ j).2.2 i.toNatClampNeg (x).toInt64 k).toInt32))
  congr 2
  funext k
  unfold updV vp_updL
  by_cases hk : k = i.toNatClampNeg
  · rw [if_pos hk, if_pos hk, Int32.toInt32_toInt64]
  · rw [if_neg hk, if_neg hk]
theorem x_rwst4 (C0 : xCx p l s m args meth c own cc nL ret L A) (hG : xG A L g s σ H locs) {j : Nat} {i : Int32} {x : Int64} (hj : j < 6 ∧ (xH σ j).1 = 4) (hdg : decode cc pc = .ok (.lastore, 1)) {β : Type} {f : xS → Option β} {z : β} (hF : chk i (xH σ j).2.1 (nmv (xSh σ j (4, (xH σ j).2.1, vp_updL (xH σ j).2.2 i.toNatClampNeg x)) f) = some z)
    (kk : ∀ (σ1 : xS) (H1 : Heap) (locs1 : List Loc), xG A L g s σ1 H1 locs1 → f σ1 = some z → W p l e R s m args below meth c H1 locs1 cells slots Q (F0 m (pc + 1) ls rest)) : W p l e R s m args below meth c H locs cells slots Q (F0 m pc ls (.long x :: .int i :: .ref (g.2.2.2.1 j).2 :: rest)) := by
  obtain ⟨hx, hb, hml, hown, hts, hK, hA, -⟩ := C0
  obtain ⟨hin, hF⟩ := chk_of hF
  obtain ⟨hn, hO, hr, hl1, hl2, -⟩ := hG.rw (t := 4) (by decide) (by decide) hj
  have hr : H[(g.2.2.2.1 j).2]? = some (arrV (L.2.2.2.2 3) (xH σ j).2.1 (fun k => .long ((xH σ j).2.2 k))) := hr
  have hA2 : A (g.2.2.2.1 j).2 := hG.2.2 _ (by rw [hl2]; omega)
  refine W.last hx hb hr ((hK.2 3 (by decide)).1 _ _) (fun q => by cases q) (by rw [arrV_size]; exact hin) rfl rfl hdg fun H1 e1 z1 o1 => ?_
  rw [arrV_store] at e1
  refine kk _ H1 _ ⟨hG.1.setR (t := 4) (by decide) (by decide) hj (fun h => absurd rfl h) ?_ z1 o1, hG.2.1.put z1 o1 hA2, hG.2.2⟩ hF
  rw [e1]
  show some (arrV _ _ _) = some (arrV _ _ (fun k => Value.long (vp_updL (xH σ j).2.2 i.toNatClampNeg x k)))
  congr 2
  funext k
  unfold updV vp_updL
  by_cases hk : k = i.toNatClampNeg
  · rw [if_pos hk, if_pos hk]
  · rw [if_neg hk, if_neg hk]
theorem x_rwst5 (C0 : xCx p l s m args meth c own cc nL ret L A) (hG : xG A L g s σ H locs) {j : Nat} {i x : Int32} (hj : j < 6 ∧ (xH σ j).1 = 5) (hdg : decode cc pc = .ok (.bastore, 1)) {β : Type} {f : xS → Option β} {z : β} (hF : chb x (chk i (xH σ j).2.1 (nmv (xSh σ j (5, (xH σ j).2.1, vp_updL (xH σ j).2.2 i.toNatClampNeg x.toInt64)) f)) = some z)
    (kk : ∀ (σ1 : xS) (H1 : Heap) (locs1 : List Loc), xG A L g s σ1 H1 locs1 → f σ1 = some z → W p l e R s m args below meth c H1 locs1 cells slots Q (F0 m (pc + 1) ls rest)) : W p l e R s m args below meth c H locs cells slots Q (F0 m pc ls (.int x :: .int i :: .ref (g.2.2.2.1 j).2 :: rest)) := by
  obtain ⟨hx, hb, hml, hown, hts, hK, hA, -⟩ := C0
  obtain ⟨hbo, hF⟩ := chb_of hF
  obtain ⟨hin, hF⟩ := chk_of hF
  obtain ⟨hn, hO, hr, hl1, hl2, -⟩ := hG.rw (t := 5) (by decide) (by decide) hj
  have hr : H[(g.2.2.2.1 j).2]? = some (arrV (L.2.2.2.2 4) (xH σ j).2.1 (fun k => .int ((xH σ j).2.2 k).toInt32)) := hr
  have hA2 : A (g.2.2.2.1 j).2 := hG.2.2 _ (by rw [hl2]; omega)
  refine W.zast hx hb hr ((hK.2 4 (by decide)).1 _ _) (fun q => by cases q) (by rw [arrV_size]; exact hin) rfl rfl hdg fun H1 e1 z1 o1 => ?_
  rw [arrV_store, nar_bool hbo] at e1
  refine kk _ H1 _ ⟨hG.1.setR (t := 5) (by decide) (by decide) hj (fun _ => by rw [Int32.toInt32_toInt64]) ?_ z1 o1, hG.2.1.put z1 o1 hA2, hG.2.2⟩ hF
  rw [e1]
  show some (arrV _ _ _) = some (arrV _ _ (fun k => Value.int (vp_updL (xH σ j).2.2 i.toNatClampNeg x.toInt64 k).toInt32))
  congr 2
  funext k
  unfold updV vp_updL
  by_cases hk : k = i.toNatClampNeg
  · rw [if_pos hk, if_pos hk, Int32.toInt32_toInt64]
  · rw [if_neg hk, if_neg hk]
end XRROWS
