theorem yd_X0_made : (yX0_made).cls = RX0 ∧ (yX0_made).cls ≠ "java/lang/invoke/MethodHandle" ∧ (yX0_made).cls ≠ "java/lang/invoke/VarHandle" ∧ (parseMethodDescriptor (yX0_made).desc).map (fun d => d.parameters.length) = some 1 := by decide +kernel
theorem yd_X0_body : (yX0_body).cls = RX0 ∧ (yX0_body).cls ≠ "java/lang/invoke/MethodHandle" ∧ (yX0_body).cls ≠ "java/lang/invoke/VarHandle" ∧ (parseMethodDescriptor (yX0_body).desc).map (fun d => d.parameters.length) = some 1 := by decide +kernel
section XHWALK
variable {p : Program} {l : Launch} {e : Env} {R : Room} {s : State} {m : MethodId} {args : Array Value} {below : List Frame} {meth : Method} {c : Code} {A : Nat → Prop}
variable {L : xL} {g : xg}

theorem bd_init0 {a k : Nat} {i : Int32} (h : i = nI k) : ∀ j, j < 2 → (updV ((updV (fun k => defaultValue (tyX14 k)) 1 (.ref a))) 0 (.int i)) j = (if j = 0 then .int (nI k) else .ref a) := by
  subst h
  intro j hj
  match j, hj with
  | 0, _ => rfl
  | 1, _ => rfl
theorem bd_init1 {a k : Nat} {i : Int32} (h : i = nI k) : ∀ j, j < 3 → ((updV ((updV (updV (fun k => defaultValue (tyX15 k)) 2 (.ref a)) 1 (.ref a))) 0 (.int i))) j = (if j = 0 then .int (nI k) else .ref a) := by
  subst h
  intro j hj
  match j, hj with
  | 0, _ => rfl
  | 1, _ => rfl
  | 2, _ => rfl
theorem bd_init2 {a k : Nat} {i : Int32} (h : i = nI k) : ∀ j, j < 3 → ((updV ((updV (updV (fun k => defaultValue (tyX16 k)) 2 (.ref a)) 1 (.ref a))) 0 (.int i))) j = (if j = 0 then .int (nI k) else .ref a) := by
  subst h
  intro j hj
  match j, hj with
  | 0, _ => rfl
  | 1, _ => rfl
  | 2, _ => rfl
theorem bd_init3 {a k : Nat} {i : Int32} (h : i = nI k) : ∀ j, j < 4 → (((updV ((updV (updV (updV (fun k => defaultValue (tyX17 k)) 3 (.ref a)) 2 (.ref a)) 1 (.ref a))) 0 (.int i)))) j = (if j = 0 then .int (nI k) else .ref a) := by
  subst h
  intro j hj
  match j, hj with
  | 0, _ => rfl
  | 1, _ => rfl
  | 2, _ => rfl
  | 3, _ => rfl
theorem bd_init4 {a k : Nat} {i : Int32} (h : i = nI k) : ∀ j, j < 4 → (((updV ((updV (updV (updV (fun k => defaultValue (tyX18 k)) 3 (.ref a)) 2 (.ref a)) 1 (.ref a))) 0 (.int i)))) j = (if j = 0 then .int (nI k) else .ref a) := by
  subst h
  intro j hj
  match j, hj with
  | 0, _ => rfl
  | 1, _ => rfl
  | 2, _ => rfl
  | 3, _ => rfl
theorem bd_init5 {a k : Nat} {i : Int32} (h : i = nI k) : ∀ j, j < 5 → ((((updV ((updV (updV (updV (updV (fun k => defaultValue (tyX19 k)) 4 (.ref a)) 3 (.ref a)) 2 (.ref a)) 1 (.ref a))) 0 (.int i))))) j = (if j = 0 then .int (nI k) else .ref a) := by
  subst h
  intro j hj
  match j, hj with
  | 0, _ => rfl
  | 1, _ => rfl
  | 2, _ => rfl
  | 3, _ => rfl
  | 4, _ => rfl
theorem bd_init6 {a k : Nat} {i : Int32} (h : i = nI k) : ∀ j, j < 3 → ((updV ((updV (updV (fun k => defaultValue (tyX20 k)) 2 (.ref a)) 1 (.ref a))) 0 (.int i))) j = (if j = 0 then .int (nI k) else .ref a) := by
  subst h
  intro j hj
  match j, hj with
  | 0, _ => rfl
  | 1, _ => rfl
  | 2, _ => rfl
theorem bd_init7 {a k : Nat} {i : Int32} (h : i = nI k) : ∀ j, j < 5 → ((((updV ((updV (updV (updV (updV (fun k => defaultValue (tyX21 k)) 4 (.ref a)) 3 (.ref a)) 2 (.ref a)) 1 (.ref a))) 0 (.int i))))) j = (if j = 0 then .int (nI k) else .ref a) := by
  subst h
  intro j hj
  match j, hj with
  | 0, _ => rfl
  | 1, _ => rfl
  | 2, _ => rfl
  | 3, _ => rfl
  | 4, _ => rfl
def fX_made (N : Nat) (σ : xS) (a0 : Int32) : Option (xS × Nat) :=
  if a0 = 1 then (
    nmv (xI σ 42) fun x_5 =>
    ceI x_5 (nI (xk σ)) <| some (σ, 1))
  else (
  if a0 = 2 then (
    nmv (xI σ 42) fun x_13 =>
    ceI x_13 (nI (xk σ)) <| some (σ, 2))
  else (
  if a0 = 3 then (
    nmv (xI σ 42) fun x_21 =>
    ceI x_21 (nI (xk σ)) <| some (σ, 3))
  else (
  if a0 = 4 then (
    nmv (xI σ 42) fun x_29 =>
    ceI x_29 (nI (xk σ)) <| some (σ, 4))
  else (
  if a0 = 5 then (
    nmv (xI σ 42) fun x_37 =>
    ceI x_37 (nI (xk σ)) <| some (σ, 5))
  else (
  if a0 = 6 then (
    nmv (xI σ 42) fun x_45 =>
    ceI x_45 (nI (xk σ)) <| some (σ, 6))
  else (
  if a0 = 7 then (
    nmv (xI σ 42) fun x_53 =>
    ceI x_53 (nI (xk σ)) <| some (σ, 7))
  else (
    nmv (xI σ 42) fun x_60 =>
    ceI x_60 (nI (xk σ)) <| some (σ, 0))))))))
theorem bX_made_e {N : Nat} (C0 : xCx p l s m args meth c RX0 cX0_made 2 (some (.object "EightLegs$Beat")) L A) (hRo : 6 ≤ R.frames ∧ 128 ≤ R.locals ∧ 1 ≤ R.cells ∧ 5 ≤ R.slots) {σ' : xS} {r : Nat} (σ : xS) (a0 : Int32) (H : Heap) (locs : List Loc) (ls : Array Slot) (cells slots : Nat) (hcs : cells + 1 ≤ 1 ∧ slots + 5 ≤ 5) (hG : xG A L g s σ H locs) (hl : lv_has ls 2 [(0, .ref L.1), (1, .int a0)]) (hF : fX_made N σ a0 = some (σ', r)) : W p l e R s m args below meth c H locs cells slots (xZn below L g A s args σ' (fun q H => xBody L H r (xk σ') q) 1 5) (F0 m 0 ls []) := by
  have hx := C0.1
  have hb := C0.2.1
  have hst := C0.2.2.2.2.2.2.2.2.2.2
  unfold fX_made at hF
  refine lv_iload_n hx hb dX0_made_0 rfl (lv_at hl 1 rfl) ?_
  by_cases c_1 : a0 = 1
  · have hF := ifp hF c_1
    refine lv_tableIn (off := 43) (tgt := 44) hx hb dX0_made_1 (by rw [c_1]; decide) (by rw [c_1]; decide) (by rw [c_1]; rfl) (by decide) ?_
    refine x_new C0 hG in_X15 tyX15 tyX15_ok (C0.2.2.2.2.2.1.1 15 rfl) q1102 q1103 q129 ⟨by omega, by omega⟩ dX0_made_44 (fun q_2 H hG hq_3 hO_4 => ?_)
    refine lv_dup hx hb dX0_made_47 rfl ?_
    refine lv_aload_n hx hb dX0_made_48 rfl (lv_at hl 0 rfl) ?_
    refine lv_aload_n hx hb dX0_made_49 rfl (lv_at hl 0 rfl) ?_
    refine x_geti C0 hG 42 (by decide) rfl q218 dX0_made_50 hF (fun x_5 hF => ?_)
    refine x_ctor (As := [.ref L.1, .int x_5]) (rest := [.ref q_2]) (o := (q_2, RX15, TX15, 3, _, _)) C0 hG hq_3 hO_4 (C0.2.2.2.2.2.1.1 15 rfl) (mtC_X15_X15 l q_2 _ _ _ L.1 x_5) q1106 q129 q1104 q1105 rfl yd_X15_init ⟨by omega, by omega⟩ ⟨by omega, by omega⟩ rfl rfl hl.1 (Nat.le_of_ble_eq_true rfl) dX0_made_53 (fun H locs hG hq_6 hO_7 => ?_)
    obtain ⟨h_8, hF⟩ := ceI_of hF
    cases hF
    exact x_aretn C0 (Or.inl ⟨_, rfl⟩) hG ⟨by omega, by omega⟩ hq_6 ⟨by decide, t_OB.to hO_7 (bd_init1 h_8)⟩ dX0_made_56
  have hF := ifn hF c_1
  by_cases c_9 : a0 = 2
  · have hF := ifp hF c_9
    refine lv_tableIn (off := 56) (tgt := 57) hx hb dX0_made_1 (by rw [c_9]; decide) (by rw [c_9]; decide) (by rw [c_9]; rfl) (by decide) ?_
    refine x_new C0 hG in_X16 tyX16 tyX16_ok (C0.2.2.2.2.2.1.1 16 rfl) q1124 q1125 q130 ⟨by omega, by omega⟩ dX0_made_57 (fun q_10 H hG hq_11 hO_12 => ?_)
    refine lv_dup hx hb dX0_made_60 rfl ?_
    refine lv_aload_n hx hb dX0_made_61 rfl (lv_at hl 0 rfl) ?_
    refine lv_aload_n hx hb dX0_made_62 rfl (lv_at hl 0 rfl) ?_
    refine x_geti C0 hG 42 (by decide) rfl q218 dX0_made_63 hF (fun x_13 hF => ?_)
    refine x_ctor (As := [.ref L.1, .int x_13]) (rest := [.ref q_10]) (o := (q_10, RX16, TX16, 3, _, _)) C0 hG hq_11 hO_12 (C0.2.2.2.2.2.1.1 16 rfl) (mtC_X16_X16 l q_10 _ _ _ L.1 x_13) q1128 q130 q1126 q1127 rfl yd_X16_init ⟨by omega, by omega⟩ ⟨by omega, by omega⟩ rfl rfl hl.1 (Nat.le_of_ble_eq_true rfl) dX0_made_66 (fun H locs hG hq_14 hO_15 => ?_)
    obtain ⟨h_16, hF⟩ := ceI_of hF
    cases hF
    exact x_aretn C0 (Or.inl ⟨_, rfl⟩) hG ⟨by omega, by omega⟩ hq_14 ⟨by decide, t_OB.to hO_15 (bd_init2 h_16)⟩ dX0_made_69
  have hF := ifn hF c_9
  by_cases c_17 : a0 = 3
  · have hF := ifp hF c_17
    refine lv_tableIn (off := 69) (tgt := 70) hx hb dX0_made_1 (by rw [c_17]; decide) (by rw [c_17]; decide) (by rw [c_17]; rfl) (by decide) ?_
    refine x_new C0 hG in_X17 tyX17 tyX17_ok (C0.2.2.2.2.2.1.1 17 rfl) q1136 q1137 q131 ⟨by omega, by omega⟩ dX0_made_70 (fun q_18 H hG hq_19 hO_20 => ?_)
    refine lv_dup hx hb dX0_made_73 rfl ?_
    refine lv_aload_n hx hb dX0_made_74 rfl (lv_at hl 0 rfl) ?_
    refine lv_aload_n hx hb dX0_made_75 rfl (lv_at hl 0 rfl) ?_
    refine x_geti C0 hG 42 (by decide) rfl q218 dX0_made_76 hF (fun x_21 hF => ?_)
    refine x_ctor (As := [.ref L.1, .int x_21]) (rest := [.ref q_18]) (o := (q_18, RX17, TX17, 4, _, _)) C0 hG hq_19 hO_20 (C0.2.2.2.2.2.1.1 17 rfl) (mtC_X17_X17 l q_18 _ _ _ L.1 x_21) q1140 q131 q1138 q1139 rfl yd_X17_init ⟨by omega, by omega⟩ ⟨by omega, by omega⟩ rfl rfl hl.1 (Nat.le_of_ble_eq_true rfl) dX0_made_79 (fun H locs hG hq_22 hO_23 => ?_)
    obtain ⟨h_24, hF⟩ := ceI_of hF
    cases hF
    exact x_aretn C0 (Or.inl ⟨_, rfl⟩) hG ⟨by omega, by omega⟩ hq_22 ⟨by decide, t_OB.to hO_23 (bd_init3 h_24)⟩ dX0_made_82
  have hF := ifn hF c_17
  by_cases c_25 : a0 = 4
  · have hF := ifp hF c_25
    refine lv_tableIn (off := 82) (tgt := 83) hx hb dX0_made_1 (by rw [c_25]; decide) (by rw [c_25]; decide) (by rw [c_25]; rfl) (by decide) ?_
    refine x_new C0 hG in_X18 tyX18 tyX18_ok (C0.2.2.2.2.2.1.1 18 rfl) q1149 q1150 q132 ⟨by omega, by omega⟩ dX0_made_83 (fun q_26 H hG hq_27 hO_28 => ?_)
    refine lv_dup hx hb dX0_made_86 rfl ?_
    refine lv_aload_n hx hb dX0_made_87 rfl (lv_at hl 0 rfl) ?_
    refine lv_aload_n hx hb dX0_made_88 rfl (lv_at hl 0 rfl) ?_
    refine x_geti C0 hG 42 (by decide) rfl q218 dX0_made_89 hF (fun x_29 hF => ?_)
    refine x_ctor (As := [.ref L.1, .int x_29]) (rest := [.ref q_26]) (o := (q_26, RX18, TX18, 4, _, _)) C0 hG hq_27 hO_28 (C0.2.2.2.2.2.1.1 18 rfl) (mtC_X18_X18 l q_26 _ _ _ L.1 x_29) q1153 q132 q1151 q1152 rfl yd_X18_init ⟨by omega, by omega⟩ ⟨by omega, by omega⟩ rfl rfl hl.1 (Nat.le_of_ble_eq_true rfl) dX0_made_92 (fun H locs hG hq_30 hO_31 => ?_)
    obtain ⟨h_32, hF⟩ := ceI_of hF
    cases hF
    exact x_aretn C0 (Or.inl ⟨_, rfl⟩) hG ⟨by omega, by omega⟩ hq_30 ⟨by decide, t_OB.to hO_31 (bd_init4 h_32)⟩ dX0_made_95
  have hF := ifn hF c_25
  by_cases c_33 : a0 = 5
  · have hF := ifp hF c_33
    refine lv_tableIn (off := 95) (tgt := 96) hx hb dX0_made_1 (by rw [c_33]; decide) (by rw [c_33]; decide) (by rw [c_33]; rfl) (by decide) ?_
    refine x_new C0 hG in_X19 tyX19 tyX19_ok (C0.2.2.2.2.2.1.1 19 rfl) q1162 q1163 q133 ⟨by omega, by omega⟩ dX0_made_96 (fun q_34 H hG hq_35 hO_36 => ?_)
    refine lv_dup hx hb dX0_made_99 rfl ?_
    refine lv_aload_n hx hb dX0_made_100 rfl (lv_at hl 0 rfl) ?_
    refine lv_aload_n hx hb dX0_made_101 rfl (lv_at hl 0 rfl) ?_
    refine x_geti C0 hG 42 (by decide) rfl q218 dX0_made_102 hF (fun x_37 hF => ?_)
    refine x_ctor (As := [.ref L.1, .int x_37]) (rest := [.ref q_34]) (o := (q_34, RX19, TX19, 5, _, _)) C0 hG hq_35 hO_36 (C0.2.2.2.2.2.1.1 19 rfl) (mtC_X19_X19 l q_34 _ _ _ L.1 x_37) q1166 q133 q1164 q1165 rfl yd_X19_init ⟨by omega, by omega⟩ ⟨by omega, by omega⟩ rfl rfl hl.1 (Nat.le_of_ble_eq_true rfl) dX0_made_105 (fun H locs hG hq_38 hO_39 => ?_)
    obtain ⟨h_40, hF⟩ := ceI_of hF
    cases hF
    exact x_aretn C0 (Or.inl ⟨_, rfl⟩) hG ⟨by omega, by omega⟩ hq_38 ⟨by decide, t_OB.to hO_39 (bd_init5 h_40)⟩ dX0_made_108
  have hF := ifn hF c_33
  by_cases c_41 : a0 = 6
  · have hF := ifp hF c_41
    refine lv_tableIn (off := 108) (tgt := 109) hx hb dX0_made_1 (by rw [c_41]; decide) (by rw [c_41]; decide) (by rw [c_41]; rfl) (by decide) ?_
    refine x_new C0 hG in_X20 tyX20 tyX20_ok (C0.2.2.2.2.2.1.1 20 rfl) q1176 q1177 q134 ⟨by omega, by omega⟩ dX0_made_109 (fun q_42 H hG hq_43 hO_44 => ?_)
    refine lv_dup hx hb dX0_made_112 rfl ?_
    refine lv_aload_n hx hb dX0_made_113 rfl (lv_at hl 0 rfl) ?_
    refine lv_aload_n hx hb dX0_made_114 rfl (lv_at hl 0 rfl) ?_
    refine x_geti C0 hG 42 (by decide) rfl q218 dX0_made_115 hF (fun x_45 hF => ?_)
    refine x_ctor (As := [.ref L.1, .int x_45]) (rest := [.ref q_42]) (o := (q_42, RX20, TX20, 3, _, _)) C0 hG hq_43 hO_44 (C0.2.2.2.2.2.1.1 20 rfl) (mtC_X20_X20 l q_42 _ _ _ L.1 x_45) q1180 q134 q1178 q1179 rfl yd_X20_init ⟨by omega, by omega⟩ ⟨by omega, by omega⟩ rfl rfl hl.1 (Nat.le_of_ble_eq_true rfl) dX0_made_118 (fun H locs hG hq_46 hO_47 => ?_)
    obtain ⟨h_48, hF⟩ := ceI_of hF
    cases hF
    exact x_aretn C0 (Or.inl ⟨_, rfl⟩) hG ⟨by omega, by omega⟩ hq_46 ⟨by decide, t_OB.to hO_47 (bd_init6 h_48)⟩ dX0_made_121
  have hF := ifn hF c_41
  by_cases c_49 : a0 = 7
  · have hF := ifp hF c_49
    refine lv_tableIn (off := 121) (tgt := 122) hx hb dX0_made_1 (by rw [c_49]; decide) (by rw [c_49]; decide) (by rw [c_49]; rfl) (by decide) ?_
    refine x_new C0 hG in_X21 tyX21 tyX21_ok (C0.2.2.2.2.2.1.1 21 rfl) q1188 q1189 q135 ⟨by omega, by omega⟩ dX0_made_122 (fun q_50 H hG hq_51 hO_52 => ?_)
    refine lv_dup hx hb dX0_made_125 rfl ?_
    refine lv_aload_n hx hb dX0_made_126 rfl (lv_at hl 0 rfl) ?_
    refine lv_aload_n hx hb dX0_made_127 rfl (lv_at hl 0 rfl) ?_
    refine x_geti C0 hG 42 (by decide) rfl q218 dX0_made_128 hF (fun x_53 hF => ?_)
    refine x_ctor (As := [.ref L.1, .int x_53]) (rest := [.ref q_50]) (o := (q_50, RX21, TX21, 5, _, _)) C0 hG hq_51 hO_52 (C0.2.2.2.2.2.1.1 21 rfl) (mtC_X21_X21 l q_50 _ _ _ L.1 x_53) q1192 q135 q1190 q1191 rfl yd_X21_init ⟨by omega, by omega⟩ ⟨by omega, by omega⟩ rfl rfl hl.1 (Nat.le_of_ble_eq_true rfl) dX0_made_131 (fun H locs hG hq_54 hO_55 => ?_)
    obtain ⟨h_56, hF⟩ := ceI_of hF
    cases hF
    exact x_aretn C0 (Or.inl ⟨_, rfl⟩) hG ⟨by omega, by omega⟩ hq_54 ⟨by decide, t_OB.to hO_55 (bd_init7 h_56)⟩ dX0_made_134
  have hF := ifn hF c_49
  refine lv_tableOut (tgt := 135) hx hb dX0_made_1 (sw_out (fun q_ => by
      have zc_1 := lv_neT c_1 (show ((1 : Int32)).toInt = 1 from by decide)
      have zc_9 := lv_neT c_9 (show ((2 : Int32)).toInt = 2 from by decide)
      have zc_17 := lv_neT c_17 (show ((3 : Int32)).toInt = 3 from by decide)
      have zc_25 := lv_neT c_25 (show ((4 : Int32)).toInt = 4 from by decide)
      have zc_33 := lv_neT c_33 (show ((5 : Int32)).toInt = 5 from by decide)
      have zc_41 := lv_neT c_41 (show ((6 : Int32)).toInt = 6 from by decide)
      have zc_49 := lv_neT c_49 (show ((7 : Int32)).toInt = 7 from by decide)
      omega)) (by decide) ?_
  refine x_new C0 hG in_X14 tyX14 tyX14_ok (C0.2.2.2.2.2.1.1 14 rfl) q170 q1202 q128 ⟨by omega, by omega⟩ dX0_made_135 (fun q_57 H hG hq_58 hO_59 => ?_)
  refine lv_dup hx hb dX0_made_138 rfl ?_
  refine lv_aload_n hx hb dX0_made_139 rfl (lv_at hl 0 rfl) ?_
  refine lv_aload_n hx hb dX0_made_140 rfl (lv_at hl 0 rfl) ?_
  refine x_geti C0 hG 42 (by decide) rfl q218 dX0_made_141 hF (fun x_60 hF => ?_)
  refine x_ctor (As := [.ref L.1, .int x_60]) (rest := [.ref q_57]) (o := (q_57, RX14, TX14, 2, _, _)) C0 hG hq_58 hO_59 (C0.2.2.2.2.2.1.1 14 rfl) (mtC_X14_X14 l q_57 _ _ _ L.1 x_60) q1109 q128 q1203 q1108 rfl yd_X14_init ⟨by omega, by omega⟩ ⟨by omega, by omega⟩ rfl rfl hl.1 (Nat.le_of_ble_eq_true rfl) dX0_made_144 (fun H locs hG hq_61 hO_62 => ?_)
  obtain ⟨h_63, hF⟩ := ceI_of hF
  cases hF
  exact x_aretn C0 (Or.inl ⟨_, rfl⟩) hG ⟨by omega, by omega⟩ hq_61 ⟨by decide, t_OB.to hO_62 (bd_init0 h_63)⟩ dX0_made_147
theorem mtX_made (l : Launch) (hst : l.stackTraces = false) {N : Nat} {L : xL} {g : xg} {σ σ' : xS} {r : Nat} {a0 : Int32} (hF : fX_made N σ a0 = some (σ', r)) : xMetn l yX0_made cX0_made 2 (some (.object "EightLegs$Beat")) (6) (128) 1 5 [.ref L.1, .int a0] L g σ (fun q H => xBody L H r (xk σ') q) σ' := by
  refine x_headn hst (by decide) rfl ?_
  intro p e s m below meth c A C0 hG
  have hl := lv_entry ([.ref L.1, .int a0]) (n := 2) (Nat.le_of_ble_eq_true rfl)
  rw [lg_entry_eq]
  generalize (lg_sl ([.ref L.1, .int a0]) ++ List.replicate (2 - (lg_sl ([.ref L.1, .int a0])).length) Slot.unset).toArray = ls at hl ⊢
  have hl : lv_has ls 2 [(0, .ref L.1), (1, .int a0)] := hl
  exact bX_made_e C0 ⟨Nat.le_refl _, Nat.le_refl _, Nat.le_refl _, Nat.le_refl _⟩ _ _ _ [] ls 0 0 ⟨Nat.le_of_ble_eq_true rfl, Nat.le_of_ble_eq_true rfl⟩ hG hl hF
def fX_body (N : Nat) (σ : xS) (a0 : Int32) : Option (xS × Int32) :=
  obi (fX_in N σ a0 0 7) fun σ_1 r_2 =>
  if r_2 = 0 then (
    some (σ_1, (-1)))
  else (
    nmv (xI σ_1 42) fun x_5 =>
    if x_5 = 50 then (
      some (σ_1, (-3)))
    else (
      nmv (xI σ_1 42) fun x_7 =>
      obi (fX_made N σ_1 a0) fun σ_8 r_9 =>
      chk x_7 50 <| ceq x_7.toNatClampNeg (xk σ_8) <| nmv (xSb σ_8 r_9) fun σ_14 =>
      nmv (xI σ_14 42) fun x_15 =>
      nmv (xSi σ_14 42 (x_15 + 1)) fun σ_16 =>
      nmv (xI σ_16 42) fun x_17 =>
      some (σ_16, x_17 - 1)))
theorem bX_body_e {N : Nat} (C0 : xCx p l s m args meth c RX0 cX0_body 2 (some .int) L A) (hRo : 7 ≤ R.frames ∧ 149 ≤ R.locals ∧ 1 ≤ R.cells ∧ 5 ≤ R.slots) {σ' : xS} {r : Int32} (σ : xS) (a0 : Int32) (H : Heap) (locs : List Loc) (ls : Array Slot) (cells slots : Nat) (hcs : cells + 1 ≤ 1 ∧ slots + 5 ≤ 5) (hG : xG A L g s σ H locs) (hl : lv_has ls 2 [(0, .ref L.1), (1, .int a0)]) (hF : fX_body N σ a0 = some (σ', r)) : W p l e R s m args below meth c H locs cells slots (xZg below L g A s args σ' (fun g => (some (.int r))) 1 5) (F0 m 0 ls []) := by
  have hx := C0.1
  have hb := C0.2.1
  have hst := C0.2.2.2.2.2.2.2.2.2.2
  unfold fX_body at hF
  refine lv_iload_n hx hb dX0_body_0 rfl (lv_at hl 1 rfl) ?_
  refine lv_iconst (v := 0) hx hb dX0_body_1 (by decide) ?_
  refine lv_bipush (v := 7) hx hb dX0_body_2 (by decide) ?_
  obtain ⟨σ_1, r_2, e_3, hF⟩ := obi_of hF
  refine x_cSi0 (As := [.int a0, .int 0, .int 7]) (rest := []) C0 hG (mtX_in l hst e_3) (lw_S q316 q317 q100 q318) yd_X0_in ⟨by omega, by omega⟩ ⟨by omega, by omega⟩ rfl rfl hl.1 (Nat.le_of_ble_eq_true rfl) dX0_body_4 (fun H locs hG => ?_)
  refine lv_if_ne (tgt := 12) hx hb dX0_body_7 (by decide) (fun c_4 => ?_) (fun c_4 => ?_)
  · have hF := ifn hF c_4
    refine lv_aload_n hx hb dX0_body_12 rfl (lv_at hl 0 rfl) ?_
    refine x_geti C0 hG 42 (by decide) rfl q218 dX0_body_13 hF (fun x_5 hF => ?_)
    refine lv_bipush (v := 50) hx hb dX0_body_16 (by decide) ?_
    refine lv_icmp_ne (tgt := 24) hx hb dX0_body_18 (by decide) (fun c_6 => ?_) (fun c_6 => ?_)
    · have hF := ifn hF c_6
      refine lv_aload_n hx hb dX0_body_24 rfl (lv_at hl 0 rfl) ?_
      refine x_geta C0 hG 41 (by decide) rfl (by decide) q217 dX0_body_25 ?_
      refine lv_aload_n hx hb dX0_body_28 rfl (lv_at hl 0 rfl) ?_
      refine x_geti C0 hG 42 (by decide) rfl q218 dX0_body_29 hF (fun x_7 hF => ?_)
      refine lv_aload_n hx hb dX0_body_32 rfl (lv_at hl 0 rfl) ?_
      refine lv_iload_n hx hb dX0_body_33 rfl (lv_at hl 1 rfl) ?_
      obtain ⟨σ_8, r_9, e_10, hF⟩ := obi_of hF
      refine x_cVn (As := [.int a0]) (rest := [.int x_7, .ref (L.2.1 41)]) C0 hG (mtX_made l hst e_10) (lw_V q1098 q1100 qs49 q100 q1101) yd_X0_made (x_rc0 C0 hG) ⟨by omega, by omega⟩ ⟨by omega, by omega⟩ rfl rfl hl.1 (Nat.le_of_ble_eq_true rfl) dX0_body_34 (fun q_11 H locs hG hq_12 hO_13 => ?_)
      refine x_bdst C0 hG hq_12 hO_13 dX0_body_37 hF (fun g σ_14 H locs hG hF => ?_)
      refine lv_aload_n hx hb dX0_body_38 rfl (lv_at hl 0 rfl) ?_
      refine lv_dup hx hb dX0_body_39 rfl ?_
      refine x_geti C0 hG 42 (by decide) rfl q218 dX0_body_40 hF (fun x_15 hF => ?_)
      refine lv_iconst (v := 1) hx hb dX0_body_43 (by decide) ?_
      refine lv_iadd hx hb dX0_body_44 ?_
      refine x_puti C0 hG 42 (by decide) rfl q218 dX0_body_45 (Or.inl (by decide)) hF (fun σ_16 H locs hG hF => ?_)
      refine lv_aload_n hx hb dX0_body_48 rfl (lv_at hl 0 rfl) ?_
      refine x_geti C0 hG 42 (by decide) rfl q218 dX0_body_49 hF (fun x_17 hF => ?_)
      refine lv_iconst (v := 1) hx hb dX0_body_52 (by decide) ?_
      refine lv_isub hx hb dX0_body_53 ?_
      exact x_iretg C0 hG ⟨by omega, by omega⟩ dX0_body_54 hF
    · have hF := ifp hF c_6
      refine lv_bipush (v := (-3)) hx hb dX0_body_21 (by decide) ?_
      exact x_iretg C0 hG ⟨by omega, by omega⟩ dX0_body_23 hF
  · have hF := ifp hF c_4
    refine lv_iconst (v := (-1)) hx hb dX0_body_10 (by decide) ?_
    exact x_iretg C0 hG ⟨by omega, by omega⟩ dX0_body_11 hF
theorem mtX_body (l : Launch) (hst : l.stackTraces = false) {N : Nat} {L : xL} {g : xg} {σ σ' : xS} {r : Int32} {a0 : Int32} (hF : fX_body N σ a0 = some (σ', r)) : xMetg l yX0_body cX0_body 2 (some .int) (7) (149) 1 5 [.ref L.1, .int a0] L g σ (fun g => (some (.int r))) σ' := by
  refine x_headg hst (by decide) rfl ?_
  intro p e s m below meth c A C0 hG
  have hl := lv_entry ([.ref L.1, .int a0]) (n := 2) (Nat.le_of_ble_eq_true rfl)
  rw [lg_entry_eq]
  generalize (lg_sl ([.ref L.1, .int a0]) ++ List.replicate (2 - (lg_sl ([.ref L.1, .int a0])).length) Slot.unset).toArray = ls at hl ⊢
  have hl : lv_has ls 2 [(0, .ref L.1), (1, .int a0)] := hl
  exact bX_body_e C0 ⟨Nat.le_refl _, Nat.le_refl _, Nat.le_refl _, Nat.le_refl _⟩ _ _ _ [] ls 0 0 ⟨Nat.le_of_ble_eq_true rfl, Nat.le_of_ble_eq_true rfl⟩ hG hl hF
end XHWALK
