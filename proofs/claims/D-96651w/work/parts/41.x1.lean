section XWALK1
variable {p : Program} {l : Launch} {e : Env} {R : Room} {s : State} {m : MethodId} {args : Array Value} {below : List Frame} {meth : Method} {c : Code} {A : Nat → Prop}
variable {L : xL} {g : xg}
def fX_feed (N : Nat) (σ : xS) (a0 : Int32) : Option (xS × Int32) :=
  obi (fX_in N σ a0 0 255) fun σ_1 r_2 =>
  if r_2 = 0 then (
    some (σ_1, (-1)))
  else (
    nmv (xI σ_1 9) fun x_5 =>
    if x_5 = 120 then (
      some (σ_1, (-3)))
    else (
      nmv (xI σ_1 9) fun x_7 =>
      chk x_7 120 <| nmv (xSj σ_1 8 x_7.toNatClampNeg (a0.toInt8.toInt32).toInt8.toInt32) fun σ_8 =>
      nmv (xI σ_8 9) fun x_9 =>
      nmv (xSi σ_8 9 (x_9 + 1)) fun σ_10 =>
      nmv (xI σ_10 9) fun x_11 =>
      some (σ_10, x_11)))
theorem bX_feed_e {N : Nat} (C0 : xCx p l s m args meth c RX0 cX0_feed 2 (some .int) L A) (hRo : 1 ≤ R.frames ∧ 22 ≤ R.locals) {σ' : xS} {r : Int32} (σ : xS) (a0 : Int32) (H : Heap) (locs : List Loc) (ls : Array Slot) (hG : xG A L g s σ H locs) (hl : lv_has ls 2 [(0, .ref L.1), (1, .int a0)]) (hF : fX_feed N σ a0 = some (σ', r)) : W p l e R s m args below meth c H locs 0 0 (xZ below L g A s args σ' (some (.int r)) 0 0) (F0 m 0 ls []) := by
  have hx := C0.1
  have hb := C0.2.1
  have hst := C0.2.2.2.2.2.2.2.2.2.2
  unfold fX_feed at hF
  refine lv_iload_n hx hb dX0_feed_0 rfl (lv_at hl 1 rfl) ?_
  refine lv_iconst (v := 0) hx hb dX0_feed_1 (by decide) ?_
  refine lv_sipush (v := 255) hx hb dX0_feed_2 (by decide) ?_
  obtain ⟨σ_1, r_2, e_3, hF⟩ := obi_of hF
  refine x_cSi0 (As := [.int a0, .int 0, .int 255]) (rest := []) C0 hG (mtX_in l hst e_3) (lw_S q316 q317 q100 q318) yd_X0_in ⟨by omega, by omega⟩ ⟨by omega, by omega⟩ rfl rfl hl.1 (Nat.le_of_ble_eq_true rfl) dX0_feed_5 (fun H locs hG => ?_)
  refine lv_if_ne (tgt := 13) hx hb dX0_feed_8 (by decide) (fun c_4 => ?_) (fun c_4 => ?_)
  · have hF := ifn hF c_4
    refine lv_aload_n hx hb dX0_feed_13 rfl (lv_at hl 0 rfl) ?_
    refine x_geti C0 hG 9 (by decide) rfl q185 dX0_feed_14 hF (fun x_5 hF => ?_)
    refine lv_bipush (v := 120) hx hb dX0_feed_17 (by decide) ?_
    refine lv_icmp_ne (tgt := 25) hx hb dX0_feed_19 (by decide) (fun c_6 => ?_) (fun c_6 => ?_)
    · have hF := ifn hF c_6
      refine lv_aload_n hx hb dX0_feed_25 rfl (lv_at hl 0 rfl) ?_
      refine x_geta C0 hG 8 (by decide) rfl (by decide) q182 dX0_feed_26 ?_
      refine lv_aload_n hx hb dX0_feed_29 rfl (lv_at hl 0 rfl) ?_
      refine x_geti C0 hG 9 (by decide) rfl q185 dX0_feed_30 hF (fun x_7 hF => ?_)
      refine lv_iload_n hx hb dX0_feed_33 rfl (lv_at hl 1 rfl) ?_
      refine lv_i2b (v := a0.toInt8.toInt32) hx hb dX0_feed_34 rfl ?_
      refine x_bst C0 hG 8 ⟨by decide, rfl, rfl⟩ dX0_feed_35 hF (fun σ_8 H locs hG hF => ?_)
      refine lv_aload_n hx hb dX0_feed_36 rfl (lv_at hl 0 rfl) ?_
      refine lv_dup hx hb dX0_feed_37 rfl ?_
      refine x_geti C0 hG 9 (by decide) rfl q185 dX0_feed_38 hF (fun x_9 hF => ?_)
      refine lv_iconst (v := 1) hx hb dX0_feed_41 (by decide) ?_
      refine lv_iadd hx hb dX0_feed_42 ?_
      refine x_puti C0 hG 9 (by decide) rfl q185 dX0_feed_43 (Or.inl (by decide)) hF (fun σ_10 H locs hG hF => ?_)
      refine lv_aload_n hx hb dX0_feed_46 rfl (lv_at hl 0 rfl) ?_
      refine x_geti C0 hG 9 (by decide) rfl q185 dX0_feed_47 hF (fun x_11 hF => ?_)
      exact x_iret C0 hG ⟨by omega, by omega⟩ dX0_feed_50 hF
    · have hF := ifp hF c_6
      refine lv_bipush (v := (-3)) hx hb dX0_feed_22 (by decide) ?_
      exact x_iret C0 hG ⟨by omega, by omega⟩ dX0_feed_24 hF
  · have hF := ifp hF c_4
    refine lv_iconst (v := (-1)) hx hb dX0_feed_11 (by decide) ?_
    exact x_iret C0 hG ⟨by omega, by omega⟩ dX0_feed_12 hF
theorem mtX_feed (l : Launch) (hst : l.stackTraces = false) {N : Nat} {L : xL} {g : xg} {σ σ' : xS} {r : Int32} {a0 : Int32} (hF : fX_feed N σ a0 = some (σ', r)) : xMet l yX0_feed cX0_feed 2 (some .int) (1) (22) 0 0 [.ref L.1, .int a0] L g σ (some (.int r)) σ' := by
  refine x_head hst (by decide) rfl ?_
  intro p e s m below meth c A C0 hG
  have hl := lv_entry ([.ref L.1, .int a0]) (n := 2) (Nat.le_of_ble_eq_true rfl)
  rw [lg_entry_eq]
  generalize (lg_sl ([.ref L.1, .int a0]) ++ List.replicate (2 - (lg_sl ([.ref L.1, .int a0])).length) Slot.unset).toArray = ls at hl ⊢
  have hl : lv_has ls 2 [(0, .ref L.1), (1, .int a0)] := hl
  exact bX_feed_e C0 ⟨Nat.le_refl _, Nat.le_refl _⟩ _ _ _ [] ls hG hl hF
def fX_begin_b2 (N : Nat) : Nat → xS → Int32 → Option (xS × Unit)
  | 0, _, _ => none
  | n + 1, σ, x1 =>
    nmv (xI σ 1) fun x_1 =>
    if x_1 ≤ x1 then (
      some (σ, ()))
    else (
      chk x1 8 <| nmv (xSj σ 13 x1.toNatClampNeg 0) fun σ_3 =>
      nmv (x1 + 1) fun x_4 =>
      (fX_begin_b2 N n) σ_3 x_4)
def fX_begin (N : Nat) (σ : xS) : Option (xS × Unit) :=
  fX_begin_b2 N N σ 0
theorem bX_begin_2 {N : Nat} (C0 : xCx p l s m args meth c RX0 cX0_begin 2 none L A) (hRo : 0 ≤ R.frames ∧ 0 ≤ R.locals) {σ' : xS} {r : Unit} : ∀ (n : Nat) (σ : xS) (x1 : Int32) (H : Heap) (locs : List Loc) (ls : Array Slot), xG A L g s σ H locs → lv_has ls 2 [(0, .ref L.1), (1, .int x1)] → fX_begin_b2 N n σ x1 = some (σ', r) → W p l e R s m args below meth c H locs 0 0 (xZ below L g A s args σ' none 0 0) (F0 m 2 ls []) := by
  have hx := C0.1
  have hb := C0.2.1
  have hst := C0.2.2.2.2.2.2.2.2.2.2
  intro n
  induction n with
  | zero => intro σ x1 H locs ls hG hl hF; cases hF
  | succ n ih =>
    intro σ x1 H locs ls hG hl hF
    unfold fX_begin_b2 at hF
    refine lv_iload_n hx hb dX0_begin_2 rfl (lv_at hl 1 rfl) ?_
    refine lv_aload_n hx hb dX0_begin_3 rfl (lv_at hl 0 rfl) ?_
    refine x_geti C0 hG 1 (by decide) rfl q175 dX0_begin_4 hF (fun x_1 hF => ?_)
    refine lv_icmp_ge (tgt := 23) hx hb dX0_begin_7 (by decide) (fun c_2 => ?_) (fun c_2 => ?_)
    · have hF := ifp hF c_2
      exact x_vret C0 hG ⟨by omega, by omega⟩ dX0_begin_23 hF
    · have hF := ifn hF c_2
      refine lv_aload_n hx hb dX0_begin_10 rfl (lv_at hl 0 rfl) ?_
      refine x_geta C0 hG 13 (by decide) rfl (by decide) q189 dX0_begin_11 ?_
      refine lv_iload_n hx hb dX0_begin_14 rfl (lv_at hl 1 rfl) ?_
      refine lv_iconst (v := 0) hx hb dX0_begin_15 (by decide) ?_
      refine x_st C0 hG 13 ⟨by decide, rfl, rfl⟩ dX0_begin_16 hF (fun σ_3 H locs hG hF => ?_)
      refine w_iinc hx hb dX0_begin_17 hl 1 rfl (v := 1) (by decide) (by decide) hF (fun x_4 ls hl hF => ?_)
      have hl : lv_has ls 2 [(1, .int x_4), (0, .ref L.1)] := hl
      refine lv_goto (tgt := 2) hx hb dX0_begin_20 (by decide) ?_
      exact ih _ _ H locs ls hG (lv_sub hl [1, 0] rfl) hF
theorem bX_begin_e {N : Nat} (C0 : xCx p l s m args meth c RX0 cX0_begin 2 none L A) (hRo : 0 ≤ R.frames ∧ 0 ≤ R.locals) {σ' : xS} {r : Unit} (σ : xS) (H : Heap) (locs : List Loc) (ls : Array Slot) (hG : xG A L g s σ H locs) (hl : lv_has ls 2 [(0, .ref L.1)]) (hF : fX_begin N σ = some (σ', r)) : W p l e R s m args below meth c H locs 0 0 (xZ below L g A s args σ' none 0 0) (F0 m 0 ls []) := by
  have hx := C0.1
  have hb := C0.2.1
  have hst := C0.2.2.2.2.2.2.2.2.2.2
  unfold fX_begin at hF
  refine lv_iconst (v := 0) hx hb dX0_begin_0 (by decide) ?_
  refine lv_istore_n (lv' := [(1, .int 0), (0, .ref L.1)]) hx hb dX0_begin_1 rfl hl (by decide) rfl (fun ls hl => ?_)
  exact bX_begin_2 C0 hRo N _ _ H locs ls hG (lv_sub hl [1, 0] rfl) hF
theorem mtX_begin (l : Launch) (hst : l.stackTraces = false) {N : Nat} {L : xL} {g : xg} {σ σ' : xS} {r : Unit} (hF : fX_begin N σ = some (σ', r)) : xMet l yX0_begin cX0_begin 2 none (0) (0) 0 0 [.ref L.1] L g σ none σ' := by
  refine x_head hst (by decide) rfl ?_
  intro p e s m below meth c A C0 hG
  have hl := lv_entry ([.ref L.1]) (n := 2) (Nat.le_of_ble_eq_true rfl)
  rw [lg_entry_eq]
  generalize (lg_sl ([.ref L.1]) ++ List.replicate (2 - (lg_sl ([.ref L.1])).length) Slot.unset).toArray = ls at hl ⊢
  have hl : lv_has ls 2 [(0, .ref L.1)] := hl
  exact bX_begin_e C0 ⟨Nat.le_refl _, Nat.le_refl _⟩ _ _ [] ls hG hl hF
def fX_goCount_b86 (N : Nat) (σ : xS) (x1 : Int32) : Option (xS × Unit) :=
  nmv (xI σ 17) fun x_15 =>
  if x1 = x_15 then (
    nmv (xI σ 16) fun x_17 =>
    chk x_17 8 <| nmv (xJ σ 13 x_17.toNatClampNeg) fun x_18 =>
    nmv (xI σ 18) fun x_19 =>
    chk x_17 8 <| nmv (xSj σ 13 x_17.toNatClampNeg (x_18 + x_19)) fun σ_20 =>
    some (σ_20, ()))
  else (
    some (σ, ()))
def fX_goCount_b57 (N : Nat) : Nat → xS → Int32 → Int32 → Option (xS × Unit)
  | 0, _, _, _ => none
  | n + 1, σ, x1, x2 =>
    nmv (xI σ 1) fun x_21 =>
    if x_21 ≤ x2 then (
      fX_goCount_b86 N σ x1)
    else (
      nmv (xI σ 2) fun x_23 =>
      chk x_23 8 <| nmv (xJ σ 13 x_23.toNatClampNeg) fun x_24 =>
      chk x2 8 <| nmv (xSj σ 13 x2.toNatClampNeg x_24) fun σ_25 =>
      nmv (x2 + 1) fun x_26 =>
      (fX_goCount_b57 N n) σ_25 x1 x_26)
def fX_goCount_b2 (N : Nat) : Nat → xS → Int32 → Int32 → Option (xS × Unit)
  | 0, _, _, _ => none
  | n + 1, σ, x1, x2 =>
    nmv (xI σ 1) fun x_1 =>
    if x_1 ≤ x2 then (
      chk x1 60 <| nmv (xJ σ 12 x1.toNatClampNeg) fun x_3 =>
      if x_3 = 4 then (
        nmv (xI σ 2) fun x_5 =>
        obi (fX_isOne N σ x_5) fun σ_6 r_7 =>
        if r_7 = 0 then (
          fX_goCount_b86 N σ_6 x1)
        else (
          fX_goCount_b57 N N σ_6 x1 0))
      else (
        fX_goCount_b86 N σ x1))
    else (
      chk x2 8 <| nmv (xJ σ 13 x2.toNatClampNeg) fun x_10 =>
      chk x2 8 <| chl x2.toNatClampNeg (xn σ) <| nmv x2.toNatClampNeg fun u_11 =>
      chl u_11 (xn σ) <| nmv (xE σ u_11 4) fun x_12 =>
      chk x2 8 <| nmv (xSj σ 13 x2.toNatClampNeg (x_10 + x_12)) fun σ_13 =>
      nmv (x2 + 1) fun x_14 =>
      (fX_goCount_b2 N n) σ_13 x1 x_14)
def fX_goCount (N : Nat) (σ : xS) (a0 : Int32) : Option (xS × Unit) :=
  fX_goCount_b2 N N σ a0 0
theorem bX_goCount_86 {N : Nat} (C0 : xCx p l s m args meth c RX0 cX0_goCount 3 none L A) (hRo : 2 ≤ R.frames ∧ 43 ≤ R.locals) {σ' : xS} {r : Unit} (σ : xS) (x1 : Int32) (H : Heap) (locs : List Loc) (ls : Array Slot) (hG : xG A L g s σ H locs) (hl : lv_has ls 3 [(0, .ref L.1), (1, .int x1)]) (hF : fX_goCount_b86 N σ x1 = some (σ', r)) : W p l e R s m args below meth c H locs 0 0 (xZ below L g A s args σ' none 0 0) (F0 m 86 ls []) := by
  have hx := C0.1
  have hb := C0.2.1
  have hst := C0.2.2.2.2.2.2.2.2.2.2
  unfold fX_goCount_b86 at hF
  refine lv_iload_n hx hb dX0_goCount_86 rfl (lv_at hl 1 rfl) ?_
  refine lv_aload_n hx hb dX0_goCount_87 rfl (lv_at hl 0 rfl) ?_
  refine x_geti C0 hG 17 (by decide) rfl q193 dX0_goCount_88 hF (fun x_15 hF => ?_)
  refine lv_icmp_ne (tgt := 110) hx hb dX0_goCount_91 (by decide) (fun c_16 => ?_) (fun c_16 => ?_)
  · have hF := ifn hF c_16
    exact x_vret C0 hG ⟨by omega, by omega⟩ dX0_goCount_110 hF
  · have hF := ifp hF c_16
    refine lv_aload_n hx hb dX0_goCount_94 rfl (lv_at hl 0 rfl) ?_
    refine x_geta C0 hG 13 (by decide) rfl (by decide) q189 dX0_goCount_95 ?_
    refine lv_aload_n hx hb dX0_goCount_98 rfl (lv_at hl 0 rfl) ?_
    refine x_geti C0 hG 16 (by decide) rfl q192 dX0_goCount_99 hF (fun x_17 hF => ?_)
    refine lv_dup2_11 hx hb dX0_goCount_102 rfl rfl ?_
    refine x_ld C0 hG 13 ⟨by decide, rfl, rfl⟩ dX0_goCount_103 hF (fun x_18 hF => ?_)
    refine lv_aload_n hx hb dX0_goCount_104 rfl (lv_at hl 0 rfl) ?_
    refine x_geti C0 hG 18 (by decide) rfl q194 dX0_goCount_105 hF (fun x_19 hF => ?_)
    refine lv_iadd hx hb dX0_goCount_108 ?_
    refine x_st C0 hG 13 ⟨by decide, rfl, rfl⟩ dX0_goCount_109 hF (fun σ_20 H locs hG hF => ?_)
    exact x_vret C0 hG ⟨by omega, by omega⟩ dX0_goCount_110 hF
theorem bX_goCount_57 {N : Nat} (C0 : xCx p l s m args meth c RX0 cX0_goCount 3 none L A) (hRo : 2 ≤ R.frames ∧ 43 ≤ R.locals) {σ' : xS} {r : Unit} : ∀ (n : Nat) (σ : xS) (x1 : Int32) (x2 : Int32) (H : Heap) (locs : List Loc) (ls : Array Slot), xG A L g s σ H locs → lv_has ls 3 [(0, .ref L.1), (1, .int x1), (2, .int x2)] → fX_goCount_b57 N n σ x1 x2 = some (σ', r) → W p l e R s m args below meth c H locs 0 0 (xZ below L g A s args σ' none 0 0) (F0 m 57 ls []) := by
  have hx := C0.1
  have hb := C0.2.1
  have hst := C0.2.2.2.2.2.2.2.2.2.2
  intro n
  induction n with
  | zero => intro σ x1 x2 H locs ls hG hl hF; cases hF
  | succ n ih =>
    intro σ x1 x2 H locs ls hG hl hF
    unfold fX_goCount_b57 at hF
    refine lv_iload_n hx hb dX0_goCount_57 rfl (lv_at hl 2 rfl) ?_
    refine lv_aload_n hx hb dX0_goCount_58 rfl (lv_at hl 0 rfl) ?_
    refine x_geti C0 hG 1 (by decide) rfl q175 dX0_goCount_59 hF (fun x_21 hF => ?_)
    refine lv_icmp_ge (tgt := 86) hx hb dX0_goCount_62 (by decide) (fun c_22 => ?_) (fun c_22 => ?_)
    · have hF := ifp hF c_22
      exact bX_goCount_86 C0 hRo _ _ H locs ls hG (lv_sub hl [0, 1] rfl) hF
    · have hF := ifn hF c_22
      refine lv_aload_n hx hb dX0_goCount_65 rfl (lv_at hl 0 rfl) ?_
      refine x_geta C0 hG 13 (by decide) rfl (by decide) q189 dX0_goCount_66 ?_
      refine lv_iload_n hx hb dX0_goCount_69 rfl (lv_at hl 2 rfl) ?_
      refine lv_aload_n hx hb dX0_goCount_70 rfl (lv_at hl 0 rfl) ?_
      refine x_geta C0 hG 13 (by decide) rfl (by decide) q189 dX0_goCount_71 ?_
      refine lv_aload_n hx hb dX0_goCount_74 rfl (lv_at hl 0 rfl) ?_
      refine x_geti C0 hG 2 (by decide) rfl q176 dX0_goCount_75 hF (fun x_23 hF => ?_)
      refine x_ld C0 hG 13 ⟨by decide, rfl, rfl⟩ dX0_goCount_78 hF (fun x_24 hF => ?_)
      refine x_st C0 hG 13 ⟨by decide, rfl, rfl⟩ dX0_goCount_79 hF (fun σ_25 H locs hG hF => ?_)
      refine w_iinc hx hb dX0_goCount_80 hl 2 rfl (v := 1) (by decide) (by decide) hF (fun x_26 ls hl hF => ?_)
      have hl : lv_has ls 3 [(2, .int x_26), (0, .ref L.1), (1, .int x1)] := hl
      refine lv_goto (tgt := 57) hx hb dX0_goCount_83 (by decide) ?_
      exact ih _ _ _ H locs ls hG (lv_sub hl [1, 2, 0] rfl) hF
theorem bX_goCount_2 {N : Nat} (C0 : xCx p l s m args meth c RX0 cX0_goCount 3 none L A) (hRo : 2 ≤ R.frames ∧ 43 ≤ R.locals) {σ' : xS} {r : Unit} : ∀ (n : Nat) (σ : xS) (x1 : Int32) (x2 : Int32) (H : Heap) (locs : List Loc) (ls : Array Slot), xG A L g s σ H locs → lv_has ls 3 [(0, .ref L.1), (1, .int x1), (2, .int x2)] → fX_goCount_b2 N n σ x1 x2 = some (σ', r) → W p l e R s m args below meth c H locs 0 0 (xZ below L g A s args σ' none 0 0) (F0 m 2 ls []) := by
  have hx := C0.1
  have hb := C0.2.1
  have hst := C0.2.2.2.2.2.2.2.2.2.2
  intro n
  induction n with
  | zero => intro σ x1 x2 H locs ls hG hl hF; cases hF
  | succ n ih =>
    intro σ x1 x2 H locs ls hG hl hF
    unfold fX_goCount_b2 at hF
    refine lv_iload_n hx hb dX0_goCount_2 rfl (lv_at hl 2 rfl) ?_
    refine lv_aload_n hx hb dX0_goCount_3 rfl (lv_at hl 0 rfl) ?_
    refine x_geti C0 hG 1 (by decide) rfl q175 dX0_goCount_4 hF (fun x_1 hF => ?_)
    refine lv_icmp_ge (tgt := 34) hx hb dX0_goCount_7 (by decide) (fun c_2 => ?_) (fun c_2 => ?_)
    · have hF := ifp hF c_2
      refine lv_aload_n hx hb dX0_goCount_34 rfl (lv_at hl 0 rfl) ?_
      refine x_geta C0 hG 12 (by decide) rfl (by decide) q188 dX0_goCount_35 ?_
      refine lv_iload_n hx hb dX0_goCount_38 rfl (lv_at hl 1 rfl) ?_
      refine x_ld C0 hG 12 ⟨by decide, rfl, rfl⟩ dX0_goCount_39 hF (fun x_3 hF => ?_)
      refine lv_iconst (v := 4) hx hb dX0_goCount_40 (by decide) ?_
      refine lv_icmp_ne (tgt := 86) hx hb dX0_goCount_41 (by decide) (fun c_4 => ?_) (fun c_4 => ?_)
      · have hF := ifn hF c_4
        exact bX_goCount_86 C0 hRo _ _ H locs ls hG (lv_sub hl [0, 1] rfl) hF
      · have hF := ifp hF c_4
        refine lv_aload_n hx hb dX0_goCount_44 rfl (lv_at hl 0 rfl) ?_
        refine lv_aload_n hx hb dX0_goCount_45 rfl (lv_at hl 0 rfl) ?_
        refine x_geti C0 hG 2 (by decide) rfl q176 dX0_goCount_46 hF (fun x_5 hF => ?_)
        obtain ⟨σ_6, r_7, e_8, hF⟩ := obi_of hF
        refine x_cVi0 (As := [.int x_5]) (rest := []) C0 hG (mtX_isOne l hst e_8) (lw_V q517 q519 qs5 q100 q520) yd_X0_isOne (x_rc0 C0 hG) ⟨by omega, by omega⟩ ⟨by omega, by omega⟩ rfl rfl hl.1 (Nat.le_of_ble_eq_true rfl) dX0_goCount_49 (fun H locs hG => ?_)
        refine lv_if_eq (tgt := 86) hx hb dX0_goCount_52 (by decide) (fun c_9 => ?_) (fun c_9 => ?_)
        · have hF := ifp hF c_9
          exact bX_goCount_86 C0 hRo _ _ H locs ls hG (lv_sub hl [0, 1] rfl) hF
        · have hF := ifn hF c_9
          refine lv_iconst (v := 0) hx hb dX0_goCount_55 (by decide) ?_
          refine lv_istore_n (lv' := [(2, .int 0), (0, .ref L.1), (1, .int x1)]) hx hb dX0_goCount_56 rfl hl (by decide) rfl (fun ls hl => ?_)
          exact bX_goCount_57 C0 hRo N _ _ _ H locs ls hG (lv_sub hl [1, 2, 0] rfl) hF
    · have hF := ifn hF c_2
      refine lv_aload_n hx hb dX0_goCount_10 rfl (lv_at hl 0 rfl) ?_
      refine x_geta C0 hG 13 (by decide) rfl (by decide) q189 dX0_goCount_11 ?_
      refine lv_iload_n hx hb dX0_goCount_14 rfl (lv_at hl 2 rfl) ?_
      refine lv_dup2_11 hx hb dX0_goCount_15 rfl rfl ?_
      refine x_ld C0 hG 13 ⟨by decide, rfl, rfl⟩ dX0_goCount_16 hF (fun x_10 hF => ?_)
      refine lv_aload_n hx hb dX0_goCount_17 rfl (lv_at hl 0 rfl) ?_
      refine x_geta C0 hG 0 (by decide) rfl (by decide) q174 dX0_goCount_18 ?_
      refine lv_iload_n hx hb dX0_goCount_21 rfl (lv_at hl 2 rfl) ?_
      refine x_swld C0 hG dX0_goCount_22 hF (fun u_11 hF => ?_)
      refine x_swg C0 hG 4 (by decide) q336 dX0_goCount_23 hF (fun x_12 hF => ?_)
      refine lv_iadd hx hb dX0_goCount_26 ?_
      refine x_st C0 hG 13 ⟨by decide, rfl, rfl⟩ dX0_goCount_27 hF (fun σ_13 H locs hG hF => ?_)
      refine w_iinc hx hb dX0_goCount_28 hl 2 rfl (v := 1) (by decide) (by decide) hF (fun x_14 ls hl hF => ?_)
      have hl : lv_has ls 3 [(2, .int x_14), (0, .ref L.1), (1, .int x1)] := hl
      refine lv_goto (tgt := 2) hx hb dX0_goCount_31 (by decide) ?_
      exact ih _ _ _ H locs ls hG (lv_sub hl [1, 2, 0] rfl) hF
theorem bX_goCount_e {N : Nat} (C0 : xCx p l s m args meth c RX0 cX0_goCount 3 none L A) (hRo : 2 ≤ R.frames ∧ 43 ≤ R.locals) {σ' : xS} {r : Unit} (σ : xS) (a0 : Int32) (H : Heap) (locs : List Loc) (ls : Array Slot) (hG : xG A L g s σ H locs) (hl : lv_has ls 3 [(0, .ref L.1), (1, .int a0)]) (hF : fX_goCount N σ a0 = some (σ', r)) : W p l e R s m args below meth c H locs 0 0 (xZ below L g A s args σ' none 0 0) (F0 m 0 ls []) := by
  have hx := C0.1
  have hb := C0.2.1
  have hst := C0.2.2.2.2.2.2.2.2.2.2
  unfold fX_goCount at hF
  refine lv_iconst (v := 0) hx hb dX0_goCount_0 (by decide) ?_
  refine lv_istore_n (lv' := [(2, .int 0), (0, .ref L.1), (1, .int a0)]) hx hb dX0_goCount_1 rfl hl (by decide) rfl (fun ls hl => ?_)
  exact bX_goCount_2 C0 hRo N _ _ _ H locs ls hG (lv_sub hl [1, 2, 0] rfl) hF
theorem mtX_goCount (l : Launch) (hst : l.stackTraces = false) {N : Nat} {L : xL} {g : xg} {σ σ' : xS} {r : Unit} {a0 : Int32} (hF : fX_goCount N σ a0 = some (σ', r)) : xMet l yX0_goCount cX0_goCount 3 none (2) (43) 0 0 [.ref L.1, .int a0] L g σ none σ' := by
  refine x_head hst (by decide) rfl ?_
  intro p e s m below meth c A C0 hG
  have hl := lv_entry ([.ref L.1, .int a0]) (n := 3) (Nat.le_of_ble_eq_true rfl)
  rw [lg_entry_eq]
  generalize (lg_sl ([.ref L.1, .int a0]) ++ List.replicate (3 - (lg_sl ([.ref L.1, .int a0])).length) Slot.unset).toArray = ls at hl ⊢
  have hl : lv_has ls 3 [(0, .ref L.1), (1, .int a0)] := hl
  exact bX_goCount_e C0 ⟨Nat.le_refl _, Nat.le_refl _⟩ _ _ _ [] ls hG hl hF
def fX_offOf (N : Nat) (σ : xS) (a0 : Int32) : Option (xS × Int32) :=
  chk a0 8 <| nmv (xJ σ 13 a0.toNatClampNeg) fun x_1 =>
  chk a0 8 <| chl a0.toNatClampNeg (xn σ) <| nmv a0.toNatClampNeg fun u_2 =>
  chl u_2 (xn σ) <| nmv (xE σ u_2 5) fun x_3 =>
  some (σ, x_1 - x_3)
theorem bX_offOf_e {N : Nat} (C0 : xCx p l s m args meth c RX0 cX0_offOf 2 (some .int) L A) (hRo : 0 ≤ R.frames ∧ 0 ≤ R.locals) {σ' : xS} {r : Int32} (σ : xS) (a0 : Int32) (H : Heap) (locs : List Loc) (ls : Array Slot) (hG : xG A L g s σ H locs) (hl : lv_has ls 2 [(0, .ref L.1), (1, .int a0)]) (hF : fX_offOf N σ a0 = some (σ', r)) : W p l e R s m args below meth c H locs 0 0 (xZ below L g A s args σ' (some (.int r)) 0 0) (F0 m 0 ls []) := by
  have hx := C0.1
  have hb := C0.2.1
  have hst := C0.2.2.2.2.2.2.2.2.2.2
  unfold fX_offOf at hF
  refine lv_aload_n hx hb dX0_offOf_0 rfl (lv_at hl 0 rfl) ?_
  refine x_geta C0 hG 13 (by decide) rfl (by decide) q189 dX0_offOf_1 ?_
  refine lv_iload_n hx hb dX0_offOf_4 rfl (lv_at hl 1 rfl) ?_
  refine x_ld C0 hG 13 ⟨by decide, rfl, rfl⟩ dX0_offOf_5 hF (fun x_1 hF => ?_)
  refine lv_aload_n hx hb dX0_offOf_6 rfl (lv_at hl 0 rfl) ?_
  refine x_geta C0 hG 0 (by decide) rfl (by decide) q174 dX0_offOf_7 ?_
  refine lv_iload_n hx hb dX0_offOf_10 rfl (lv_at hl 1 rfl) ?_
  refine x_swld C0 hG dX0_offOf_11 hF (fun u_2 hF => ?_)
  refine x_swg C0 hG 5 (by decide) q337 dX0_offOf_12 hF (fun x_3 hF => ?_)
  refine lv_isub hx hb dX0_offOf_15 ?_
  exact x_iret C0 hG ⟨by omega, by omega⟩ dX0_offOf_16 hF
theorem mtX_offOf (l : Launch) (hst : l.stackTraces = false) {N : Nat} {L : xL} {g : xg} {σ σ' : xS} {r : Int32} {a0 : Int32} (hF : fX_offOf N σ a0 = some (σ', r)) : xMet l yX0_offOf cX0_offOf 2 (some .int) (0) (0) 0 0 [.ref L.1, .int a0] L g σ (some (.int r)) σ' := by
  refine x_head hst (by decide) rfl ?_
  intro p e s m below meth c A C0 hG
  have hl := lv_entry ([.ref L.1, .int a0]) (n := 2) (Nat.le_of_ble_eq_true rfl)
  rw [lg_entry_eq]
  generalize (lg_sl ([.ref L.1, .int a0]) ++ List.replicate (2 - (lg_sl ([.ref L.1, .int a0])).length) Slot.unset).toArray = ls at hl ⊢
  have hl : lv_has ls 2 [(0, .ref L.1), (1, .int a0)] := hl
  exact bX_offOf_e C0 ⟨Nat.le_refl _, Nat.le_refl _⟩ _ _ _ [] ls hG hl hF
def fX_apartOf (N : Nat) (σ : xS) (a0 : Int32) (a1 : Int32) : Option (xS × Int32) :=
  obi (fX_offOf N σ a0) fun σ_1 r_2 =>
  obi (fX_offOf N σ_1 a1) fun σ_4 r_5 =>
  nmv (if 0 ≤ (r_2 - r_5) then (r_2 - r_5) else 0 - (r_2 - r_5)) fun x_7 =>
  some (σ_4, x_7)
theorem bX_apartOf_e {N : Nat} (C0 : xCx p l s m args meth c RX0 cX0_apartOf 3 (some .int) L A) (hRo : 1 ≤ R.frames ∧ 21 ≤ R.locals) {σ' : xS} {r : Int32} (σ : xS) (a0 : Int32) (a1 : Int32) (H : Heap) (locs : List Loc) (ls : Array Slot) (hG : xG A L g s σ H locs) (hl : lv_has ls 3 [(0, .ref L.1), (1, .int a0), (2, .int a1)]) (hF : fX_apartOf N σ a0 a1 = some (σ', r)) : W p l e R s m args below meth c H locs 0 0 (xZ below L g A s args σ' (some (.int r)) 0 0) (F0 m 0 ls []) := by
  have hx := C0.1
  have hb := C0.2.1
  have hst := C0.2.2.2.2.2.2.2.2.2.2
  unfold fX_apartOf at hF
  refine lv_aload_n hx hb dX0_apartOf_0 rfl (lv_at hl 0 rfl) ?_
  refine lv_iload_n hx hb dX0_apartOf_1 rfl (lv_at hl 1 rfl) ?_
  obtain ⟨σ_1, r_2, e_3, hF⟩ := obi_of hF
  refine x_cVi0 (As := [.int a0]) (rest := []) C0 hG (mtX_offOf l hst e_3) (lw_V q890 q892 qs28 q100 q893) yd_X0_offOf (x_rc0 C0 hG) ⟨by omega, by omega⟩ ⟨by omega, by omega⟩ rfl rfl hl.1 (Nat.le_of_ble_eq_true rfl) dX0_apartOf_2 (fun H locs hG => ?_)
  refine lv_aload_n hx hb dX0_apartOf_5 rfl (lv_at hl 0 rfl) ?_
  refine lv_iload_n hx hb dX0_apartOf_6 rfl (lv_at hl 2 rfl) ?_
  obtain ⟨σ_4, r_5, e_6, hF⟩ := obi_of hF
  refine x_cVi0 (As := [.int a1]) (rest := [.int r_2]) C0 hG (mtX_offOf l hst e_6) (lw_V q890 q892 qs28 q100 q893) yd_X0_offOf (x_rc0 C0 hG) ⟨by omega, by omega⟩ ⟨by omega, by omega⟩ rfl rfl hl.1 (Nat.le_of_ble_eq_true rfl) dX0_apartOf_7 (fun H locs hG => ?_)
  refine lv_isub hx hb dX0_apartOf_10 ?_
  refine x_abs C0 hl.1 q827 q825 q116 q826 ⟨by omega, by omega⟩ ⟨by omega, by omega⟩ (Nat.le_of_ble_eq_true rfl) dX0_apartOf_11 hF (fun x_7 hF => ?_)
  exact x_iret C0 hG ⟨by omega, by omega⟩ dX0_apartOf_14 hF
theorem mtX_apartOf (l : Launch) (hst : l.stackTraces = false) {N : Nat} {L : xL} {g : xg} {σ σ' : xS} {r : Int32} {a0 : Int32} {a1 : Int32} (hF : fX_apartOf N σ a0 a1 = some (σ', r)) : xMet l yX0_apartOf cX0_apartOf 3 (some .int) (1) (21) 0 0 [.ref L.1, .int a0, .int a1] L g σ (some (.int r)) σ' := by
  refine x_head hst (by decide) rfl ?_
  intro p e s m below meth c A C0 hG
  have hl := lv_entry ([.ref L.1, .int a0, .int a1]) (n := 3) (Nat.le_of_ble_eq_true rfl)
  rw [lg_entry_eq]
  generalize (lg_sl ([.ref L.1, .int a0, .int a1]) ++ List.replicate (3 - (lg_sl ([.ref L.1, .int a0, .int a1])).length) Slot.unset).toArray = ls at hl ⊢
  have hl : lv_has ls 3 [(0, .ref L.1), (1, .int a0), (2, .int a1)] := hl
  exact bX_apartOf_e C0 ⟨Nat.le_refl _, Nat.le_refl _⟩ _ _ _ _ [] ls hG hl hF
def fX_apartNow_b16 (N : Nat) (k4 : xS → Int32 → Int32 → Option (xS × Int32)) : Nat → xS → Int32 → Int32 → Int32 → Option (xS × Int32)
  | 0, _, _, _, _ => none
  | n + 1, σ, x1, x2, x3 =>
    nmv (xI σ 1) fun x_4 =>
    if x_4 ≤ x3 then (
      nmv (x2 + 1) fun x_6 =>
      k4 σ x1 x_6)
    else (
      obi (fX_apartOf N σ x2 x3) fun σ_7 r_8 =>
      nmv (if x1 < r_8 then r_8 else x1) fun x_10 =>
      nmv (x3 + 1) fun x_11 =>
      (fX_apartNow_b16 N k4 n) σ_7 x_10 x2 x_11)
def fX_apartNow_b4 (N : Nat) : Nat → xS → Int32 → Int32 → Option (xS × Int32)
  | 0, _, _, _ => none
  | n + 1, σ, x1, x2 =>
    nmv (xI σ 1) fun x_1 =>
    if x_1 ≤ x2 then (
      some (σ, x1))
    else (
      nmv (x2 + 1) fun x_3 =>
      fX_apartNow_b16 N (fX_apartNow_b4 N n) N σ x1 x2 x_3)
def fX_apartNow (N : Nat) (σ : xS) : Option (xS × Int32) :=
  fX_apartNow_b4 N N σ 0 0
theorem bX_apartNow_16 {N : Nat} (C0 : xCx p l s m args meth c RX0 cX0_apartNow 4 (some .int) L A) (hRo : 2 ≤ R.frames ∧ 43 ≤ R.locals) {σ' : xS} {r : Int32} {k4 : xS → Int32 → Int32 → Option (xS × Int32)} (hk4 : ∀ (σ : xS) (x1 : Int32) (x2 : Int32) (H : Heap) (locs : List Loc) (ls : Array Slot), xG A L g s σ H locs → lv_has ls 4 [(0, .ref L.1), (1, .int x1), (2, .int x2)] → k4 σ x1 x2 = some (σ', r) → W p l e R s m args below meth c H locs 0 0 (xZ below L g A s args σ' (some (.int r)) 0 0) (F0 m 4 ls [])) : ∀ (n : Nat) (σ : xS) (x1 : Int32) (x2 : Int32) (x3 : Int32) (H : Heap) (locs : List Loc) (ls : Array Slot), xG A L g s σ H locs → lv_has ls 4 [(0, .ref L.1), (1, .int x1), (2, .int x2), (3, .int x3)] → fX_apartNow_b16 N k4 n σ x1 x2 x3 = some (σ', r) → W p l e R s m args below meth c H locs 0 0 (xZ below L g A s args σ' (some (.int r)) 0 0) (F0 m 16 ls []) := by
  have hx := C0.1
  have hb := C0.2.1
  have hst := C0.2.2.2.2.2.2.2.2.2.2
  intro n
  induction n with
  | zero => intro σ x1 x2 x3 H locs ls hG hl hF; cases hF
  | succ n ih =>
    intro σ x1 x2 x3 H locs ls hG hl hF
    unfold fX_apartNow_b16 at hF
    refine lv_iload_n hx hb dX0_apartNow_16 rfl (lv_at hl 3 rfl) ?_
    refine lv_aload_n hx hb dX0_apartNow_17 rfl (lv_at hl 0 rfl) ?_
    refine x_geti C0 hG 1 (by decide) rfl q175 dX0_apartNow_18 hF (fun x_4 hF => ?_)
    refine lv_icmp_ge (tgt := 41) hx hb dX0_apartNow_21 (by decide) (fun c_5 => ?_) (fun c_5 => ?_)
    · have hF := ifp hF c_5
      refine w_iinc hx hb dX0_apartNow_41 hl 2 rfl (v := 1) (by decide) (by decide) hF (fun x_6 ls hl hF => ?_)
      have hl : lv_has ls 4 [(2, .int x_6), (0, .ref L.1), (1, .int x1), (3, .int x3)] := hl
      refine lv_goto (tgt := 4) hx hb dX0_apartNow_44 (by decide) ?_
      exact hk4 _ _ _ H locs ls hG (lv_sub hl [1, 2, 0] rfl) hF
    · have hF := ifn hF c_5
      refine lv_iload_n hx hb dX0_apartNow_24 rfl (lv_at hl 1 rfl) ?_
      refine lv_aload_n hx hb dX0_apartNow_25 rfl (lv_at hl 0 rfl) ?_
      refine lv_iload_n hx hb dX0_apartNow_26 rfl (lv_at hl 2 rfl) ?_
      refine lv_iload_n hx hb dX0_apartNow_27 rfl (lv_at hl 3 rfl) ?_
      obtain ⟨σ_7, r_8, e_9, hF⟩ := obi_of hF
      refine x_cVi0 (As := [.int x2, .int x3]) (rest := [.int x1]) C0 hG (mtX_apartOf l hst e_9) (lw_V q886 q888 qs27 q100 q889) yd_X0_apartOf (x_rc0 C0 hG) ⟨by omega, by omega⟩ ⟨by omega, by omega⟩ rfl rfl hl.1 (Nat.le_of_ble_eq_true rfl) dX0_apartNow_28 (fun H locs hG => ?_)
      refine x_max C0 hl.1 q857 q676 q116 q677 ⟨by omega, by omega⟩ ⟨by omega, by omega⟩ (Nat.le_of_ble_eq_true rfl) dX0_apartNow_31 hF (fun x_10 hF => ?_)
      refine lv_istore_n (lv' := [(1, .int x_10), (0, .ref L.1), (2, .int x2), (3, .int x3)]) hx hb dX0_apartNow_34 rfl hl (by decide) rfl (fun ls hl => ?_)
      refine w_iinc hx hb dX0_apartNow_35 hl 3 rfl (v := 1) (by decide) (by decide) hF (fun x_11 ls hl hF => ?_)
      have hl : lv_has ls 4 [(3, .int x_11), (1, .int x_10), (0, .ref L.1), (2, .int x2)] := hl
      refine lv_goto (tgt := 16) hx hb dX0_apartNow_38 (by decide) ?_
      exact ih _ _ _ _ H locs ls hG (lv_sub hl [2, 1, 3, 0] rfl) hF
theorem bX_apartNow_4 {N : Nat} (C0 : xCx p l s m args meth c RX0 cX0_apartNow 4 (some .int) L A) (hRo : 2 ≤ R.frames ∧ 43 ≤ R.locals) {σ' : xS} {r : Int32} : ∀ (n : Nat) (σ : xS) (x1 : Int32) (x2 : Int32) (H : Heap) (locs : List Loc) (ls : Array Slot), xG A L g s σ H locs → lv_has ls 4 [(0, .ref L.1), (1, .int x1), (2, .int x2)] → fX_apartNow_b4 N n σ x1 x2 = some (σ', r) → W p l e R s m args below meth c H locs 0 0 (xZ below L g A s args σ' (some (.int r)) 0 0) (F0 m 4 ls []) := by
  have hx := C0.1
  have hb := C0.2.1
  have hst := C0.2.2.2.2.2.2.2.2.2.2
  intro n
  induction n with
  | zero => intro σ x1 x2 H locs ls hG hl hF; cases hF
  | succ n ih =>
    intro σ x1 x2 H locs ls hG hl hF
    unfold fX_apartNow_b4 at hF
    refine lv_iload_n hx hb dX0_apartNow_4 rfl (lv_at hl 2 rfl) ?_
    refine lv_aload_n hx hb dX0_apartNow_5 rfl (lv_at hl 0 rfl) ?_
    refine x_geti C0 hG 1 (by decide) rfl q175 dX0_apartNow_6 hF (fun x_1 hF => ?_)
    refine lv_icmp_ge (tgt := 47) hx hb dX0_apartNow_9 (by decide) (fun c_2 => ?_) (fun c_2 => ?_)
    · have hF := ifp hF c_2
      refine lv_iload_n hx hb dX0_apartNow_47 rfl (lv_at hl 1 rfl) ?_
      exact x_iret C0 hG ⟨by omega, by omega⟩ dX0_apartNow_48 hF
    · have hF := ifn hF c_2
      refine lv_iload_n hx hb dX0_apartNow_12 rfl (lv_at hl 2 rfl) ?_
      refine lv_iconst (v := 1) hx hb dX0_apartNow_13 (by decide) ?_
      refine lv_iadd hx hb dX0_apartNow_14 ?_
      refine w_nm hF (fun x_3 hF => ?_)
      refine lv_istore_n (lv' := [(3, .int x_3), (0, .ref L.1), (1, .int x1), (2, .int x2)]) hx hb dX0_apartNow_15 rfl hl (by decide) rfl (fun ls hl => ?_)
      exact bX_apartNow_16 C0 hRo ih N _ _ _ _ H locs ls hG (lv_sub hl [1, 2, 3, 0] rfl) hF
theorem bX_apartNow_e {N : Nat} (C0 : xCx p l s m args meth c RX0 cX0_apartNow 4 (some .int) L A) (hRo : 2 ≤ R.frames ∧ 43 ≤ R.locals) {σ' : xS} {r : Int32} (σ : xS) (H : Heap) (locs : List Loc) (ls : Array Slot) (hG : xG A L g s σ H locs) (hl : lv_has ls 4 [(0, .ref L.1)]) (hF : fX_apartNow N σ = some (σ', r)) : W p l e R s m args below meth c H locs 0 0 (xZ below L g A s args σ' (some (.int r)) 0 0) (F0 m 0 ls []) := by
  have hx := C0.1
  have hb := C0.2.1
  have hst := C0.2.2.2.2.2.2.2.2.2.2
  unfold fX_apartNow at hF
  refine lv_iconst (v := 0) hx hb dX0_apartNow_0 (by decide) ?_
  refine lv_istore_n (lv' := [(1, .int 0), (0, .ref L.1)]) hx hb dX0_apartNow_1 rfl hl (by decide) rfl (fun ls hl => ?_)
  refine lv_iconst (v := 0) hx hb dX0_apartNow_2 (by decide) ?_
  refine lv_istore_n (lv' := [(2, .int 0), (1, .int 0), (0, .ref L.1)]) hx hb dX0_apartNow_3 rfl hl (by decide) rfl (fun ls hl => ?_)
  exact bX_apartNow_4 C0 hRo N _ _ _ H locs ls hG (lv_sub hl [2, 1, 0] rfl) hF
theorem mtX_apartNow (l : Launch) (hst : l.stackTraces = false) {N : Nat} {L : xL} {g : xg} {σ σ' : xS} {r : Int32} (hF : fX_apartNow N σ = some (σ', r)) : xMet l yX0_apartNow cX0_apartNow 4 (some .int) (2) (43) 0 0 [.ref L.1] L g σ (some (.int r)) σ' := by
  refine x_head hst (by decide) rfl ?_
  intro p e s m below meth c A C0 hG
  have hl := lv_entry ([.ref L.1]) (n := 4) (Nat.le_of_ble_eq_true rfl)
  rw [lg_entry_eq]
  generalize (lg_sl ([.ref L.1]) ++ List.replicate (4 - (lg_sl ([.ref L.1])).length) Slot.unset).toArray = ls at hl ⊢
  have hl : lv_has ls 4 [(0, .ref L.1)] := hl
  exact bX_apartNow_e C0 ⟨Nat.le_refl _, Nat.le_refl _⟩ _ _ [] ls hG hl hF
def fX_firstApart_b59 (N : Nat) (k20 : xS → Int32 → Int32 → Int32 → Int32 → Option (xS × Int32)) (σ : xS) (x1 : Int32) (x2 : Int32) (x3 : Int32) (x4 : Int32) : Option (xS × Int32) :=
  nmv (x4 + 1) fun x_15 =>
  k20 σ x1 x2 x3 x_15
def fX_firstApart_b20 (N : Nat) (k7 : xS → Int32 → Int32 → Int32 → Option (xS × Int32)) : Nat → xS → Int32 → Int32 → Int32 → Int32 → Option (xS × Int32)
  | 0, _, _, _, _, _ => none
  | n + 1, σ, x1, x2, x3, x4 =>
    nmv (xI σ 1) fun x_4 =>
    if x_4 ≤ x4 then (
      nmv (x3 + 1) fun x_6 =>
      k7 σ x1 x2 x_6)
    else (
      obi (fX_apartOf N σ x3 x4) fun σ_7 r_8 =>
      if x2 < r_8 then (
        nmv (((10 : Int32) * x3) + x4) fun x_11 =>
        obi (fX_apartOf N σ_7 x3 x4) fun σ_12 r_13 =>
        fX_firstApart_b59 N (fX_firstApart_b20 N k7 n) σ_12 x_11 r_13 x3 x4)
      else (
        fX_firstApart_b59 N (fX_firstApart_b20 N k7 n) σ_7 x1 x2 x3 x4))
def fX_firstApart_b7 (N : Nat) : Nat → xS → Int32 → Int32 → Int32 → Option (xS × Int32)
  | 0, _, _, _, _ => none
  | n + 1, σ, x1, x2, x3 =>
    nmv (xI σ 1) fun x_1 =>
    if x_1 ≤ x3 then (
      some (σ, x1))
    else (
      nmv (x3 + 1) fun x_3 =>
      fX_firstApart_b20 N (fX_firstApart_b7 N n) N σ x1 x2 x3 x_3)
def fX_firstApart (N : Nat) (σ : xS) : Option (xS × Int32) :=
  fX_firstApart_b7 N N σ (-2) (-1) 0
theorem bX_firstApart_59 {N : Nat} (C0 : xCx p l s m args meth c RX0 cX0_firstApart 5 (some .int) L A) (hRo : 2 ≤ R.frames ∧ 43 ≤ R.locals) {σ' : xS} {r : Int32} {k20 : xS → Int32 → Int32 → Int32 → Int32 → Option (xS × Int32)} (hk20 : ∀ (σ : xS) (x1 : Int32) (x2 : Int32) (x3 : Int32) (x4 : Int32) (H : Heap) (locs : List Loc) (ls : Array Slot), xG A L g s σ H locs → lv_has ls 5 [(0, .ref L.1), (1, .int x1), (2, .int x2), (3, .int x3), (4, .int x4)] → k20 σ x1 x2 x3 x4 = some (σ', r) → W p l e R s m args below meth c H locs 0 0 (xZ below L g A s args σ' (some (.int r)) 0 0) (F0 m 20 ls [])) (σ : xS) (x1 : Int32) (x2 : Int32) (x3 : Int32) (x4 : Int32) (H : Heap) (locs : List Loc) (ls : Array Slot) (hG : xG A L g s σ H locs) (hl : lv_has ls 5 [(0, .ref L.1), (1, .int x1), (2, .int x2), (3, .int x3), (4, .int x4)]) (hF : fX_firstApart_b59 N k20 σ x1 x2 x3 x4 = some (σ', r)) : W p l e R s m args below meth c H locs 0 0 (xZ below L g A s args σ' (some (.int r)) 0 0) (F0 m 59 ls []) := by
  have hx := C0.1
  have hb := C0.2.1
  have hst := C0.2.2.2.2.2.2.2.2.2.2
  unfold fX_firstApart_b59 at hF
  refine w_iinc hx hb dX0_firstApart_59 hl 4 rfl (v := 1) (by decide) (by decide) hF (fun x_15 ls hl hF => ?_)
  have hl : lv_has ls 5 [(4, .int x_15), (0, .ref L.1), (1, .int x1), (2, .int x2), (3, .int x3)] := hl
  refine lv_goto (tgt := 20) hx hb dX0_firstApart_62 (by decide) ?_
  exact hk20 _ _ _ _ _ H locs ls hG (lv_sub hl [1, 2, 3, 4, 0] rfl) hF
theorem bX_firstApart_20 {N : Nat} (C0 : xCx p l s m args meth c RX0 cX0_firstApart 5 (some .int) L A) (hRo : 2 ≤ R.frames ∧ 43 ≤ R.locals) {σ' : xS} {r : Int32} {k7 : xS → Int32 → Int32 → Int32 → Option (xS × Int32)} (hk7 : ∀ (σ : xS) (x1 : Int32) (x2 : Int32) (x3 : Int32) (H : Heap) (locs : List Loc) (ls : Array Slot), xG A L g s σ H locs → lv_has ls 5 [(0, .ref L.1), (1, .int x1), (2, .int x2), (3, .int x3)] → k7 σ x1 x2 x3 = some (σ', r) → W p l e R s m args below meth c H locs 0 0 (xZ below L g A s args σ' (some (.int r)) 0 0) (F0 m 7 ls [])) : ∀ (n : Nat) (σ : xS) (x1 : Int32) (x2 : Int32) (x3 : Int32) (x4 : Int32) (H : Heap) (locs : List Loc) (ls : Array Slot), xG A L g s σ H locs → lv_has ls 5 [(0, .ref L.1), (1, .int x1), (2, .int x2), (3, .int x3), (4, .int x4)] → fX_firstApart_b20 N k7 n σ x1 x2 x3 x4 = some (σ', r) → W p l e R s m args below meth c H locs 0 0 (xZ below L g A s args σ' (some (.int r)) 0 0) (F0 m 20 ls []) := by
  have hx := C0.1
  have hb := C0.2.1
  have hst := C0.2.2.2.2.2.2.2.2.2.2
  intro n
  induction n with
  | zero => intro σ x1 x2 x3 x4 H locs ls hG hl hF; cases hF
  | succ n ih =>
    intro σ x1 x2 x3 x4 H locs ls hG hl hF
    unfold fX_firstApart_b20 at hF
    refine lv_iload hx hb dX0_firstApart_20 (lv_at hl 4 rfl) ?_
    refine lv_aload_n hx hb dX0_firstApart_22 rfl (lv_at hl 0 rfl) ?_
    refine x_geti C0 hG 1 (by decide) rfl q175 dX0_firstApart_23 hF (fun x_4 hF => ?_)
    refine lv_icmp_ge (tgt := 65) hx hb dX0_firstApart_26 (by decide) (fun c_5 => ?_) (fun c_5 => ?_)
    · have hF := ifp hF c_5
      refine w_iinc hx hb dX0_firstApart_65 hl 3 rfl (v := 1) (by decide) (by decide) hF (fun x_6 ls hl hF => ?_)
      have hl : lv_has ls 5 [(3, .int x_6), (0, .ref L.1), (1, .int x1), (2, .int x2), (4, .int x4)] := hl
      refine lv_goto (tgt := 7) hx hb dX0_firstApart_68 (by decide) ?_
      exact hk7 _ _ _ _ H locs ls hG (lv_sub hl [1, 2, 3, 0] rfl) hF
    · have hF := ifn hF c_5
      refine lv_aload_n hx hb dX0_firstApart_29 rfl (lv_at hl 0 rfl) ?_
      refine lv_iload_n hx hb dX0_firstApart_30 rfl (lv_at hl 3 rfl) ?_
      refine lv_iload hx hb dX0_firstApart_31 (lv_at hl 4 rfl) ?_
      obtain ⟨σ_7, r_8, e_9, hF⟩ := obi_of hF
      refine x_cVi0 (As := [.int x3, .int x4]) (rest := []) C0 hG (mtX_apartOf l hst e_9) (lw_V q886 q888 qs27 q100 q889) yd_X0_apartOf (x_rc0 C0 hG) ⟨by omega, by omega⟩ ⟨by omega, by omega⟩ rfl rfl hl.1 (Nat.le_of_ble_eq_true rfl) dX0_firstApart_33 (fun H locs hG => ?_)
      refine lv_iload_n hx hb dX0_firstApart_36 rfl (lv_at hl 2 rfl) ?_
      refine lv_icmp_gt (tgt := 43) hx hb dX0_firstApart_37 (by decide) (fun c_10 => ?_) (fun c_10 => ?_)
      · have hF := ifp hF c_10
        refine lv_bipush (v := 10) hx hb dX0_firstApart_43 (by decide) ?_
        refine lv_iload_n hx hb dX0_firstApart_45 rfl (lv_at hl 3 rfl) ?_
        refine lv_imul hx hb dX0_firstApart_46 ?_
        refine lv_iload hx hb dX0_firstApart_47 (lv_at hl 4 rfl) ?_
        refine lv_iadd hx hb dX0_firstApart_49 ?_
        refine w_nm hF (fun x_11 hF => ?_)
        refine lv_istore_n (lv' := [(1, .int x_11), (0, .ref L.1), (2, .int x2), (3, .int x3), (4, .int x4)]) hx hb dX0_firstApart_50 rfl hl (by decide) rfl (fun ls hl => ?_)
        refine lv_aload_n hx hb dX0_firstApart_51 rfl (lv_at hl 1 rfl) ?_
        refine lv_iload_n hx hb dX0_firstApart_52 rfl (lv_at hl 3 rfl) ?_
        refine lv_iload hx hb dX0_firstApart_53 (lv_at hl 4 rfl) ?_
        obtain ⟨σ_12, r_13, e_14, hF⟩ := obi_of hF
        refine x_cVi0 (As := [.int x3, .int x4]) (rest := []) C0 hG (mtX_apartOf l hst e_14) (lw_V q886 q888 qs27 q100 q889) yd_X0_apartOf (x_rc0 C0 hG) ⟨by omega, by omega⟩ ⟨by omega, by omega⟩ rfl rfl hl.1 (Nat.le_of_ble_eq_true rfl) dX0_firstApart_55 (fun H locs hG => ?_)
        refine lv_istore_n (lv' := [(2, .int r_13), (1, .int x_11), (0, .ref L.1), (3, .int x3), (4, .int x4)]) hx hb dX0_firstApart_58 rfl hl (by decide) rfl (fun ls hl => ?_)
        exact bX_firstApart_59 C0 hRo ih _ _ _ _ _ H locs ls hG (lv_sub hl [2, 1, 0, 3, 4] rfl) hF
      · have hF := ifn hF c_10
        refine lv_goto (tgt := 59) hx hb dX0_firstApart_40 (by decide) ?_
        exact bX_firstApart_59 C0 hRo ih _ _ _ _ _ H locs ls hG (lv_sub hl [0, 1, 2, 3, 4] rfl) hF
theorem bX_firstApart_7 {N : Nat} (C0 : xCx p l s m args meth c RX0 cX0_firstApart 5 (some .int) L A) (hRo : 2 ≤ R.frames ∧ 43 ≤ R.locals) {σ' : xS} {r : Int32} : ∀ (n : Nat) (σ : xS) (x1 : Int32) (x2 : Int32) (x3 : Int32) (H : Heap) (locs : List Loc) (ls : Array Slot), xG A L g s σ H locs → lv_has ls 5 [(0, .ref L.1), (1, .int x1), (2, .int x2), (3, .int x3)] → fX_firstApart_b7 N n σ x1 x2 x3 = some (σ', r) → W p l e R s m args below meth c H locs 0 0 (xZ below L g A s args σ' (some (.int r)) 0 0) (F0 m 7 ls []) := by
  have hx := C0.1
  have hb := C0.2.1
  have hst := C0.2.2.2.2.2.2.2.2.2.2
  intro n
  induction n with
  | zero => intro σ x1 x2 x3 H locs ls hG hl hF; cases hF
  | succ n ih =>
    intro σ x1 x2 x3 H locs ls hG hl hF
    unfold fX_firstApart_b7 at hF
    refine lv_iload_n hx hb dX0_firstApart_7 rfl (lv_at hl 3 rfl) ?_
    refine lv_aload_n hx hb dX0_firstApart_8 rfl (lv_at hl 0 rfl) ?_
    refine x_geti C0 hG 1 (by decide) rfl q175 dX0_firstApart_9 hF (fun x_1 hF => ?_)
    refine lv_icmp_ge (tgt := 71) hx hb dX0_firstApart_12 (by decide) (fun c_2 => ?_) (fun c_2 => ?_)
    · have hF := ifp hF c_2
      refine lv_iload_n hx hb dX0_firstApart_71 rfl (lv_at hl 1 rfl) ?_
      exact x_iret C0 hG ⟨by omega, by omega⟩ dX0_firstApart_72 hF
    · have hF := ifn hF c_2
      refine lv_iload_n hx hb dX0_firstApart_15 rfl (lv_at hl 3 rfl) ?_
      refine lv_iconst (v := 1) hx hb dX0_firstApart_16 (by decide) ?_
      refine lv_iadd hx hb dX0_firstApart_17 ?_
      refine w_nm hF (fun x_3 hF => ?_)
      refine lv_istore (lv' := [(4, .int x_3), (0, .ref L.1), (1, .int x1), (2, .int x2), (3, .int x3)]) hx hb dX0_firstApart_18 hl (by decide) rfl (fun ls hl => ?_)
      exact bX_firstApart_20 C0 hRo ih N _ _ _ _ _ H locs ls hG (lv_sub hl [1, 2, 3, 4, 0] rfl) hF
theorem bX_firstApart_e {N : Nat} (C0 : xCx p l s m args meth c RX0 cX0_firstApart 5 (some .int) L A) (hRo : 2 ≤ R.frames ∧ 43 ≤ R.locals) {σ' : xS} {r : Int32} (σ : xS) (H : Heap) (locs : List Loc) (ls : Array Slot) (hG : xG A L g s σ H locs) (hl : lv_has ls 5 [(0, .ref L.1)]) (hF : fX_firstApart N σ = some (σ', r)) : W p l e R s m args below meth c H locs 0 0 (xZ below L g A s args σ' (some (.int r)) 0 0) (F0 m 0 ls []) := by
  have hx := C0.1
  have hb := C0.2.1
  have hst := C0.2.2.2.2.2.2.2.2.2.2
  unfold fX_firstApart at hF
  refine lv_bipush (v := (-2)) hx hb dX0_firstApart_0 (by decide) ?_
  refine lv_istore_n (lv' := [(1, .int (-2)), (0, .ref L.1)]) hx hb dX0_firstApart_2 rfl hl (by decide) rfl (fun ls hl => ?_)
  refine lv_iconst (v := (-1)) hx hb dX0_firstApart_3 (by decide) ?_
  refine lv_istore_n (lv' := [(2, .int (-1)), (1, .int (-2)), (0, .ref L.1)]) hx hb dX0_firstApart_4 rfl hl (by decide) rfl (fun ls hl => ?_)
  refine lv_iconst (v := 0) hx hb dX0_firstApart_5 (by decide) ?_
  refine lv_istore_n (lv' := [(3, .int 0), (2, .int (-1)), (1, .int (-2)), (0, .ref L.1)]) hx hb dX0_firstApart_6 rfl hl (by decide) rfl (fun ls hl => ?_)
  exact bX_firstApart_7 C0 hRo N _ _ _ _ H locs ls hG (lv_sub hl [3, 2, 1, 0] rfl) hF
theorem mtX_firstApart (l : Launch) (hst : l.stackTraces = false) {N : Nat} {L : xL} {g : xg} {σ σ' : xS} {r : Int32} (hF : fX_firstApart N σ = some (σ', r)) : xMet l yX0_firstApart cX0_firstApart 5 (some .int) (2) (43) 0 0 [.ref L.1] L g σ (some (.int r)) σ' := by
  refine x_head hst (by decide) rfl ?_
  intro p e s m below meth c A C0 hG
  have hl := lv_entry ([.ref L.1]) (n := 5) (Nat.le_of_ble_eq_true rfl)
  rw [lg_entry_eq]
  generalize (lg_sl ([.ref L.1]) ++ List.replicate (5 - (lg_sl ([.ref L.1])).length) Slot.unset).toArray = ls at hl ⊢
  have hl : lv_has ls 5 [(0, .ref L.1)] := hl
  exact bX_firstApart_e C0 ⟨Nat.le_refl _, Nat.le_refl _⟩ _ _ [] ls hG hl hF
def fX_Swimmer_farFrom (N : Nat) (σ : xS) (u0 : Nat) (a0 : Nat) : Option (xS × Int32) :=
  chl u0 (xn σ) <| nmv (xE σ u0 0) fun x_1 =>
  chl a0 (xn σ) <| nmv (xE σ a0 0) fun x_2 =>
  nmv (if 0 ≤ (x_1 - x_2) then (x_1 - x_2) else 0 - (x_1 - x_2)) fun x_3 =>
  chl u0 (xn σ) <| nmv (xE σ u0 1) fun x_4 =>
  chl a0 (xn σ) <| nmv (xE σ a0 1) fun x_5 =>
  nmv (if 0 ≤ (x_4 - x_5) then (x_4 - x_5) else 0 - (x_4 - x_5)) fun x_6 =>
  some (σ, x_3 + x_6)
theorem bX_Swimmer_farFrom_e {N : Nat} (C0 : xCx p l s m args meth c RX3 cX3_farFrom 2 (some .int) L A) (hRo : 1 ≤ R.frames ∧ 21 ≤ R.locals) {σ' : xS} {r : Int32} (σ : xS) (u0 : Nat) (a0 : Nat) (H : Heap) (locs : List Loc) (ls : Array Slot) (hG : xG A L g s σ H locs) (hl : lv_has ls 2 [(0, .ref (g.1 u0)), (1, .ref (g.1 a0))]) (hF : fX_Swimmer_farFrom N σ u0 a0 = some (σ', r)) : W p l e R s m args below meth c H locs 0 0 (xZ below L g A s args σ' (some (.int r)) 0 0) (F0 m 0 ls []) := by
  have hx := C0.1
  have hb := C0.2.1
  have hst := C0.2.2.2.2.2.2.2.2.2.2
  unfold fX_Swimmer_farFrom at hF
  refine lv_aload_n hx hb dX3_farFrom_0 rfl (lv_at hl 0 rfl) ?_
  refine x_swgO C0 hG 0 (by decide) q328 dX3_farFrom_1 hF (fun x_1 hF => ?_)
  refine lv_aload_n hx hb dX3_farFrom_4 rfl (lv_at hl 1 rfl) ?_
  refine x_swgO C0 hG 0 (by decide) q328 dX3_farFrom_5 hF (fun x_2 hF => ?_)
  refine lv_isub hx hb dX3_farFrom_8 ?_
  refine x_abs C0 hl.1 q824 q825 q116 q826 ⟨by omega, by omega⟩ ⟨by omega, by omega⟩ (Nat.le_of_ble_eq_true rfl) dX3_farFrom_9 hF (fun x_3 hF => ?_)
  refine lv_aload_n hx hb dX3_farFrom_12 rfl (lv_at hl 0 rfl) ?_
  refine x_swgO C0 hG 1 (by decide) q330 dX3_farFrom_13 hF (fun x_4 hF => ?_)
  refine lv_aload_n hx hb dX3_farFrom_16 rfl (lv_at hl 1 rfl) ?_
  refine x_swgO C0 hG 1 (by decide) q330 dX3_farFrom_17 hF (fun x_5 hF => ?_)
  refine lv_isub hx hb dX3_farFrom_20 ?_
  refine x_abs C0 hl.1 q824 q825 q116 q826 ⟨by omega, by omega⟩ ⟨by omega, by omega⟩ (Nat.le_of_ble_eq_true rfl) dX3_farFrom_21 hF (fun x_6 hF => ?_)
  refine lv_iadd hx hb dX3_farFrom_24 ?_
  exact x_iret C0 hG ⟨by omega, by omega⟩ dX3_farFrom_25 hF
theorem mtX_Swimmer_farFrom (l : Launch) (hst : l.stackTraces = false) {N : Nat} {L : xL} {g : xg} {σ σ' : xS} {r : Int32} {u0 : Nat} {a0 : Nat} (hF : fX_Swimmer_farFrom N σ u0 a0 = some (σ', r)) : xMet l yX3_farFrom cX3_farFrom 2 (some .int) (1) (21) 0 0 [.ref (g.1 u0), .ref (g.1 a0)] L g σ (some (.int r)) σ' := by
  refine x_head hst (by decide) rfl ?_
  intro p e s m below meth c A C0 hG
  have hl := lv_entry ([.ref (g.1 u0), .ref (g.1 a0)]) (n := 2) (Nat.le_of_ble_eq_true rfl)
  rw [lg_entry_eq]
  generalize (lg_sl ([.ref (g.1 u0), .ref (g.1 a0)]) ++ List.replicate (2 - (lg_sl ([.ref (g.1 u0), .ref (g.1 a0)])).length) Slot.unset).toArray = ls at hl ⊢
  have hl : lv_has ls 2 [(0, .ref (g.1 u0)), (1, .ref (g.1 a0))] := hl
  exact bX_Swimmer_farFrom_e C0 ⟨Nat.le_refl _, Nat.le_refl _⟩ _ _ _ _ [] ls hG hl hF
def fX_Swimmer_isOn (N : Nat) (σ : xS) (u0 : Nat) (a0 : Int32) (a1 : Int32) : Option (xS × Int32) :=
  chl u0 (xn σ) <| nmv (xE σ u0 0) fun x_1 =>
  if x_1 = a0 then (
    chl u0 (xn σ) <| nmv (xE σ u0 1) fun x_3 =>
    if x_3 = a1 then (
      chb 1 (some (σ, 1)))
    else (
      chb 0 (some (σ, 0))))
  else (
    chb 0 (some (σ, 0)))
theorem bX_Swimmer_isOn_e {N : Nat} (C0 : xCx p l s m args meth c RX3 cX3_isOn 3 (some .boolean) L A) (hRo : 0 ≤ R.frames ∧ 0 ≤ R.locals) {σ' : xS} {r : Int32} (σ : xS) (u0 : Nat) (a0 : Int32) (a1 : Int32) (H : Heap) (locs : List Loc) (ls : Array Slot) (hG : xG A L g s σ H locs) (hl : lv_has ls 3 [(0, .ref (g.1 u0)), (1, .int a0), (2, .int a1)]) (hF : fX_Swimmer_isOn N σ u0 a0 a1 = some (σ', r)) : W p l e R s m args below meth c H locs 0 0 (xZ below L g A s args σ' (some (.int r)) 0 0) (F0 m 0 ls []) := by
  have hx := C0.1
  have hb := C0.2.1
  have hst := C0.2.2.2.2.2.2.2.2.2.2
  unfold fX_Swimmer_isOn at hF
  refine lv_aload_n hx hb dX3_isOn_0 rfl (lv_at hl 0 rfl) ?_
  refine x_swgO C0 hG 0 (by decide) q328 dX3_isOn_1 hF (fun x_1 hF => ?_)
  refine lv_iload_n hx hb dX3_isOn_4 rfl (lv_at hl 1 rfl) ?_
  refine lv_icmp_ne (tgt := 20) hx hb dX3_isOn_5 (by decide) (fun c_2 => ?_) (fun c_2 => ?_)
  · have hF := ifn hF c_2
    refine lv_iconst (v := 0) hx hb dX3_isOn_20 (by decide) ?_
    exact x_zret C0 hG ⟨by omega, by omega⟩ dX3_isOn_21 hF
  · have hF := ifp hF c_2
    refine lv_aload_n hx hb dX3_isOn_8 rfl (lv_at hl 0 rfl) ?_
    refine x_swgO C0 hG 1 (by decide) q330 dX3_isOn_9 hF (fun x_3 hF => ?_)
    refine lv_iload_n hx hb dX3_isOn_12 rfl (lv_at hl 2 rfl) ?_
    refine lv_icmp_ne (tgt := 20) hx hb dX3_isOn_13 (by decide) (fun c_4 => ?_) (fun c_4 => ?_)
    · have hF := ifn hF c_4
      refine lv_iconst (v := 0) hx hb dX3_isOn_20 (by decide) ?_
      exact x_zret C0 hG ⟨by omega, by omega⟩ dX3_isOn_21 hF
    · have hF := ifp hF c_4
      refine lv_iconst (v := 1) hx hb dX3_isOn_16 (by decide) ?_
      refine lv_goto (tgt := 21) hx hb dX3_isOn_17 (by decide) ?_
      exact x_zret C0 hG ⟨by omega, by omega⟩ dX3_isOn_21 hF
theorem mtX_Swimmer_isOn (l : Launch) (hst : l.stackTraces = false) {N : Nat} {L : xL} {g : xg} {σ σ' : xS} {r : Int32} {u0 : Nat} {a0 : Int32} {a1 : Int32} (hF : fX_Swimmer_isOn N σ u0 a0 a1 = some (σ', r)) : xMet l yX3_isOn cX3_isOn 3 (some .boolean) (0) (0) 0 0 [.ref (g.1 u0), .int a0, .int a1] L g σ (some (.int r)) σ' := by
  refine x_head hst (by decide) rfl ?_
  intro p e s m below meth c A C0 hG
  have hl := lv_entry ([.ref (g.1 u0), .int a0, .int a1]) (n := 3) (Nat.le_of_ble_eq_true rfl)
  rw [lg_entry_eq]
  generalize (lg_sl ([.ref (g.1 u0), .int a0, .int a1]) ++ List.replicate (3 - (lg_sl ([.ref (g.1 u0), .int a0, .int a1])).length) Slot.unset).toArray = ls at hl ⊢
  have hl : lv_has ls 3 [(0, .ref (g.1 u0)), (1, .int a0), (2, .int a1)] := hl
  exact bX_Swimmer_isOn_e C0 ⟨Nat.le_refl _, Nat.le_refl _⟩ _ _ _ _ _ [] ls hG hl hF
def fX_Facts_clear_b2 (N : Nat) : Nat → xS → Int32 → Option (xS × Unit)
  | 0, _, _ => none
  | n + 1, σ, x1 =>
    if 128 ≤ x1 then (
      some (σ, ()))
    else (
      chk x1 128 <| nmv (xSj σ 44 x1.toNatClampNeg 0) fun σ_2 =>
      nmv (x1 + 1) fun x_3 =>
      (fX_Facts_clear_b2 N n) σ_2 x_3)
def fX_Facts_clear (N : Nat) (σ : xS) : Option (xS × Unit) :=
  fX_Facts_clear_b2 N N σ 0
theorem bX_Facts_clear_2 {N : Nat} (C0 : xCx p l s m args meth c RX1 cX1_clear 2 none L A) (hRo : 0 ≤ R.frames ∧ 0 ≤ R.locals) {σ' : xS} {r : Unit} : ∀ (n : Nat) (σ : xS) (x1 : Int32) (H : Heap) (locs : List Loc) (ls : Array Slot), xG A L g s σ H locs → lv_has ls 2 [(0, .ref (L.2.1 11)), (1, .int x1)] → fX_Facts_clear_b2 N n σ x1 = some (σ', r) → W p l e R s m args below meth c H locs 0 0 (xZ below L g A s args σ' none 0 0) (F0 m 2 ls []) := by
  have hx := C0.1
  have hb := C0.2.1
  have hst := C0.2.2.2.2.2.2.2.2.2.2
  intro n
  induction n with
  | zero => intro σ x1 H locs ls hG hl hF; cases hF
  | succ n ih =>
    intro σ x1 H locs ls hG hl hF
    unfold fX_Facts_clear_b2 at hF
    refine lv_iload_n hx hb dX1_clear_2 rfl (lv_at hl 1 rfl) ?_
    refine lv_aload_n hx hb dX1_clear_3 rfl (lv_at hl 0 rfl) ?_
    refine x_namedO C0 hG q162 dX1_clear_4 ?_
    refine x_alen C0 hG 44 ⟨by decide, rfl, rfl⟩ (v := 128) rfl dX1_clear_7 ?_
    refine lv_icmp_ge (tgt := 24) hx hb dX1_clear_8 (by decide) (fun c_1 => ?_) (fun c_1 => ?_)
    · have hF := ifp hF c_1
      exact x_vret C0 hG ⟨by omega, by omega⟩ dX1_clear_24 hF
    · have hF := ifn hF c_1
      refine lv_aload_n hx hb dX1_clear_11 rfl (lv_at hl 0 rfl) ?_
      refine x_namedO C0 hG q162 dX1_clear_12 ?_
      refine lv_iload_n hx hb dX1_clear_15 rfl (lv_at hl 1 rfl) ?_
      refine lv_iconst (v := 0) hx hb dX1_clear_16 (by decide) ?_
      refine x_st C0 hG 44 ⟨by decide, rfl, rfl⟩ dX1_clear_17 hF (fun σ_2 H locs hG hF => ?_)
      refine w_iinc hx hb dX1_clear_18 hl 1 rfl (v := 1) (by decide) (by decide) hF (fun x_3 ls hl hF => ?_)
      have hl : lv_has ls 2 [(1, .int x_3), (0, .ref (L.2.1 11))] := hl
      refine lv_goto (tgt := 2) hx hb dX1_clear_21 (by decide) ?_
      exact ih _ _ H locs ls hG (lv_sub hl [1, 0] rfl) hF
theorem bX_Facts_clear_e {N : Nat} (C0 : xCx p l s m args meth c RX1 cX1_clear 2 none L A) (hRo : 0 ≤ R.frames ∧ 0 ≤ R.locals) {σ' : xS} {r : Unit} (σ : xS) (H : Heap) (locs : List Loc) (ls : Array Slot) (hG : xG A L g s σ H locs) (hl : lv_has ls 2 [(0, .ref (L.2.1 11))]) (hF : fX_Facts_clear N σ = some (σ', r)) : W p l e R s m args below meth c H locs 0 0 (xZ below L g A s args σ' none 0 0) (F0 m 0 ls []) := by
  have hx := C0.1
  have hb := C0.2.1
  have hst := C0.2.2.2.2.2.2.2.2.2.2
  unfold fX_Facts_clear at hF
  refine lv_iconst (v := 0) hx hb dX1_clear_0 (by decide) ?_
  refine lv_istore_n (lv' := [(1, .int 0), (0, .ref (L.2.1 11))]) hx hb dX1_clear_1 rfl hl (by decide) rfl (fun ls hl => ?_)
  exact bX_Facts_clear_2 C0 hRo N _ _ H locs ls hG (lv_sub hl [1, 0] rfl) hF
theorem mtX_Facts_clear (l : Launch) (hst : l.stackTraces = false) {N : Nat} {L : xL} {g : xg} {σ σ' : xS} {r : Unit} (hF : fX_Facts_clear N σ = some (σ', r)) : xMet l yX1_clear cX1_clear 2 none (0) (0) 0 0 [.ref (L.2.1 11)] L g σ none σ' := by
  refine x_head hst (by decide) rfl ?_
  intro p e s m below meth c A C0 hG
  have hl := lv_entry ([.ref (L.2.1 11)]) (n := 2) (Nat.le_of_ble_eq_true rfl)
  rw [lg_entry_eq]
  generalize (lg_sl ([.ref (L.2.1 11)]) ++ List.replicate (2 - (lg_sl ([.ref (L.2.1 11)])).length) Slot.unset).toArray = ls at hl ⊢
  have hl : lv_has ls 2 [(0, .ref (L.2.1 11))] := hl
  exact bX_Facts_clear_e C0 ⟨Nat.le_refl _, Nat.le_refl _⟩ _ _ [] ls hG hl hF
end XWALK1
