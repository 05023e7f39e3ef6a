section MWALK5
variable {p : Program} {l : Launch} {e : Env} {R : Room} {s : State} {m : MethodId} {args : Array Value} {below : List Frame} {meth : Method} {c : Code} {A : Nat → Prop}
variable {L : mL}
def fM_reads_b5 (N : Nat) : Nat → mS → Int32 → Option (mS × Unit)
  | 0, _, _ => none
  | n + 1, σ, x1 =>
    nmv (σ.1 44) fun x_2 =>
    chk x1 6 <| nmv (σ.2.1 42 x1.toNatClampNeg) fun x_3 =>
    if x_3 ≤ x_2 then (
      some (σ, ()))
    else (
      nmv (σ.1 44) fun x_5 =>
      nmv (((60 : Int32) * x1) + x_5) fun x_6 =>
      chk x_6 360 <| nmv (σ.2.2 x_6.toNatClampNeg) fun x_7 =>
      if (lg_cmp x_7 0) < 0 then (
        some (σ, ()))
      else (
        nmv (σ.1 44) fun x_9 =>
        nmv (((60 : Int32) * x1) + x_9) fun x_10 =>
        chk x_10 360 <| nmv (σ.2.2 x_10.toNatClampNeg) fun x_11 =>
        if 0 < (lg_cmp x_11 4) then (
          some (σ, ()))
        else (
          nmv (σ.1 44) fun x_13 =>
          nmv (σ.1 44) fun x_14 =>
          nmv (((60 : Int32) * x1) + x_14) fun x_15 =>
          chk x_15 360 <| nmv (σ.2.2 x_15.toNatClampNeg) fun x_16 =>
          chk x_13 60 <| nmv (mSj σ 45 x_13.toNatClampNeg (x_16.toInt32)) fun σ_17 =>
          nmv (σ_17.1 44) fun x_18 =>
          nmv (mSi σ_17 44 (x_18 + 1)) fun σ_19 =>
          (fM_reads_b5 N n) σ_19 x1)))
def fM_reads (N : Nat) (σ : mS) (a0 : Int32) : Option (mS × Unit) :=
  nmv (mSi σ 44 0) fun σ_1 =>
  fM_reads_b5 N N σ_1 a0
theorem bM_reads_5 {N : Nat} (C0 : mCx p s m args meth c cX2_reads 2 none L A) (hRo : 0 ≤ R.frames ∧ 0 ≤ R.locals) {σ' : mS} {r : Unit} : ∀ (n : Nat) (σ : mS) (x1 : Int32) (H : Heap) (locs : List Loc) (ls : Array Slot), mG A L s σ H locs → lv_has ls 2 [(0, .ref L.1), (1, .int x1)] → fM_reads_b5 N n σ x1 = some (σ', r) → W p l e R s m args below meth c H locs 0 0 (mZ below L A s args σ' none) (F0 m 5 ls []) := by
  have hx := C0.1
  have hb := C0.2.1
  intro n
  induction n with
  | zero => intro σ x1 H locs ls hG hl hF; cases hF
  | succ n ih =>
    intro σ x1 H locs ls hG hl hF
    unfold fM_reads_b5 at hF
    refine lv_aload_n hx hb dX2_reads_5 rfl (lv_at hl 0 rfl) ?_
    refine m_geti C0 hG 44 (by decide) rfl q1622 dX2_reads_6 hF (fun x_2 hF => ?_)
    refine lv_aload_n hx hb dX2_reads_9 rfl (lv_at hl 0 rfl) ?_
    refine m_geta C0 hG 42 (by decide) rfl q1620 dX2_reads_10 ?_
    refine lv_iload_n hx hb dX2_reads_13 rfl (lv_at hl 1 rfl) ?_
    refine m_ld C0 hG 42 ⟨by decide, rfl, by decide⟩ dX2_reads_14 hF (fun x_3 hF => ?_)
    refine lv_icmp_ge (tgt := 95) hx hb dX2_reads_15 (by decide) (fun c_4 => ?_) (fun c_4 => ?_)
    · have hF := ifp hF c_4
      exact m_vret C0 hG dX2_reads_95 hF
    · have hF := ifn hF c_4
      refine lv_aload_n hx hb dX2_reads_18 rfl (lv_at hl 0 rfl) ?_
      refine m_geta C0 hG 43 (by decide) rfl q1621 dX2_reads_19 ?_
      refine lv_bipush (v := 60) hx hb dX2_reads_22 (by decide) ?_
      refine lv_iload_n hx hb dX2_reads_24 rfl (lv_at hl 1 rfl) ?_
      refine lv_imul hx hb dX2_reads_25 ?_
      refine lv_aload_n hx hb dX2_reads_26 rfl (lv_at hl 0 rfl) ?_
      refine m_geti C0 hG 44 (by decide) rfl q1622 dX2_reads_27 hF (fun x_5 hF => ?_)
      refine lv_iadd hx hb dX2_reads_30 ?_
      refine w_nm hF (fun x_6 hF => ?_)
      refine m_ldl C0 hG dX2_reads_31 hF (fun x_7 hF => ?_)
      refine lv_lconst (v := 0) hx hb dX2_reads_32 (by decide) ?_
      refine W.lcmp hx hb dX2_reads_33 ?_
      refine lv_if_lt (tgt := 95) hx hb dX2_reads_34 (by decide) (fun c_8 => ?_) (fun c_8 => ?_)
      · have hF := ifp hF c_8
        exact m_vret C0 hG dX2_reads_95 hF
      · have hF := ifn hF c_8
        refine lv_aload_n hx hb dX2_reads_37 rfl (lv_at hl 0 rfl) ?_
        refine m_geta C0 hG 43 (by decide) rfl q1621 dX2_reads_38 ?_
        refine lv_bipush (v := 60) hx hb dX2_reads_41 (by decide) ?_
        refine lv_iload_n hx hb dX2_reads_43 rfl (lv_at hl 1 rfl) ?_
        refine lv_imul hx hb dX2_reads_44 ?_
        refine lv_aload_n hx hb dX2_reads_45 rfl (lv_at hl 0 rfl) ?_
        refine m_geti C0 hG 44 (by decide) rfl q1622 dX2_reads_46 hF (fun x_9 hF => ?_)
        refine lv_iadd hx hb dX2_reads_49 ?_
        refine w_nm hF (fun x_10 hF => ?_)
        refine m_ldl C0 hG dX2_reads_50 hF (fun x_11 hF => ?_)
        refine lv_ldc2 (v := 4) hx hb C0.2.2.2.1 (C0.2.2.2.2.1 _ q1765) dX2_reads_51 ?_
        refine W.lcmp hx hb dX2_reads_54 ?_
        refine lv_if_gt (tgt := 95) hx hb dX2_reads_55 (by decide) (fun c_12 => ?_) (fun c_12 => ?_)
        · have hF := ifp hF c_12
          exact m_vret C0 hG dX2_reads_95 hF
        · have hF := ifn hF c_12
          refine lv_aload_n hx hb dX2_reads_58 rfl (lv_at hl 0 rfl) ?_
          refine m_geta C0 hG 45 (by decide) rfl q1623 dX2_reads_59 ?_
          refine lv_aload_n hx hb dX2_reads_62 rfl (lv_at hl 0 rfl) ?_
          refine m_geti C0 hG 44 (by decide) rfl q1622 dX2_reads_63 hF (fun x_13 hF => ?_)
          refine lv_aload_n hx hb dX2_reads_66 rfl (lv_at hl 0 rfl) ?_
          refine m_geta C0 hG 43 (by decide) rfl q1621 dX2_reads_67 ?_
          refine lv_bipush (v := 60) hx hb dX2_reads_70 (by decide) ?_
          refine lv_iload_n hx hb dX2_reads_72 rfl (lv_at hl 1 rfl) ?_
          refine lv_imul hx hb dX2_reads_73 ?_
          refine lv_aload_n hx hb dX2_reads_74 rfl (lv_at hl 0 rfl) ?_
          refine m_geti C0 hG 44 (by decide) rfl q1622 dX2_reads_75 hF (fun x_14 hF => ?_)
          refine lv_iadd hx hb dX2_reads_78 ?_
          refine w_nm hF (fun x_15 hF => ?_)
          refine m_ldl C0 hG dX2_reads_79 hF (fun x_16 hF => ?_)
          refine lv_l2i (v := x_16.toInt32) hx hb dX2_reads_80 rfl ?_
          refine m_st C0 hG 45 ⟨by decide, rfl, by decide⟩ dX2_reads_81 hF (fun σ_17 H locs hG hF => ?_)
          refine lv_aload_n hx hb dX2_reads_82 rfl (lv_at hl 0 rfl) ?_
          refine lv_dup hx hb dX2_reads_83 rfl ?_
          refine m_geti C0 hG 44 (by decide) rfl q1622 dX2_reads_84 hF (fun x_18 hF => ?_)
          refine lv_iconst (v := 1) hx hb dX2_reads_87 (by decide) ?_
          refine lv_iadd hx hb dX2_reads_88 ?_
          refine m_puti C0 hG 44 (by decide) rfl q1622 dX2_reads_89 (Or.inl ⟨by decide, by decide⟩) hF (fun σ_19 H locs hG hF => ?_)
          refine lv_goto (tgt := 5) hx hb dX2_reads_92 (by decide) ?_
          exact ih _ _ H locs ls hG (lv_sub hl [0, 1] rfl) hF
theorem bM_reads_e {N : Nat} (C0 : mCx p s m args meth c cX2_reads 2 none L A) (hRo : 0 ≤ R.frames ∧ 0 ≤ R.locals) {σ' : mS} {r : Unit} (σ : mS) (a0 : Int32) (H : Heap) (locs : List Loc) (ls : Array Slot) (hG : mG A L s σ H locs) (hl : lv_has ls 2 [(0, .ref L.1), (1, .int a0)]) (hF : fM_reads N σ a0 = some (σ', r)) : W p l e R s m args below meth c H locs 0 0 (mZ below L A s args σ' none) (F0 m 0 ls []) := by
  have hx := C0.1
  have hb := C0.2.1
  unfold fM_reads at hF
  refine lv_aload_n hx hb dX2_reads_0 rfl (lv_at hl 0 rfl) ?_
  refine lv_iconst (v := 0) hx hb dX2_reads_1 (by decide) ?_
  refine m_puti C0 hG 44 (by decide) rfl q1622 dX2_reads_2 (Or.inl ⟨by decide, by decide⟩) hF (fun σ_1 H locs hG hF => ?_)
  exact bM_reads_5 C0 hRo N _ _ H locs ls hG (lv_sub hl [0, 1] rfl) hF
theorem mtM_reads (l : Launch) {N : Nat} {L : mL} {σ σ' : mS} {r : Unit} {a0 : Int32} (hF : fM_reads N σ a0 = some (σ', r)) : mMet l yX2_reads cX2_reads 2 none (0) (0) [.ref L.1, .int a0] L σ none σ' := by
  refine m_head (by decide) rfl ?_
  intro p e s m below meth c A C0 hG
  have hl := lv_entry ([.ref L.1, .int a0]) (n := 2) (Nat.le_of_ble_eq_true rfl)
  rw [lg_entry_eq]
  generalize (lg_sl ([.ref L.1, .int a0]) ++ List.replicate (2 - (lg_sl ([.ref L.1, .int a0])).length) Slot.unset).toArray = ls at hl ⊢
  have hl : lv_has ls 2 [(0, .ref L.1), (1, .int a0)] := hl
  exact bM_reads_e C0 ⟨Nat.le_refl _, Nat.le_refl _⟩ _ _ _ [] ls hG hl hF
def fM_drifts_b236 (N : Nat) (k23 : mS → Int32 → Int32 → Option (mS × Unit)) (σ : mS) (x1 : Int32) (x2 : Int32) : Option (mS × Unit) :=
  nmv (x2 + 1) fun x_44 =>
  k23 σ x1 x_44
def fM_drifts_b195 (N : Nat) (k23 : mS → Int32 → Int32 → Option (mS × Unit)) (σ : mS) (x1 : Int32) (x2 : Int32) : Option (mS × Unit) :=
  nmv (σ.1 48) fun x_35 =>
  if x_35 = (-2) then (
    fM_drifts_b236 N k23 σ x1 x2)
  else (
    nmv (σ.1 49) fun x_37 =>
    if x_37 = x2 then (
      nmv (σ.1 48) fun x_39 =>
      nmv ((((8 : Int32) * x2) + 8) + x_39) fun x_40 =>
      chk x_40 488 <| nmv (σ.2.1 46 x_40.toNatClampNeg) fun x_41 =>
      nmv (σ.1 50) fun x_42 =>
      chk x_40 488 <| nmv (mSj σ 46 x_40.toNatClampNeg (x_41 + x_42)) fun σ_43 =>
      fM_drifts_b236 N k23 σ_43 x1 x2)
    else (
      fM_drifts_b236 N k23 σ x1 x2))
def fM_drifts_b125 (N : Nat) (k23 : mS → Int32 → Int32 → Option (mS × Unit)) : Nat → mS → Int32 → Int32 → Int32 → Option (mS × Unit)
  | 0, _, _, _, _ => none
  | n + 1, σ, x1, x2, x3 =>
    nmv (σ.1 0) fun x_17 =>
    if x_17 ≤ x3 then (
      fM_drifts_b195 N k23 σ x1 x2)
    else (
      chk x2 60 <| nmv (σ.2.1 45 x2.toNatClampNeg) fun x_19 =>
      if x_19 = 4 then (
        chk 0 3 <| nmv (σ.2.1 7 (0 : Int32).toNatClampNeg) fun x_21 =>
        obi (fM_isOne N σ x_21) fun σ_22 r_23 =>
        if r_23 = 0 then (
          fM_drifts_b195 N k23 σ_22 x1 x2)
        else (
          chk 0 3 <| nmv (σ_22.2.1 7 (0 : Int32).toNatClampNeg) fun x_26 =>
          nmv ((((8 : Int32) * x2) + 8) + x_26) fun x_27 =>
          chk x_27 488 <| nmv (σ_22.2.1 46 x_27.toNatClampNeg) fun x_28 =>
          chk ((((8 : Int32) * x2) + 8) + x3) 488 <| nmv (mSj σ_22 46 ((((8 : Int32) * x2) + 8) + x3).toNatClampNeg x_28) fun σ_29 =>
          nmv (x3 + 1) fun x_30 =>
          (fM_drifts_b125 N k23 n) σ_29 x1 x2 x_30))
      else (
        fM_drifts_b195 N k23 σ x1 x2))
def fM_drifts_b89 (N : Nat) (k33 : mS → Int32 → Int32 → Int32 → Option (mS × Unit)) (σ : mS) (x1 : Int32) (x2 : Int32) (x3 : Int32) (x4 : Int32) : Option (mS × Unit) :=
  nmv (((8 : Int32) * x2) + x3) fun x_31 =>
  chk x_31 488 <| nmv (σ.2.1 46 x_31.toNatClampNeg) fun x_32 =>
  chk ((((8 : Int32) * x2) + 8) + x3) 488 <| nmv (mSj σ 46 ((((8 : Int32) * x2) + 8) + x3).toNatClampNeg (x_32 + x4)) fun σ_33 =>
  nmv (x3 + 1) fun x_34 =>
  k33 σ_33 x1 x2 x_34
def fM_drifts_b33 (N : Nat) (k23 : mS → Int32 → Int32 → Option (mS × Unit)) : Nat → mS → Int32 → Int32 → Int32 → Option (mS × Unit)
  | 0, _, _, _, _ => none
  | n + 1, σ, x1, x2, x3 =>
    nmv (σ.1 0) fun x_6 =>
    if x_6 ≤ x3 then (
      fM_drifts_b125 N k23 N σ x1 x2 0)
    else (
      chk x3 8 <| nmv (σ.2.1 5 x3.toNatClampNeg) fun x_8 =>
      if x1 = 0 then (
        fM_drifts_b89 N (fM_drifts_b33 N k23 n) σ x1 x2 x3 x_8)
      else (
        nmv (σ.1 51) fun x_10 =>
        nmv (mSi σ 51 ((x_10 * 1103515245) + 12345)) fun σ_11 =>
        nmv (σ_11.1 51) fun x_12 =>
        chz 12 <|
        nmv (σ_11.1 52) fun x_14 =>
        if x_14 ≤ (((x_12.toUInt32 >>> ((8 : Int32).toUInt32 &&& Int32.toUInt32 31)).toInt32) - ((x_12.toUInt32 >>> ((8 : Int32).toUInt32 &&& Int32.toUInt32 31)).toInt32) / 12 * 12) then (
          fM_drifts_b89 N (fM_drifts_b33 N k23 n) σ_11 x1 x2 x3 x_8)
        else (
          nmv (x_8 + 1) fun x_16 =>
          fM_drifts_b89 N (fM_drifts_b33 N k23 n) σ_11 x1 x2 x3 x_16)))
def fM_drifts_b23 (N : Nat) : Nat → mS → Int32 → Int32 → Option (mS × Unit)
  | 0, _, _, _ => none
  | n + 1, σ, x1, x2 =>
    nmv (σ.1 44) fun x_4 =>
    if x_4 ≤ x2 then (
      some (σ, ()))
    else (
      fM_drifts_b33 N (fM_drifts_b23 N n) N σ x1 x2 0)
def fM_drifts_b2 (N : Nat) : Nat → mS → Int32 → Int32 → Option (mS × Unit)
  | 0, _, _, _ => none
  | n + 1, σ, x1, x2 =>
    if 8 ≤ x2 then (
      fM_drifts_b23 N N σ x1 0)
    else (
      chk x2 488 <| nmv (mSj σ 46 x2.toNatClampNeg 0) fun σ_2 =>
      nmv (x2 + 1) fun x_3 =>
      (fM_drifts_b2 N n) σ_2 x1 x_3)
def fM_drifts (N : Nat) (σ : mS) (a0 : Int32) : Option (mS × Unit) :=
  fM_drifts_b2 N N σ a0 0
theorem bM_drifts_236 {N : Nat} (C0 : mCx p s m args meth c cX2_drifts 5 none L A) (hRo : 2 ≤ R.frames ∧ 43 ≤ R.locals) {σ' : mS} {r : Unit} {k23 : mS → Int32 → Int32 → Option (mS × Unit)} (hk23 : ∀ (σ : mS) (x1 : Int32) (x2 : Int32) (H : Heap) (locs : List Loc) (ls : Array Slot), mG A L s σ H locs → lv_has ls 5 [(0, .ref L.1), (1, .int x1), (2, .int x2)] → k23 σ x1 x2 = some (σ', r) → W p l e R s m args below meth c H locs 0 0 (mZ below L A s args σ' none) (F0 m 23 ls [])) (σ : mS) (x1 : Int32) (x2 : Int32) (H : Heap) (locs : List Loc) (ls : Array Slot) (hG : mG A L s σ H locs) (hl : lv_has ls 5 [(0, .ref L.1), (1, .int x1), (2, .int x2)]) (hF : fM_drifts_b236 N k23 σ x1 x2 = some (σ', r)) : W p l e R s m args below meth c H locs 0 0 (mZ below L A s args σ' none) (F0 m 236 ls []) := by
  have hx := C0.1
  have hb := C0.2.1
  unfold fM_drifts_b236 at hF
  refine w_iinc hx hb dX2_drifts_236 hl 2 rfl (v := 1) (by decide) (by decide) hF (fun x_44 ls hl hF => ?_)
  have hl : lv_has ls 5 [(2, .int x_44), (0, .ref L.1), (1, .int x1)] := hl
  refine lv_goto (tgt := 23) hx hb dX2_drifts_239 (by decide) ?_
  exact hk23 _ _ _ H locs ls hG (lv_sub hl [1, 2, 0] rfl) hF
theorem bM_drifts_195 {N : Nat} (C0 : mCx p s m args meth c cX2_drifts 5 none L A) (hRo : 2 ≤ R.frames ∧ 43 ≤ R.locals) {σ' : mS} {r : Unit} {k23 : mS → Int32 → Int32 → Option (mS × Unit)} (hk23 : ∀ (σ : mS) (x1 : Int32) (x2 : Int32) (H : Heap) (locs : List Loc) (ls : Array Slot), mG A L s σ H locs → lv_has ls 5 [(0, .ref L.1), (1, .int x1), (2, .int x2)] → k23 σ x1 x2 = some (σ', r) → W p l e R s m args below meth c H locs 0 0 (mZ below L A s args σ' none) (F0 m 23 ls [])) (σ : mS) (x1 : Int32) (x2 : Int32) (H : Heap) (locs : List Loc) (ls : Array Slot) (hG : mG A L s σ H locs) (hl : lv_has ls 5 [(0, .ref L.1), (1, .int x1), (2, .int x2)]) (hF : fM_drifts_b195 N k23 σ x1 x2 = some (σ', r)) : W p l e R s m args below meth c H locs 0 0 (mZ below L A s args σ' none) (F0 m 195 ls []) := by
  have hx := C0.1
  have hb := C0.2.1
  unfold fM_drifts_b195 at hF
  refine lv_aload_n hx hb dX2_drifts_195 rfl (lv_at hl 0 rfl) ?_
  refine m_geti C0 hG 48 (by decide) rfl q1626 dX2_drifts_196 hF (fun x_35 hF => ?_)
  refine lv_bipush (v := (-2)) hx hb dX2_drifts_199 (by decide) ?_
  refine lv_icmp_eq (tgt := 236) hx hb dX2_drifts_201 (by decide) (fun c_36 => ?_) (fun c_36 => ?_)
  · have hF := ifp hF c_36
    exact bM_drifts_236 C0 hRo hk23 _ _ _ H locs ls hG (lv_sub hl [0, 1, 2] rfl) hF
  · have hF := ifn hF c_36
    refine lv_aload_n hx hb dX2_drifts_204 rfl (lv_at hl 0 rfl) ?_
    refine m_geti C0 hG 49 (by decide) rfl q1627 dX2_drifts_205 hF (fun x_37 hF => ?_)
    refine lv_iload_n hx hb dX2_drifts_208 rfl (lv_at hl 2 rfl) ?_
    refine lv_icmp_ne (tgt := 236) hx hb dX2_drifts_209 (by decide) (fun c_38 => ?_) (fun c_38 => ?_)
    · have hF := ifn hF c_38
      exact bM_drifts_236 C0 hRo hk23 _ _ _ H locs ls hG (lv_sub hl [0, 1, 2] rfl) hF
    · have hF := ifp hF c_38
      refine lv_aload_n hx hb dX2_drifts_212 rfl (lv_at hl 0 rfl) ?_
      refine m_geta C0 hG 46 (by decide) rfl q1624 dX2_drifts_213 ?_
      refine lv_bipush (v := 8) hx hb dX2_drifts_216 (by decide) ?_
      refine lv_iload_n hx hb dX2_drifts_218 rfl (lv_at hl 2 rfl) ?_
      refine lv_imul hx hb dX2_drifts_219 ?_
      refine lv_bipush (v := 8) hx hb dX2_drifts_220 (by decide) ?_
      refine lv_iadd hx hb dX2_drifts_222 ?_
      refine lv_aload_n hx hb dX2_drifts_223 rfl (lv_at hl 0 rfl) ?_
      refine m_geti C0 hG 48 (by decide) rfl q1626 dX2_drifts_224 hF (fun x_39 hF => ?_)
      refine lv_iadd hx hb dX2_drifts_227 ?_
      refine w_nm hF (fun x_40 hF => ?_)
      refine lv_dup2_11 hx hb dX2_drifts_228 rfl rfl ?_
      refine m_ld C0 hG 46 ⟨by decide, rfl, by decide⟩ dX2_drifts_229 hF (fun x_41 hF => ?_)
      refine lv_aload_n hx hb dX2_drifts_230 rfl (lv_at hl 0 rfl) ?_
      refine m_geti C0 hG 50 (by decide) rfl q1628 dX2_drifts_231 hF (fun x_42 hF => ?_)
      refine lv_iadd hx hb dX2_drifts_234 ?_
      refine m_st C0 hG 46 ⟨by decide, rfl, by decide⟩ dX2_drifts_235 hF (fun σ_43 H locs hG hF => ?_)
      exact bM_drifts_236 C0 hRo hk23 _ _ _ H locs ls hG (lv_sub hl [0, 1, 2] rfl) hF
theorem bM_drifts_125 {N : Nat} (C0 : mCx p s m args meth c cX2_drifts 5 none L A) (hRo : 2 ≤ R.frames ∧ 43 ≤ R.locals) {σ' : mS} {r : Unit} {k23 : mS → Int32 → Int32 → Option (mS × Unit)} (hk23 : ∀ (σ : mS) (x1 : Int32) (x2 : Int32) (H : Heap) (locs : List Loc) (ls : Array Slot), mG A L s σ H locs → lv_has ls 5 [(0, .ref L.1), (1, .int x1), (2, .int x2)] → k23 σ x1 x2 = some (σ', r) → W p l e R s m args below meth c H locs 0 0 (mZ below L A s args σ' none) (F0 m 23 ls [])) : ∀ (n : Nat) (σ : mS) (x1 : Int32) (x2 : Int32) (x3 : Int32) (H : Heap) (locs : List Loc) (ls : Array Slot), mG A L s σ H locs → lv_has ls 5 [(0, .ref L.1), (1, .int x1), (2, .int x2), (3, .int x3)] → fM_drifts_b125 N k23 n σ x1 x2 x3 = some (σ', r) → W p l e R s m args below meth c H locs 0 0 (mZ below L A s args σ' none) (F0 m 125 ls []) := by
  have hx := C0.1
  have hb := C0.2.1
  intro n
  induction n with
  | zero => intro σ x1 x2 x3 H locs ls hG hl hF; cases hF
  | succ n ih =>
    intro σ x1 x2 x3 H locs ls hG hl hF
    unfold fM_drifts_b125 at hF
    refine lv_iload_n hx hb dX2_drifts_125 rfl (lv_at hl 3 rfl) ?_
    refine lv_aload_n hx hb dX2_drifts_126 rfl (lv_at hl 0 rfl) ?_
    refine m_geti C0 hG 0 (by decide) rfl q1578 dX2_drifts_127 hF (fun x_17 hF => ?_)
    refine lv_icmp_ge (tgt := 195) hx hb dX2_drifts_130 (by decide) (fun c_18 => ?_) (fun c_18 => ?_)
    · have hF := ifp hF c_18
      exact bM_drifts_195 C0 hRo hk23 _ _ _ H locs ls hG (lv_sub hl [0, 1, 2] rfl) hF
    · have hF := ifn hF c_18
      refine lv_aload_n hx hb dX2_drifts_133 rfl (lv_at hl 0 rfl) ?_
      refine m_geta C0 hG 45 (by decide) rfl q1623 dX2_drifts_134 ?_
      refine lv_iload_n hx hb dX2_drifts_137 rfl (lv_at hl 2 rfl) ?_
      refine m_ld C0 hG 45 ⟨by decide, rfl, by decide⟩ dX2_drifts_138 hF (fun x_19 hF => ?_)
      refine lv_iconst (v := 4) hx hb dX2_drifts_139 (by decide) ?_
      refine lv_icmp_ne (tgt := 195) hx hb dX2_drifts_140 (by decide) (fun c_20 => ?_) (fun c_20 => ?_)
      · have hF := ifn hF c_20
        exact bM_drifts_195 C0 hRo hk23 _ _ _ H locs ls hG (lv_sub hl [0, 1, 2] rfl) hF
      · have hF := ifp hF c_20
        refine lv_aload_n hx hb dX2_drifts_143 rfl (lv_at hl 0 rfl) ?_
        refine lv_aload_n hx hb dX2_drifts_144 rfl (lv_at hl 0 rfl) ?_
        refine m_geta C0 hG 7 (by decide) rfl q1585 dX2_drifts_145 ?_
        refine lv_iconst (v := 0) hx hb dX2_drifts_148 (by decide) ?_
        refine m_ld C0 hG 7 ⟨by decide, rfl, by decide⟩ dX2_drifts_149 hF (fun x_21 hF => ?_)
        obtain ⟨σ_22, r_23, e_24, hF⟩ := obi_of hF
        refine m_cVi (As := [.int x_21]) (rest := []) C0 hG (mtM_isOne l e_24) (lw_V q1774 q1776 qs54 q102 q1777) yd_X2_isOne ⟨by omega, by omega⟩ rfl rfl hl.1 (Nat.le_of_ble_eq_true rfl) dX2_drifts_150 (fun H locs hG => ?_)
        refine lv_if_eq (tgt := 195) hx hb dX2_drifts_153 (by decide) (fun c_25 => ?_) (fun c_25 => ?_)
        · have hF := ifp hF c_25
          exact bM_drifts_195 C0 hRo hk23 _ _ _ H locs ls hG (lv_sub hl [0, 1, 2] rfl) hF
        · have hF := ifn hF c_25
          refine lv_aload_n hx hb dX2_drifts_156 rfl (lv_at hl 0 rfl) ?_
          refine m_geta C0 hG 46 (by decide) rfl q1624 dX2_drifts_157 ?_
          refine lv_bipush (v := 8) hx hb dX2_drifts_160 (by decide) ?_
          refine lv_iload_n hx hb dX2_drifts_162 rfl (lv_at hl 2 rfl) ?_
          refine lv_imul hx hb dX2_drifts_163 ?_
          refine lv_bipush (v := 8) hx hb dX2_drifts_164 (by decide) ?_
          refine lv_iadd hx hb dX2_drifts_166 ?_
          refine lv_iload_n hx hb dX2_drifts_167 rfl (lv_at hl 3 rfl) ?_
          refine lv_iadd hx hb dX2_drifts_168 ?_
          refine lv_aload_n hx hb dX2_drifts_169 rfl (lv_at hl 0 rfl) ?_
          refine m_geta C0 hG 46 (by decide) rfl q1624 dX2_drifts_170 ?_
          refine lv_bipush (v := 8) hx hb dX2_drifts_173 (by decide) ?_
          refine lv_iload_n hx hb dX2_drifts_175 rfl (lv_at hl 2 rfl) ?_
          refine lv_imul hx hb dX2_drifts_176 ?_
          refine lv_bipush (v := 8) hx hb dX2_drifts_177 (by decide) ?_
          refine lv_iadd hx hb dX2_drifts_179 ?_
          refine lv_aload_n hx hb dX2_drifts_180 rfl (lv_at hl 0 rfl) ?_
          refine m_geta C0 hG 7 (by decide) rfl q1585 dX2_drifts_181 ?_
          refine lv_iconst (v := 0) hx hb dX2_drifts_184 (by decide) ?_
          refine m_ld C0 hG 7 ⟨by decide, rfl, by decide⟩ dX2_drifts_185 hF (fun x_26 hF => ?_)
          refine lv_iadd hx hb dX2_drifts_186 ?_
          refine w_nm hF (fun x_27 hF => ?_)
          refine m_ld C0 hG 46 ⟨by decide, rfl, by decide⟩ dX2_drifts_187 hF (fun x_28 hF => ?_)
          refine m_st C0 hG 46 ⟨by decide, rfl, by decide⟩ dX2_drifts_188 hF (fun σ_29 H locs hG hF => ?_)
          refine w_iinc hx hb dX2_drifts_189 hl 3 rfl (v := 1) (by decide) (by decide) hF (fun x_30 ls hl hF => ?_)
          have hl : lv_has ls 5 [(3, .int x_30), (0, .ref L.1), (1, .int x1), (2, .int x2)] := hl
          refine lv_goto (tgt := 125) hx hb dX2_drifts_192 (by decide) ?_
          exact ih _ _ _ _ H locs ls hG (lv_sub hl [1, 2, 3, 0] rfl) hF
theorem bM_drifts_89 {N : Nat} (C0 : mCx p s m args meth c cX2_drifts 5 none L A) (hRo : 2 ≤ R.frames ∧ 43 ≤ R.locals) {σ' : mS} {r : Unit} {k33 : mS → Int32 → Int32 → Int32 → Option (mS × Unit)} (hk33 : ∀ (σ : mS) (x1 : Int32) (x2 : Int32) (x3 : Int32) (H : Heap) (locs : List Loc) (ls : Array Slot), mG A L s σ H locs → lv_has ls 5 [(0, .ref L.1), (1, .int x1), (2, .int x2), (3, .int x3)] → k33 σ x1 x2 x3 = some (σ', r) → W p l e R s m args below meth c H locs 0 0 (mZ below L A s args σ' none) (F0 m 33 ls [])) (σ : mS) (x1 : Int32) (x2 : Int32) (x3 : Int32) (x4 : Int32) (H : Heap) (locs : List Loc) (ls : Array Slot) (hG : mG A L s σ H locs) (hl : lv_has ls 5 [(0, .ref L.1), (1, .int x1), (2, .int x2), (3, .int x3), (4, .int x4)]) (hF : fM_drifts_b89 N k33 σ x1 x2 x3 x4 = some (σ', r)) : W p l e R s m args below meth c H locs 0 0 (mZ below L A s args σ' none) (F0 m 89 ls []) := by
  have hx := C0.1
  have hb := C0.2.1
  unfold fM_drifts_b89 at hF
  refine lv_aload_n hx hb dX2_drifts_89 rfl (lv_at hl 0 rfl) ?_
  refine m_geta C0 hG 46 (by decide) rfl q1624 dX2_drifts_90 ?_
  refine lv_bipush (v := 8) hx hb dX2_drifts_93 (by decide) ?_
  refine lv_iload_n hx hb dX2_drifts_95 rfl (lv_at hl 2 rfl) ?_
  refine lv_imul hx hb dX2_drifts_96 ?_
  refine lv_bipush (v := 8) hx hb dX2_drifts_97 (by decide) ?_
  refine lv_iadd hx hb dX2_drifts_99 ?_
  refine lv_iload_n hx hb dX2_drifts_100 rfl (lv_at hl 3 rfl) ?_
  refine lv_iadd hx hb dX2_drifts_101 ?_
  refine lv_aload_n hx hb dX2_drifts_102 rfl (lv_at hl 0 rfl) ?_
  refine m_geta C0 hG 46 (by decide) rfl q1624 dX2_drifts_103 ?_
  refine lv_bipush (v := 8) hx hb dX2_drifts_106 (by decide) ?_
  refine lv_iload_n hx hb dX2_drifts_108 rfl (lv_at hl 2 rfl) ?_
  refine lv_imul hx hb dX2_drifts_109 ?_
  refine lv_iload_n hx hb dX2_drifts_110 rfl (lv_at hl 3 rfl) ?_
  refine lv_iadd hx hb dX2_drifts_111 ?_
  refine w_nm hF (fun x_31 hF => ?_)
  refine m_ld C0 hG 46 ⟨by decide, rfl, by decide⟩ dX2_drifts_112 hF (fun x_32 hF => ?_)
  refine lv_iload hx hb dX2_drifts_113 (lv_at hl 4 rfl) ?_
  refine lv_iadd hx hb dX2_drifts_115 ?_
  refine m_st C0 hG 46 ⟨by decide, rfl, by decide⟩ dX2_drifts_116 hF (fun σ_33 H locs hG hF => ?_)
  refine w_iinc hx hb dX2_drifts_117 hl 3 rfl (v := 1) (by decide) (by decide) hF (fun x_34 ls hl hF => ?_)
  have hl : lv_has ls 5 [(3, .int x_34), (0, .ref L.1), (1, .int x1), (2, .int x2), (4, .int x4)] := hl
  refine lv_goto (tgt := 33) hx hb dX2_drifts_120 (by decide) ?_
  exact hk33 _ _ _ _ H locs ls hG (lv_sub hl [1, 2, 3, 0] rfl) hF
theorem bM_drifts_33 {N : Nat} (C0 : mCx p s m args meth c cX2_drifts 5 none L A) (hRo : 2 ≤ R.frames ∧ 43 ≤ R.locals) {σ' : mS} {r : Unit} {k23 : mS → Int32 → Int32 → Option (mS × Unit)} (hk23 : ∀ (σ : mS) (x1 : Int32) (x2 : Int32) (H : Heap) (locs : List Loc) (ls : Array Slot), mG A L s σ H locs → lv_has ls 5 [(0, .ref L.1), (1, .int x1), (2, .int x2)] → k23 σ x1 x2 = some (σ', r) → W p l e R s m args below meth c H locs 0 0 (mZ below L A s args σ' none) (F0 m 23 ls [])) : ∀ (n : Nat) (σ : mS) (x1 : Int32) (x2 : Int32) (x3 : Int32) (H : Heap) (locs : List Loc) (ls : Array Slot), mG A L s σ H locs → lv_has ls 5 [(0, .ref L.1), (1, .int x1), (2, .int x2), (3, .int x3)] → fM_drifts_b33 N k23 n σ x1 x2 x3 = some (σ', r) → W p l e R s m args below meth c H locs 0 0 (mZ below L A s args σ' none) (F0 m 33 ls []) := by
  have hx := C0.1
  have hb := C0.2.1
  intro n
  induction n with
  | zero => intro σ x1 x2 x3 H locs ls hG hl hF; cases hF
  | succ n ih =>
    intro σ x1 x2 x3 H locs ls hG hl hF
    unfold fM_drifts_b33 at hF
    refine lv_iload_n hx hb dX2_drifts_33 rfl (lv_at hl 3 rfl) ?_
    refine lv_aload_n hx hb dX2_drifts_34 rfl (lv_at hl 0 rfl) ?_
    refine m_geti C0 hG 0 (by decide) rfl q1578 dX2_drifts_35 hF (fun x_6 hF => ?_)
    refine lv_icmp_ge (tgt := 123) hx hb dX2_drifts_38 (by decide) (fun c_7 => ?_) (fun c_7 => ?_)
    · have hF := ifp hF c_7
      refine lv_iconst (v := 0) hx hb dX2_drifts_123 (by decide) ?_
      refine lv_istore_n (lv' := [(3, .int 0), (0, .ref L.1), (1, .int x1), (2, .int x2)]) hx hb dX2_drifts_124 rfl hl (by decide) rfl (fun ls hl => ?_)
      exact bM_drifts_125 C0 hRo hk23 N _ _ _ _ H locs ls hG (lv_sub hl [1, 2, 3, 0] rfl) hF
    · have hF := ifn hF c_7
      refine lv_aload_n hx hb dX2_drifts_41 rfl (lv_at hl 0 rfl) ?_
      refine m_geta C0 hG 5 (by decide) rfl q1583 dX2_drifts_42 ?_
      refine lv_iload_n hx hb dX2_drifts_45 rfl (lv_at hl 3 rfl) ?_
      refine m_ld C0 hG 5 ⟨by decide, rfl, by decide⟩ dX2_drifts_46 hF (fun x_8 hF => ?_)
      refine lv_istore (lv' := [(4, .int x_8), (0, .ref L.1), (1, .int x1), (2, .int x2), (3, .int x3)]) hx hb dX2_drifts_47 hl (by decide) rfl (fun ls hl => ?_)
      refine lv_iload_n hx hb dX2_drifts_49 rfl (lv_at hl 2 rfl) ?_
      refine lv_if_eq (tgt := 89) hx hb dX2_drifts_50 (by decide) (fun c_9 => ?_) (fun c_9 => ?_)
      · have hF := ifp hF c_9
        exact bM_drifts_89 C0 hRo ih _ _ _ _ _ H locs ls hG (lv_sub hl [1, 2, 3, 4, 0] rfl) hF
      · have hF := ifn hF c_9
        refine lv_aload_n hx hb dX2_drifts_53 rfl (lv_at hl 1 rfl) ?_
        refine lv_aload_n hx hb dX2_drifts_54 rfl (lv_at hl 1 rfl) ?_
        refine m_geti C0 hG 51 (by decide) rfl q1629 dX2_drifts_55 hF (fun x_10 hF => ?_)
        refine lv_ldcw (v := 1103515245) hx hb C0.2.2.2.1 (C0.2.2.2.2.1 _ q1899) dX2_drifts_58 ?_
        refine lv_imul hx hb dX2_drifts_61 ?_
        refine lv_sipush (v := 12345) hx hb dX2_drifts_62 (by decide) ?_
        refine lv_iadd hx hb dX2_drifts_65 ?_
        refine m_puti C0 hG 51 (by decide) rfl q1629 dX2_drifts_66 (Or.inl ⟨by decide, by decide⟩) hF (fun σ_11 H locs hG hF => ?_)
        refine lv_aload_n hx hb dX2_drifts_69 rfl (lv_at hl 1 rfl) ?_
        refine m_geti C0 hG 51 (by decide) rfl q1629 dX2_drifts_70 hF (fun x_12 hF => ?_)
        refine lv_bipush (v := 8) hx hb dX2_drifts_73 (by decide) ?_
        refine lv_iushr (v := (x_12.toUInt32 >>> ((8 : Int32).toUInt32 &&& Int32.toUInt32 31)).toInt32) hx hb dX2_drifts_75 rfl ?_
        refine lv_bipush (v := 12) hx hb dX2_drifts_76 (by decide) ?_
        obtain ⟨h_13, hF⟩ := chz_of hF
        refine lv_irem hx hb dX2_drifts_78 h_13 ?_
        refine lv_aload_n hx hb dX2_drifts_79 rfl (lv_at hl 1 rfl) ?_
        refine m_geti C0 hG 52 (by decide) rfl q1630 dX2_drifts_80 hF (fun x_14 hF => ?_)
        refine lv_icmp_ge (tgt := 89) hx hb dX2_drifts_83 (by decide) (fun c_15 => ?_) (fun c_15 => ?_)
        · have hF := ifp hF c_15
          exact bM_drifts_89 C0 hRo ih _ _ _ _ _ H locs ls hG (lv_sub hl [1, 2, 3, 4, 0] rfl) hF
        · have hF := ifn hF c_15
          refine w_iinc hx hb dX2_drifts_86 hl 0 rfl (v := 1) (by decide) (by decide) hF (fun x_16 ls hl hF => ?_)
          have hl : lv_has ls 5 [(4, .int x_16), (0, .ref L.1), (1, .int x1), (2, .int x2), (3, .int x3)] := hl
          exact bM_drifts_89 C0 hRo ih _ _ _ _ _ H locs ls hG (lv_sub hl [1, 2, 3, 4, 0] rfl) hF
theorem bM_drifts_23 {N : Nat} (C0 : mCx p s m args meth c cX2_drifts 5 none L A) (hRo : 2 ≤ R.frames ∧ 43 ≤ R.locals) {σ' : mS} {r : Unit} : ∀ (n : Nat) (σ : mS) (x1 : Int32) (x2 : Int32) (H : Heap) (locs : List Loc) (ls : Array Slot), mG A L s σ H locs → lv_has ls 5 [(0, .ref L.1), (1, .int x1), (2, .int x2)] → fM_drifts_b23 N n σ x1 x2 = some (σ', r) → W p l e R s m args below meth c H locs 0 0 (mZ below L A s args σ' none) (F0 m 23 ls []) := by
  have hx := C0.1
  have hb := C0.2.1
  intro n
  induction n with
  | zero => intro σ x1 x2 H locs ls hG hl hF; cases hF
  | succ n ih =>
    intro σ x1 x2 H locs ls hG hl hF
    unfold fM_drifts_b23 at hF
    refine lv_iload_n hx hb dX2_drifts_23 rfl (lv_at hl 2 rfl) ?_
    refine lv_aload_n hx hb dX2_drifts_24 rfl (lv_at hl 0 rfl) ?_
    refine m_geti C0 hG 44 (by decide) rfl q1622 dX2_drifts_25 hF (fun x_4 hF => ?_)
    refine lv_icmp_ge (tgt := 242) hx hb dX2_drifts_28 (by decide) (fun c_5 => ?_) (fun c_5 => ?_)
    · have hF := ifp hF c_5
      exact m_vret C0 hG dX2_drifts_242 hF
    · have hF := ifn hF c_5
      refine lv_iconst (v := 0) hx hb dX2_drifts_31 (by decide) ?_
      refine lv_istore_n (lv' := [(3, .int 0), (0, .ref L.1), (1, .int x1), (2, .int x2)]) hx hb dX2_drifts_32 rfl hl (by decide) rfl (fun ls hl => ?_)
      exact bM_drifts_33 C0 hRo ih N _ _ _ _ H locs ls hG (lv_sub hl [1, 2, 3, 0] rfl) hF
theorem bM_drifts_2 {N : Nat} (C0 : mCx p s m args meth c cX2_drifts 5 none L A) (hRo : 2 ≤ R.frames ∧ 43 ≤ R.locals) {σ' : mS} {r : Unit} : ∀ (n : Nat) (σ : mS) (x1 : Int32) (x2 : Int32) (H : Heap) (locs : List Loc) (ls : Array Slot), mG A L s σ H locs → lv_has ls 5 [(0, .ref L.1), (1, .int x1), (2, .int x2)] → fM_drifts_b2 N n σ x1 x2 = some (σ', r) → W p l e R s m args below meth c H locs 0 0 (mZ below L A s args σ' none) (F0 m 2 ls []) := by
  have hx := C0.1
  have hb := C0.2.1
  intro n
  induction n with
  | zero => intro σ x1 x2 H locs ls hG hl hF; cases hF
  | succ n ih =>
    intro σ x1 x2 H locs ls hG hl hF
    unfold fM_drifts_b2 at hF
    refine lv_iload_n hx hb dX2_drifts_2 rfl (lv_at hl 2 rfl) ?_
    refine lv_bipush (v := 8) hx hb dX2_drifts_3 (by decide) ?_
    refine lv_icmp_ge (tgt := 21) hx hb dX2_drifts_5 (by decide) (fun c_1 => ?_) (fun c_1 => ?_)
    · have hF := ifp hF c_1
      refine lv_iconst (v := 0) hx hb dX2_drifts_21 (by decide) ?_
      refine lv_istore_n (lv' := [(2, .int 0), (0, .ref L.1), (1, .int x1)]) hx hb dX2_drifts_22 rfl hl (by decide) rfl (fun ls hl => ?_)
      exact bM_drifts_23 C0 hRo N _ _ _ H locs ls hG (lv_sub hl [1, 2, 0] rfl) hF
    · have hF := ifn hF c_1
      refine lv_aload_n hx hb dX2_drifts_8 rfl (lv_at hl 0 rfl) ?_
      refine m_geta C0 hG 46 (by decide) rfl q1624 dX2_drifts_9 ?_
      refine lv_iload_n hx hb dX2_drifts_12 rfl (lv_at hl 2 rfl) ?_
      refine lv_iconst (v := 0) hx hb dX2_drifts_13 (by decide) ?_
      refine m_st C0 hG 46 ⟨by decide, rfl, by decide⟩ dX2_drifts_14 hF (fun σ_2 H locs hG hF => ?_)
      refine w_iinc hx hb dX2_drifts_15 hl 2 rfl (v := 1) (by decide) (by decide) hF (fun x_3 ls hl hF => ?_)
      have hl : lv_has ls 5 [(2, .int x_3), (0, .ref L.1), (1, .int x1)] := hl
      refine lv_goto (tgt := 2) hx hb dX2_drifts_18 (by decide) ?_
      exact ih _ _ _ H locs ls hG (lv_sub hl [1, 2, 0] rfl) hF
theorem bM_drifts_e {N : Nat} (C0 : mCx p s m args meth c cX2_drifts 5 none L A) (hRo : 2 ≤ R.frames ∧ 43 ≤ R.locals) {σ' : mS} {r : Unit} (σ : mS) (a0 : Int32) (H : Heap) (locs : List Loc) (ls : Array Slot) (hG : mG A L s σ H locs) (hl : lv_has ls 5 [(0, .ref L.1), (1, .int a0)]) (hF : fM_drifts N σ a0 = some (σ', r)) : W p l e R s m args below meth c H locs 0 0 (mZ below L A s args σ' none) (F0 m 0 ls []) := by
  have hx := C0.1
  have hb := C0.2.1
  unfold fM_drifts at hF
  refine lv_iconst (v := 0) hx hb dX2_drifts_0 (by decide) ?_
  refine lv_istore_n (lv' := [(2, .int 0), (0, .ref L.1), (1, .int a0)]) hx hb dX2_drifts_1 rfl hl (by decide) rfl (fun ls hl => ?_)
  exact bM_drifts_2 C0 hRo N _ _ _ H locs ls hG (lv_sub hl [1, 2, 0] rfl) hF
theorem mtM_drifts (l : Launch) {N : Nat} {L : mL} {σ σ' : mS} {r : Unit} {a0 : Int32} (hF : fM_drifts N σ a0 = some (σ', r)) : mMet l yX2_drifts cX2_drifts 5 none (2) (43) [.ref L.1, .int a0] L σ none σ' := by
  refine m_head (by decide) rfl ?_
  intro p e s m below meth c A C0 hG
  have hl := lv_entry ([.ref L.1, .int a0]) (n := 5) (Nat.le_of_ble_eq_true rfl)
  rw [lg_entry_eq]
  generalize (lg_sl ([.ref L.1, .int a0]) ++ List.replicate (5 - (lg_sl ([.ref L.1, .int a0])).length) Slot.unset).toArray = ls at hl ⊢
  have hl : lv_has ls 5 [(0, .ref L.1), (1, .int a0)] := hl
  exact bM_drifts_e C0 ⟨Nat.le_refl _, Nat.le_refl _⟩ _ _ _ [] ls hG hl hF
def fM_offOf (N : Nat) (σ : mS) (a0 : Int32) (a1 : Int32) : Option (mS × Int32) :=
  nmv (((8 : Int32) * a1) + a0) fun x_1 =>
  chk x_1 488 <| nmv (σ.2.1 46 x_1.toNatClampNeg) fun x_2 =>
  chk a0 8 <| nmv (σ.2.1 6 a0.toNatClampNeg) fun x_3 =>
  some (σ, x_2 - x_3)
theorem bM_offOf_e {N : Nat} (C0 : mCx p s m args meth c cX2_offOf 3 (some .int) L A) (hRo : 0 ≤ R.frames ∧ 0 ≤ R.locals) {σ' : mS} {r : Int32} (σ : mS) (a0 : Int32) (a1 : Int32) (H : Heap) (locs : List Loc) (ls : Array Slot) (hG : mG A L s σ H locs) (hl : lv_has ls 3 [(0, .ref L.1), (1, .int a0), (2, .int a1)]) (hF : fM_offOf N σ a0 a1 = some (σ', r)) : W p l e R s m args below meth c H locs 0 0 (mZ below L A s args σ' (some (.int r))) (F0 m 0 ls []) := by
  have hx := C0.1
  have hb := C0.2.1
  unfold fM_offOf at hF
  refine lv_aload_n hx hb dX2_offOf_0 rfl (lv_at hl 0 rfl) ?_
  refine m_geta C0 hG 46 (by decide) rfl q1624 dX2_offOf_1 ?_
  refine lv_bipush (v := 8) hx hb dX2_offOf_4 (by decide) ?_
  refine lv_iload_n hx hb dX2_offOf_6 rfl (lv_at hl 2 rfl) ?_
  refine lv_imul hx hb dX2_offOf_7 ?_
  refine lv_iload_n hx hb dX2_offOf_8 rfl (lv_at hl 1 rfl) ?_
  refine lv_iadd hx hb dX2_offOf_9 ?_
  refine w_nm hF (fun x_1 hF => ?_)
  refine m_ld C0 hG 46 ⟨by decide, rfl, by decide⟩ dX2_offOf_10 hF (fun x_2 hF => ?_)
  refine lv_aload_n hx hb dX2_offOf_11 rfl (lv_at hl 0 rfl) ?_
  refine m_geta C0 hG 6 (by decide) rfl q1584 dX2_offOf_12 ?_
  refine lv_iload_n hx hb dX2_offOf_15 rfl (lv_at hl 1 rfl) ?_
  refine m_ld C0 hG 6 ⟨by decide, rfl, by decide⟩ dX2_offOf_16 hF (fun x_3 hF => ?_)
  refine lv_isub hx hb dX2_offOf_17 ?_
  exact m_iret C0 hG dX2_offOf_18 hF
theorem mtM_offOf (l : Launch) {N : Nat} {L : mL} {σ σ' : mS} {r : Int32} {a0 : Int32} {a1 : Int32} (hF : fM_offOf N σ a0 a1 = some (σ', r)) : mMet l yX2_offOf cX2_offOf 3 (some .int) (0) (0) [.ref L.1, .int a0, .int a1] L σ (some (.int r)) σ' := by
  refine m_head (by decide) rfl ?_
  intro p e s m below meth c A C0 hG
  have hl := lv_entry ([.ref L.1, .int a0, .int a1]) (n := 3) (Nat.le_of_ble_eq_true rfl)
  rw [lg_entry_eq]
  generalize (lg_sl ([.ref L.1, .int a0, .int a1]) ++ List.replicate (3 - (lg_sl ([.ref L.1, .int a0, .int a1])).length) Slot.unset).toArray = ls at hl ⊢
  have hl : lv_has ls 3 [(0, .ref L.1), (1, .int a0), (2, .int a1)] := hl
  exact bM_offOf_e C0 ⟨Nat.le_refl _, Nat.le_refl _⟩ _ _ _ _ [] ls hG hl hF
def fM_apartOf (N : Nat) (σ : mS) (a0 : Int32) (a1 : Int32) (a2 : Int32) : Option (mS × Int32) :=
  obi (fM_offOf N σ a0 a2) fun σ_1 r_2 =>
  obi (fM_offOf N σ_1 a1 a2) fun σ_4 r_5 =>
  nmv (if 0 ≤ (r_2 - r_5) then (r_2 - r_5) else 0 - (r_2 - r_5)) fun x_7 =>
  some (σ_4, x_7)
theorem bM_apartOf_e {N : Nat} (C0 : mCx p s m args meth c cX2_apartOf 4 (some .int) L A) (hRo : 1 ≤ R.frames ∧ 22 ≤ R.locals) {σ' : mS} {r : Int32} (σ : mS) (a0 : Int32) (a1 : Int32) (a2 : Int32) (H : Heap) (locs : List Loc) (ls : Array Slot) (hG : mG A L s σ H locs) (hl : lv_has ls 4 [(0, .ref L.1), (1, .int a0), (2, .int a1), (3, .int a2)]) (hF : fM_apartOf N σ a0 a1 a2 = some (σ', r)) : W p l e R s m args below meth c H locs 0 0 (mZ below L A s args σ' (some (.int r))) (F0 m 0 ls []) := by
  have hx := C0.1
  have hb := C0.2.1
  unfold fM_apartOf at hF
  refine lv_aload_n hx hb dX2_apartOf_0 rfl (lv_at hl 0 rfl) ?_
  refine lv_iload_n hx hb dX2_apartOf_1 rfl (lv_at hl 1 rfl) ?_
  refine lv_iload_n hx hb dX2_apartOf_2 rfl (lv_at hl 3 rfl) ?_
  obtain ⟨σ_1, r_2, e_3, hF⟩ := obi_of hF
  refine m_cVi (As := [.int a0, .int a2]) (rest := []) C0 hG (mtM_offOf l e_3) (lw_V q1908 q1910 qs77 q102 q1911) yd_X2_offOf ⟨by omega, by omega⟩ rfl rfl hl.1 (Nat.le_of_ble_eq_true rfl) dX2_apartOf_3 (fun H locs hG => ?_)
  refine lv_aload_n hx hb dX2_apartOf_6 rfl (lv_at hl 0 rfl) ?_
  refine lv_iload_n hx hb dX2_apartOf_7 rfl (lv_at hl 2 rfl) ?_
  refine lv_iload_n hx hb dX2_apartOf_8 rfl (lv_at hl 3 rfl) ?_
  obtain ⟨σ_4, r_5, e_6, hF⟩ := obi_of hF
  refine m_cVi (As := [.int a1, .int a2]) (rest := [.int r_2]) C0 hG (mtM_offOf l e_6) (lw_V q1908 q1910 qs77 q102 q1911) yd_X2_offOf ⟨by omega, by omega⟩ rfl rfl hl.1 (Nat.le_of_ble_eq_true rfl) dX2_apartOf_9 (fun H locs hG => ?_)
  refine lv_isub hx hb dX2_apartOf_12 ?_
  refine m_abs C0 hl.1 q1870 q825 q116 q826 ⟨by omega, by omega⟩ (Nat.le_of_ble_eq_true rfl) dX2_apartOf_13 hF (fun x_7 hF => ?_)
  exact m_iret C0 hG dX2_apartOf_16 hF
theorem mtM_apartOf (l : Launch) {N : Nat} {L : mL} {σ σ' : mS} {r : Int32} {a0 : Int32} {a1 : Int32} {a2 : Int32} (hF : fM_apartOf N σ a0 a1 a2 = some (σ', r)) : mMet l yX2_apartOf cX2_apartOf 4 (some .int) (1) (22) [.ref L.1, .int a0, .int a1, .int a2] L σ (some (.int r)) σ' := by
  refine m_head (by decide) rfl ?_
  intro p e s m below meth c A C0 hG
  have hl := lv_entry ([.ref L.1, .int a0, .int a1, .int a2]) (n := 4) (Nat.le_of_ble_eq_true rfl)
  rw [lg_entry_eq]
  generalize (lg_sl ([.ref L.1, .int a0, .int a1, .int a2]) ++ List.replicate (4 - (lg_sl ([.ref L.1, .int a0, .int a1, .int a2])).length) Slot.unset).toArray = ls at hl ⊢
  have hl : lv_has ls 4 [(0, .ref L.1), (1, .int a0), (2, .int a1), (3, .int a2)] := hl
  exact bM_apartOf_e C0 ⟨Nat.le_refl _, Nat.le_refl _⟩ _ _ _ _ _ [] ls hG hl hF
def fM_farthest_b67 (N : Nat) (k23 : mS → Int32 → Int32 → Int32 → Int32 → Int32 → Option (mS × Int32)) (σ : mS) (x1 : Int32) (x2 : Int32) (x3 : Int32) (x4 : Int32) (x5 : Int32) : Option (mS × Int32) :=
  nmv (x5 + 1) fun x_15 =>
  k23 σ x1 x2 x3 x4 x_15
def fM_farthest_b23 (N : Nat) (k8 : mS → Int32 → Int32 → Int32 → Int32 → Option (mS × Int32)) : Nat → mS → Int32 → Int32 → Int32 → Int32 → Int32 → Option (mS × Int32)
  | 0, _, _, _, _, _, _ => none
  | n + 1, σ, x1, x2, x3, x4, x5 =>
    nmv (σ.1 0) fun x_4 =>
    if x_4 ≤ x5 then (
      nmv (x4 + 1) fun x_6 =>
      k8 σ x1 x2 x3 x_6)
    else (
      obi (fM_apartOf N σ x4 x5 x1) fun σ_7 r_8 =>
      if x3 < r_8 then (
        obi (fM_apartOf N σ_7 x4 x5 x1) fun σ_11 r_12 =>
        nmv (((10 : Int32) * x4) + x5) fun x_14 =>
        fM_farthest_b67 N (fM_farthest_b23 N k8 n) σ_11 x1 x_14 r_12 x4 x5)
      else (
        fM_farthest_b67 N (fM_farthest_b23 N k8 n) σ_7 x1 x2 x3 x4 x5))
def fM_farthest_b8 (N : Nat) : Nat → mS → Int32 → Int32 → Int32 → Int32 → Option (mS × Int32)
  | 0, _, _, _, _, _ => none
  | n + 1, σ, x1, x2, x3, x4 =>
    nmv (σ.1 0) fun x_1 =>
    if x_1 ≤ x4 then (
      some (σ, x2))
    else (
      nmv (x4 + 1) fun x_3 =>
      fM_farthest_b23 N (fM_farthest_b8 N n) N σ x1 x2 x3 x4 x_3)
def fM_farthest (N : Nat) (σ : mS) (a0 : Int32) : Option (mS × Int32) :=
  fM_farthest_b8 N N σ a0 (-2) (-1) 0
theorem bM_farthest_67 {N : Nat} (C0 : mCx p s m args meth c cX2_farthest 6 (some .int) L A) (hRo : 2 ≤ R.frames ∧ 45 ≤ R.locals) {σ' : mS} {r : Int32} {k23 : mS → Int32 → Int32 → Int32 → Int32 → Int32 → Option (mS × Int32)} (hk23 : ∀ (σ : mS) (x1 : Int32) (x2 : Int32) (x3 : Int32) (x4 : Int32) (x5 : Int32) (H : Heap) (locs : List Loc) (ls : Array Slot), mG A L s σ H locs → lv_has ls 6 [(0, .ref L.1), (1, .int x1), (2, .int x2), (3, .int x3), (4, .int x4), (5, .int x5)] → k23 σ x1 x2 x3 x4 x5 = some (σ', r) → W p l e R s m args below meth c H locs 0 0 (mZ below L A s args σ' (some (.int r))) (F0 m 23 ls [])) (σ : mS) (x1 : Int32) (x2 : Int32) (x3 : Int32) (x4 : Int32) (x5 : Int32) (H : Heap) (locs : List Loc) (ls : Array Slot) (hG : mG A L s σ H locs) (hl : lv_has ls 6 [(0, .ref L.1), (1, .int x1), (2, .int x2), (3, .int x3), (4, .int x4), (5, .int x5)]) (hF : fM_farthest_b67 N k23 σ x1 x2 x3 x4 x5 = some (σ', r)) : W p l e R s m args below meth c H locs 0 0 (mZ below L A s args σ' (some (.int r))) (F0 m 67 ls []) := by
  have hx := C0.1
  have hb := C0.2.1
  unfold fM_farthest_b67 at hF
  refine w_iinc hx hb dX2_farthest_67 hl 5 rfl (v := 1) (by decide) (by decide) hF (fun x_15 ls hl hF => ?_)
  have hl : lv_has ls 6 [(5, .int x_15), (0, .ref L.1), (1, .int x1), (2, .int x2), (3, .int x3), (4, .int x4)] := hl
  refine lv_goto (tgt := 23) hx hb dX2_farthest_70 (by decide) ?_
  exact hk23 _ _ _ _ _ _ H locs ls hG (lv_sub hl [1, 2, 3, 4, 5, 0] rfl) hF
theorem bM_farthest_23 {N : Nat} (C0 : mCx p s m args meth c cX2_farthest 6 (some .int) L A) (hRo : 2 ≤ R.frames ∧ 45 ≤ R.locals) {σ' : mS} {r : Int32} {k8 : mS → Int32 → Int32 → Int32 → Int32 → Option (mS × Int32)} (hk8 : ∀ (σ : mS) (x1 : Int32) (x2 : Int32) (x3 : Int32) (x4 : Int32) (H : Heap) (locs : List Loc) (ls : Array Slot), mG A L s σ H locs → lv_has ls 6 [(0, .ref L.1), (1, .int x1), (2, .int x2), (3, .int x3), (4, .int x4)] → k8 σ x1 x2 x3 x4 = some (σ', r) → W p l e R s m args below meth c H locs 0 0 (mZ below L A s args σ' (some (.int r))) (F0 m 8 ls [])) : ∀ (n : Nat) (σ : mS) (x1 : Int32) (x2 : Int32) (x3 : Int32) (x4 : Int32) (x5 : Int32) (H : Heap) (locs : List Loc) (ls : Array Slot), mG A L s σ H locs → lv_has ls 6 [(0, .ref L.1), (1, .int x1), (2, .int x2), (3, .int x3), (4, .int x4), (5, .int x5)] → fM_farthest_b23 N k8 n σ x1 x2 x3 x4 x5 = some (σ', r) → W p l e R s m args below meth c H locs 0 0 (mZ below L A s args σ' (some (.int r))) (F0 m 23 ls []) := by
  have hx := C0.1
  have hb := C0.2.1
  intro n
  induction n with
  | zero => intro σ x1 x2 x3 x4 x5 H locs ls hG hl hF; cases hF
  | succ n ih =>
    intro σ x1 x2 x3 x4 x5 H locs ls hG hl hF
    unfold fM_farthest_b23 at hF
    refine lv_iload hx hb dX2_farthest_23 (lv_at hl 5 rfl) ?_
    refine lv_aload_n hx hb dX2_farthest_25 rfl (lv_at hl 0 rfl) ?_
    refine m_geti C0 hG 0 (by decide) rfl q1578 dX2_farthest_26 hF (fun x_4 hF => ?_)
    refine lv_icmp_ge (tgt := 73) hx hb dX2_farthest_29 (by decide) (fun c_5 => ?_) (fun c_5 => ?_)
    · have hF := ifp hF c_5
      refine w_iinc hx hb dX2_farthest_73 hl 4 rfl (v := 1) (by decide) (by decide) hF (fun x_6 ls hl hF => ?_)
      have hl : lv_has ls 6 [(4, .int x_6), (0, .ref L.1), (1, .int x1), (2, .int x2), (3, .int x3), (5, .int x5)] := hl
      refine lv_goto (tgt := 8) hx hb dX2_farthest_76 (by decide) ?_
      exact hk8 _ _ _ _ _ H locs ls hG (lv_sub hl [1, 2, 3, 4, 0] rfl) hF
    · have hF := ifn hF c_5
      refine lv_aload_n hx hb dX2_farthest_32 rfl (lv_at hl 0 rfl) ?_
      refine lv_iload hx hb dX2_farthest_33 (lv_at hl 4 rfl) ?_
      refine lv_iload hx hb dX2_farthest_35 (lv_at hl 5 rfl) ?_
      refine lv_iload_n hx hb dX2_farthest_37 rfl (lv_at hl 1 rfl) ?_
      obtain ⟨σ_7, r_8, e_9, hF⟩ := obi_of hF
      refine m_cVi (As := [.int x4, .int x5, .int x1]) (rest := []) C0 hG (mtM_apartOf l e_9) (lw_V q1904 q1906 qs76 q102 q1907) yd_X2_apartOf ⟨by omega, by omega⟩ rfl rfl hl.1 (Nat.le_of_ble_eq_true rfl) dX2_farthest_38 (fun H locs hG => ?_)
      refine lv_iload_n hx hb dX2_farthest_41 rfl (lv_at hl 3 rfl) ?_
      refine lv_icmp_gt (tgt := 48) hx hb dX2_farthest_42 (by decide) (fun c_10 => ?_) (fun c_10 => ?_)
      · have hF := ifp hF c_10
        refine lv_aload_n hx hb dX2_farthest_48 rfl (lv_at hl 0 rfl) ?_
        refine lv_iload hx hb dX2_farthest_49 (lv_at hl 4 rfl) ?_
        refine lv_iload hx hb dX2_farthest_51 (lv_at hl 5 rfl) ?_
        refine lv_iload_n hx hb dX2_farthest_53 rfl (lv_at hl 1 rfl) ?_
        obtain ⟨σ_11, r_12, e_13, hF⟩ := obi_of hF
        refine m_cVi (As := [.int x4, .int x5, .int x1]) (rest := []) C0 hG (mtM_apartOf l e_13) (lw_V q1904 q1906 qs76 q102 q1907) yd_X2_apartOf ⟨by omega, by omega⟩ rfl rfl hl.1 (Nat.le_of_ble_eq_true rfl) dX2_farthest_54 (fun H locs hG => ?_)
        refine lv_istore_n (lv' := [(3, .int r_12), (0, .ref L.1), (1, .int x1), (2, .int x2), (4, .int x4), (5, .int x5)]) hx hb dX2_farthest_57 rfl hl (by decide) rfl (fun ls hl => ?_)
        refine lv_bipush (v := 10) hx hb dX2_farthest_58 (by decide) ?_
        refine lv_iload hx hb dX2_farthest_60 (lv_at hl 4 rfl) ?_
        refine lv_imul hx hb dX2_farthest_62 ?_
        refine lv_iload hx hb dX2_farthest_63 (lv_at hl 5 rfl) ?_
        refine lv_iadd hx hb dX2_farthest_65 ?_
        refine w_nm hF (fun x_14 hF => ?_)
        refine lv_istore_n (lv' := [(2, .int x_14), (3, .int r_12), (0, .ref L.1), (1, .int x1), (4, .int x4), (5, .int x5)]) hx hb dX2_farthest_66 rfl hl (by decide) rfl (fun ls hl => ?_)
        exact bM_farthest_67 C0 hRo ih _ _ _ _ _ _ H locs ls hG (lv_sub hl [2, 3, 0, 1, 4, 5] rfl) hF
      · have hF := ifn hF c_10
        refine lv_goto (tgt := 67) hx hb dX2_farthest_45 (by decide) ?_
        exact bM_farthest_67 C0 hRo ih _ _ _ _ _ _ H locs ls hG (lv_sub hl [0, 1, 2, 3, 4, 5] rfl) hF
theorem bM_farthest_8 {N : Nat} (C0 : mCx p s m args meth c cX2_farthest 6 (some .int) L A) (hRo : 2 ≤ R.frames ∧ 45 ≤ R.locals) {σ' : mS} {r : Int32} : ∀ (n : Nat) (σ : mS) (x1 : Int32) (x2 : Int32) (x3 : Int32) (x4 : Int32) (H : Heap) (locs : List Loc) (ls : Array Slot), mG A L s σ H locs → lv_has ls 6 [(0, .ref L.1), (1, .int x1), (2, .int x2), (3, .int x3), (4, .int x4)] → fM_farthest_b8 N n σ x1 x2 x3 x4 = some (σ', r) → W p l e R s m args below meth c H locs 0 0 (mZ below L A s args σ' (some (.int r))) (F0 m 8 ls []) := by
  have hx := C0.1
  have hb := C0.2.1
  intro n
  induction n with
  | zero => intro σ x1 x2 x3 x4 H locs ls hG hl hF; cases hF
  | succ n ih =>
    intro σ x1 x2 x3 x4 H locs ls hG hl hF
    unfold fM_farthest_b8 at hF
    refine lv_iload hx hb dX2_farthest_8 (lv_at hl 4 rfl) ?_
    refine lv_aload_n hx hb dX2_farthest_10 rfl (lv_at hl 0 rfl) ?_
    refine m_geti C0 hG 0 (by decide) rfl q1578 dX2_farthest_11 hF (fun x_1 hF => ?_)
    refine lv_icmp_ge (tgt := 79) hx hb dX2_farthest_14 (by decide) (fun c_2 => ?_) (fun c_2 => ?_)
    · have hF := ifp hF c_2
      refine lv_iload_n hx hb dX2_farthest_79 rfl (lv_at hl 2 rfl) ?_
      exact m_iret C0 hG dX2_farthest_80 hF
    · have hF := ifn hF c_2
      refine lv_iload hx hb dX2_farthest_17 (lv_at hl 4 rfl) ?_
      refine lv_iconst (v := 1) hx hb dX2_farthest_19 (by decide) ?_
      refine lv_iadd hx hb dX2_farthest_20 ?_
      refine w_nm hF (fun x_3 hF => ?_)
      refine lv_istore (lv' := [(5, .int x_3), (0, .ref L.1), (1, .int x1), (2, .int x2), (3, .int x3), (4, .int x4)]) hx hb dX2_farthest_21 hl (by decide) rfl (fun ls hl => ?_)
      exact bM_farthest_23 C0 hRo ih N _ _ _ _ _ _ H locs ls hG (lv_sub hl [1, 2, 3, 4, 5, 0] rfl) hF
theorem bM_farthest_e {N : Nat} (C0 : mCx p s m args meth c cX2_farthest 6 (some .int) L A) (hRo : 2 ≤ R.frames ∧ 45 ≤ R.locals) {σ' : mS} {r : Int32} (σ : mS) (a0 : Int32) (H : Heap) (locs : List Loc) (ls : Array Slot) (hG : mG A L s σ H locs) (hl : lv_has ls 6 [(0, .ref L.1), (1, .int a0)]) (hF : fM_farthest N σ a0 = some (σ', r)) : W p l e R s m args below meth c H locs 0 0 (mZ below L A s args σ' (some (.int r))) (F0 m 0 ls []) := by
  have hx := C0.1
  have hb := C0.2.1
  unfold fM_farthest at hF
  refine lv_bipush (v := (-2)) hx hb dX2_farthest_0 (by decide) ?_
  refine lv_istore_n (lv' := [(2, .int (-2)), (0, .ref L.1), (1, .int a0)]) hx hb dX2_farthest_2 rfl hl (by decide) rfl (fun ls hl => ?_)
  refine lv_iconst (v := (-1)) hx hb dX2_farthest_3 (by decide) ?_
  refine lv_istore_n (lv' := [(3, .int (-1)), (2, .int (-2)), (0, .ref L.1), (1, .int a0)]) hx hb dX2_farthest_4 rfl hl (by decide) rfl (fun ls hl => ?_)
  refine lv_iconst (v := 0) hx hb dX2_farthest_5 (by decide) ?_
  refine lv_istore (lv' := [(4, .int 0), (3, .int (-1)), (2, .int (-2)), (0, .ref L.1), (1, .int a0)]) hx hb dX2_farthest_6 hl (by decide) rfl (fun ls hl => ?_)
  exact bM_farthest_8 C0 hRo N _ _ _ _ _ H locs ls hG (lv_sub hl [3, 4, 2, 1, 0] rfl) hF
theorem mtM_farthest (l : Launch) {N : Nat} {L : mL} {σ σ' : mS} {r : Int32} {a0 : Int32} (hF : fM_farthest N σ a0 = some (σ', r)) : mMet l yX2_farthest cX2_farthest 6 (some .int) (2) (45) [.ref L.1, .int a0] L σ (some (.int r)) σ' := by
  refine m_head (by decide) rfl ?_
  intro p e s m below meth c A C0 hG
  have hl := lv_entry ([.ref L.1, .int a0]) (n := 6) (Nat.le_of_ble_eq_true rfl)
  rw [lg_entry_eq]
  generalize (lg_sl ([.ref L.1, .int a0]) ++ List.replicate (6 - (lg_sl ([.ref L.1, .int a0])).length) Slot.unset).toArray = ls at hl ⊢
  have hl : lv_has ls 6 [(0, .ref L.1), (1, .int a0)] := hl
  exact bM_farthest_e C0 ⟨Nat.le_refl _, Nat.le_refl _⟩ _ _ _ [] ls hG hl hF
def fM_greatest (N : Nat) (σ : mS) (a0 : Int32) : Option (mS × Int32) :=
  obi (fM_farthest N σ a0) fun σ_1 r_2 =>
  if r_2 = (-2) then (
    some (σ_1, 0))
  else (
    chz 10 <|
    chz 10 <|
    obi (fM_apartOf N σ_1 (r_2 / 10) (r_2 - r_2 / 10 * 10) a0) fun σ_7 r_8 =>
    some (σ_7, r_8))
theorem bM_greatest_e {N : Nat} (C0 : mCx p s m args meth c cX2_greatest 3 (some .int) L A) (hRo : 3 ≤ R.frames ∧ 70 ≤ R.locals) {σ' : mS} {r : Int32} (σ : mS) (a0 : Int32) (H : Heap) (locs : List Loc) (ls : Array Slot) (hG : mG A L s σ H locs) (hl : lv_has ls 3 [(0, .ref L.1), (1, .int a0)]) (hF : fM_greatest N σ a0 = some (σ', r)) : W p l e R s m args below meth c H locs 0 0 (mZ below L A s args σ' (some (.int r))) (F0 m 0 ls []) := by
  have hx := C0.1
  have hb := C0.2.1
  unfold fM_greatest at hF
  refine lv_aload_n hx hb dX2_greatest_0 rfl (lv_at hl 0 rfl) ?_
  refine lv_iload_n hx hb dX2_greatest_1 rfl (lv_at hl 1 rfl) ?_
  obtain ⟨σ_1, r_2, e_3, hF⟩ := obi_of hF
  refine m_cVi (As := [.int a0]) (rest := []) C0 hG (mtM_farthest l e_3) (lw_V q1920 q1922 qs80 q102 q1923) yd_X2_farthest ⟨by omega, by omega⟩ rfl rfl hl.1 (Nat.le_of_ble_eq_true rfl) dX2_greatest_2 (fun H locs hG => ?_)
  refine lv_istore_n (lv' := [(2, .int r_2), (0, .ref L.1), (1, .int a0)]) hx hb dX2_greatest_5 rfl hl (by decide) rfl (fun ls hl => ?_)
  refine lv_iload_n hx hb dX2_greatest_6 rfl (lv_at hl 0 rfl) ?_
  refine lv_bipush (v := (-2)) hx hb dX2_greatest_7 (by decide) ?_
  refine lv_icmp_ne (tgt := 16) hx hb dX2_greatest_9 (by decide) (fun c_4 => ?_) (fun c_4 => ?_)
  · have hF := ifn hF c_4
    refine lv_aload_n hx hb dX2_greatest_16 rfl (lv_at hl 1 rfl) ?_
    refine lv_iload_n hx hb dX2_greatest_17 rfl (lv_at hl 0 rfl) ?_
    refine lv_bipush (v := 10) hx hb dX2_greatest_18 (by decide) ?_
    obtain ⟨h_5, hF⟩ := chz_of hF
    refine lv_idiv hx hb dX2_greatest_20 h_5 ?_
    refine lv_iload_n hx hb dX2_greatest_21 rfl (lv_at hl 0 rfl) ?_
    refine lv_bipush (v := 10) hx hb dX2_greatest_22 (by decide) ?_
    obtain ⟨h_6, hF⟩ := chz_of hF
    refine lv_irem hx hb dX2_greatest_24 h_6 ?_
    refine lv_iload_n hx hb dX2_greatest_25 rfl (lv_at hl 2 rfl) ?_
    obtain ⟨σ_7, r_8, e_9, hF⟩ := obi_of hF
    refine m_cVi (As := [.int (r_2 / 10), .int (r_2 - r_2 / 10 * 10), .int a0]) (rest := []) C0 hG (mtM_apartOf l e_9) (lw_V q1904 q1906 qs76 q102 q1907) yd_X2_apartOf ⟨by omega, by omega⟩ rfl rfl hl.1 (Nat.le_of_ble_eq_true rfl) dX2_greatest_26 (fun H locs hG => ?_)
    exact m_iret C0 hG dX2_greatest_29 hF
  · have hF := ifp hF c_4
    refine lv_iconst (v := 0) hx hb dX2_greatest_12 (by decide) ?_
    refine lv_goto (tgt := 29) hx hb dX2_greatest_13 (by decide) ?_
    exact m_iret C0 hG dX2_greatest_29 hF
theorem mtM_greatest (l : Launch) {N : Nat} {L : mL} {σ σ' : mS} {r : Int32} {a0 : Int32} (hF : fM_greatest N σ a0 = some (σ', r)) : mMet l yX2_greatest cX2_greatest 3 (some .int) (3) (70) [.ref L.1, .int a0] L σ (some (.int r)) σ' := by
  refine m_head (by decide) rfl ?_
  intro p e s m below meth c A C0 hG
  have hl := lv_entry ([.ref L.1, .int a0]) (n := 3) (Nat.le_of_ble_eq_true rfl)
  rw [lg_entry_eq]
  generalize (lg_sl ([.ref L.1, .int a0]) ++ List.replicate (3 - (lg_sl ([.ref L.1, .int a0])).length) Slot.unset).toArray = ls at hl ⊢
  have hl : lv_has ls 3 [(0, .ref L.1), (1, .int a0)] := hl
  exact bM_greatest_e C0 ⟨Nat.le_refl _, Nat.le_refl _⟩ _ _ _ [] ls hG hl hF
end MWALK5
