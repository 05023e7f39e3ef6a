section MWALK0
variable {p : Program} {l : Launch} {e : Env} {R : Room} {s : State} {m : MethodId} {args : Array Value} {below : List Frame} {meth : Method} {c : Code} {A : Nat → Prop}
variable {L : mL}
def fM_within (N : Nat) (σ : mS) (a0 : Int32) (a1 : Int32) (a2 : Int32) : Option (mS × Int32) :=
  if a0 < a1 then (
    chb 0 (some (σ, 0)))
  else (
    if a2 < a0 then (
      chb 0 (some (σ, 0)))
    else (
      chb 1 (some (σ, 1))))
theorem bM_within_e {N : Nat} (C0 : mCx p s m args meth c cX2_within 3 (some .boolean) L A) (hRo : 0 ≤ R.frames ∧ 0 ≤ R.locals) {σ' : mS} {r : Int32} (σ : mS) (a0 : Int32) (a1 : Int32) (a2 : Int32) (H : Heap) (locs : List Loc) (ls : Array Slot) (hG : mG A L s σ H locs) (hl : lv_has ls 3 [(0, .int a0), (1, .int a1), (2, .int a2)]) (hF : fM_within N σ a0 a1 a2 = some (σ', r)) : W p l e R s m args below meth c H locs 0 0 (mZ below L A s args σ' (some (.int r))) (F0 m 0 ls []) := by
  have hx := C0.1
  have hb := C0.2.1
  unfold fM_within at hF
  refine lv_iload_n hx hb dX2_within_0 rfl (lv_at hl 0 rfl) ?_
  refine lv_iload_n hx hb dX2_within_1 rfl (lv_at hl 1 rfl) ?_
  refine lv_icmp_lt (tgt := 14) hx hb dX2_within_2 (by decide) (fun c_1 => ?_) (fun c_1 => ?_)
  · have hF := ifp hF c_1
    refine lv_iconst (v := 0) hx hb dX2_within_14 (by decide) ?_
    exact m_zret C0 hG dX2_within_15 hF
  · have hF := ifn hF c_1
    refine lv_iload_n hx hb dX2_within_5 rfl (lv_at hl 0 rfl) ?_
    refine lv_iload_n hx hb dX2_within_6 rfl (lv_at hl 2 rfl) ?_
    refine lv_icmp_gt (tgt := 14) hx hb dX2_within_7 (by decide) (fun c_2 => ?_) (fun c_2 => ?_)
    · have hF := ifp hF c_2
      refine lv_iconst (v := 0) hx hb dX2_within_14 (by decide) ?_
      exact m_zret C0 hG dX2_within_15 hF
    · have hF := ifn hF c_2
      refine lv_iconst (v := 1) hx hb dX2_within_10 (by decide) ?_
      refine lv_goto (tgt := 15) hx hb dX2_within_11 (by decide) ?_
      exact m_zret C0 hG dX2_within_15 hF
theorem mtM_within (l : Launch) {N : Nat} {L : mL} {σ σ' : mS} {r : Int32} {a0 : Int32} {a1 : Int32} {a2 : Int32} (hF : fM_within N σ a0 a1 a2 = some (σ', r)) : mMet l yX2_within cX2_within 3 (some .boolean) (0) (0) [.int a0, .int a1, .int a2] L σ (some (.int r)) σ' := by
  refine m_head (by decide) rfl ?_
  intro p e s m below meth c A C0 hG
  have hl := lv_entry ([.int a0, .int a1, .int a2]) (n := 3) (Nat.le_of_ble_eq_true rfl)
  rw [lg_entry_eq]
  generalize (lg_sl ([.int a0, .int a1, .int a2]) ++ List.replicate (3 - (lg_sl ([.int a0, .int a1, .int a2])).length) Slot.unset).toArray = ls at hl ⊢
  have hl : lv_has ls 3 [(0, .int a0), (1, .int a1), (2, .int a2)] := hl
  exact bM_within_e C0 ⟨Nat.le_refl _, Nat.le_refl _⟩ _ _ _ _ _ [] ls hG hl hF
def fM_isShelf (N : Nat) (σ : mS) (a0 : Int32) : Option (mS × Int32) :=
  obi (fM_within N σ a0 0 5) fun σ_1 r_2 =>
  chb r_2 (some (σ_1, r_2))
theorem bM_isShelf_e {N : Nat} (C0 : mCx p s m args meth c cX2_isShelf 1 (some .boolean) L A) (hRo : 1 ≤ R.frames ∧ 22 ≤ R.locals) {σ' : mS} {r : Int32} (σ : mS) (a0 : Int32) (H : Heap) (locs : List Loc) (ls : Array Slot) (hG : mG A L s σ H locs) (hl : lv_has ls 1 [(0, .int a0)]) (hF : fM_isShelf N σ a0 = some (σ', r)) : W p l e R s m args below meth c H locs 0 0 (mZ below L A s args σ' (some (.int r))) (F0 m 0 ls []) := by
  have hx := C0.1
  have hb := C0.2.1
  unfold fM_isShelf at hF
  refine lv_iload_n hx hb dX2_isShelf_0 rfl (lv_at hl 0 rfl) ?_
  refine lv_iconst (v := 0) hx hb dX2_isShelf_1 (by decide) ?_
  refine lv_iconst (v := 5) hx hb dX2_isShelf_2 (by decide) ?_
  obtain ⟨σ_1, r_2, e_3, hF⟩ := obi_of hF
  refine m_cSi (As := [.int a0, .int 0, .int 5]) (rest := []) C0 hG (mtM_within l e_3) (lw_S q1751 q1752 q102 q1753) yd_X2_within ⟨by omega, by omega⟩ rfl rfl hl.1 (Nat.le_of_ble_eq_true rfl) dX2_isShelf_3 (fun H locs hG => ?_)
  exact m_zret C0 hG dX2_isShelf_6 hF
theorem mtM_isShelf (l : Launch) {N : Nat} {L : mL} {σ σ' : mS} {r : Int32} {a0 : Int32} (hF : fM_isShelf N σ a0 = some (σ', r)) : mMet l yX2_isShelf cX2_isShelf 1 (some .boolean) (1) (22) [.int a0] L σ (some (.int r)) σ' := by
  refine m_head (by decide) rfl ?_
  intro p e s m below meth c A C0 hG
  have hl := lv_entry ([.int a0]) (n := 1) (Nat.le_of_ble_eq_true rfl)
  rw [lg_entry_eq]
  generalize (lg_sl ([.int a0]) ++ List.replicate (1 - (lg_sl ([.int a0])).length) Slot.unset).toArray = ls at hl ⊢
  have hl : lv_has ls 1 [(0, .int a0)] := hl
  exact bM_isShelf_e C0 ⟨Nat.le_refl _, Nat.le_refl _⟩ _ _ _ [] ls hG hl hF
def fM_isOne (N : Nat) (σ : mS) (a0 : Int32) : Option (mS × Int32) :=
  nmv (σ.1 0) fun x_1 =>
  obi (fM_within N σ a0 0 (x_1 - 1)) fun σ_2 r_3 =>
  chb r_3 (some (σ_2, r_3))
theorem bM_isOne_e {N : Nat} (C0 : mCx p s m args meth c cX2_isOne 2 (some .boolean) L A) (hRo : 1 ≤ R.frames ∧ 22 ≤ R.locals) {σ' : mS} {r : Int32} (σ : mS) (a0 : Int32) (H : Heap) (locs : List Loc) (ls : Array Slot) (hG : mG A L s σ H locs) (hl : lv_has ls 2 [(0, .ref L.1), (1, .int a0)]) (hF : fM_isOne N σ a0 = some (σ', r)) : W p l e R s m args below meth c H locs 0 0 (mZ below L A s args σ' (some (.int r))) (F0 m 0 ls []) := by
  have hx := C0.1
  have hb := C0.2.1
  unfold fM_isOne at hF
  refine lv_iload_n hx hb dX2_isOne_0 rfl (lv_at hl 1 rfl) ?_
  refine lv_iconst (v := 0) hx hb dX2_isOne_1 (by decide) ?_
  refine lv_aload_n hx hb dX2_isOne_2 rfl (lv_at hl 0 rfl) ?_
  refine m_geti C0 hG 0 (by decide) rfl q1578 dX2_isOne_3 hF (fun x_1 hF => ?_)
  refine lv_iconst (v := 1) hx hb dX2_isOne_6 (by decide) ?_
  refine lv_isub hx hb dX2_isOne_7 ?_
  obtain ⟨σ_2, r_3, e_4, hF⟩ := obi_of hF
  refine m_cSi (As := [.int a0, .int 0, .int (x_1 - 1)]) (rest := []) C0 hG (mtM_within l e_4) (lw_S q1751 q1752 q102 q1753) yd_X2_within ⟨by omega, by omega⟩ rfl rfl hl.1 (Nat.le_of_ble_eq_true rfl) dX2_isOne_8 (fun H locs hG => ?_)
  exact m_zret C0 hG dX2_isOne_11 hF
theorem mtM_isOne (l : Launch) {N : Nat} {L : mL} {σ σ' : mS} {r : Int32} {a0 : Int32} (hF : fM_isOne N σ a0 = some (σ', r)) : mMet l yX2_isOne cX2_isOne 2 (some .boolean) (1) (22) [.ref L.1, .int a0] L σ (some (.int r)) σ' := by
  refine m_head (by decide) rfl ?_
  intro p e s m below meth c A C0 hG
  have hl := lv_entry ([.ref L.1, .int a0]) (n := 2) (Nat.le_of_ble_eq_true rfl)
  rw [lg_entry_eq]
  generalize (lg_sl ([.ref L.1, .int a0]) ++ List.replicate (2 - (lg_sl ([.ref L.1, .int a0])).length) Slot.unset).toArray = ls at hl ⊢
  have hl : lv_has ls 2 [(0, .ref L.1), (1, .int a0)] := hl
  exact bM_isOne_e C0 ⟨Nat.le_refl _, Nat.le_refl _⟩ _ _ _ [] ls hG hl hF
def fM_areTwo (N : Nat) (σ : mS) (a0 : Int32) : Option (mS × Int32) :=
  if a0 < 0 then (
    chb 0 (some (σ, 0)))
  else (
    chz 10 <|
    obi (fM_isOne N σ (a0 / 10)) fun σ_3 r_4 =>
    if r_4 = 0 then (
      chb 0 (some (σ_3, 0)))
    else (
      chz 10 <|
      obi (fM_isOne N σ_3 (a0 - a0 / 10 * 10)) fun σ_8 r_9 =>
      if r_9 = 0 then (
        chb 0 (some (σ_8, 0)))
      else (
        chz 10 <|
        chz 10 <|
        if (a0 / 10) = (a0 - a0 / 10 * 10) then (
          chb 0 (some (σ_8, 0)))
        else (
          chb 1 (some (σ_8, 1))))))
theorem bM_areTwo_e {N : Nat} (C0 : mCx p s m args meth c cX2_areTwo 2 (some .boolean) L A) (hRo : 2 ≤ R.frames ∧ 43 ≤ R.locals) {σ' : mS} {r : Int32} (σ : mS) (a0 : Int32) (H : Heap) (locs : List Loc) (ls : Array Slot) (hG : mG A L s σ H locs) (hl : lv_has ls 2 [(0, .ref L.1), (1, .int a0)]) (hF : fM_areTwo N σ a0 = some (σ', r)) : W p l e R s m args below meth c H locs 0 0 (mZ below L A s args σ' (some (.int r))) (F0 m 0 ls []) := by
  have hx := C0.1
  have hb := C0.2.1
  unfold fM_areTwo at hF
  refine lv_iload_n hx hb dX2_areTwo_0 rfl (lv_at hl 1 rfl) ?_
  refine lv_if_lt (tgt := 41) hx hb dX2_areTwo_1 (by decide) (fun c_1 => ?_) (fun c_1 => ?_)
  · have hF := ifp hF c_1
    refine lv_iconst (v := 0) hx hb dX2_areTwo_41 (by decide) ?_
    exact m_zret C0 hG dX2_areTwo_42 hF
  · have hF := ifn hF c_1
    refine lv_aload_n hx hb dX2_areTwo_4 rfl (lv_at hl 0 rfl) ?_
    refine lv_iload_n hx hb dX2_areTwo_5 rfl (lv_at hl 1 rfl) ?_
    refine lv_bipush (v := 10) hx hb dX2_areTwo_6 (by decide) ?_
    obtain ⟨h_2, hF⟩ := chz_of hF
    refine lv_idiv hx hb dX2_areTwo_8 h_2 ?_
    obtain ⟨σ_3, r_4, e_5, hF⟩ := obi_of hF
    refine m_cVi (As := [.int (a0 / 10)]) (rest := []) C0 hG (mtM_isOne l e_5) (lw_V q1774 q1776 qs54 q102 q1777) yd_X2_isOne ⟨by omega, by omega⟩ rfl rfl hl.1 (Nat.le_of_ble_eq_true rfl) dX2_areTwo_9 (fun H locs hG => ?_)
    refine lv_if_eq (tgt := 41) hx hb dX2_areTwo_12 (by decide) (fun c_6 => ?_) (fun c_6 => ?_)
    · have hF := ifp hF c_6
      refine lv_iconst (v := 0) hx hb dX2_areTwo_41 (by decide) ?_
      exact m_zret C0 hG dX2_areTwo_42 hF
    · have hF := ifn hF c_6
      refine lv_aload_n hx hb dX2_areTwo_15 rfl (lv_at hl 0 rfl) ?_
      refine lv_iload_n hx hb dX2_areTwo_16 rfl (lv_at hl 1 rfl) ?_
      refine lv_bipush (v := 10) hx hb dX2_areTwo_17 (by decide) ?_
      obtain ⟨h_7, hF⟩ := chz_of hF
      refine lv_irem hx hb dX2_areTwo_19 h_7 ?_
      obtain ⟨σ_8, r_9, e_10, hF⟩ := obi_of hF
      refine m_cVi (As := [.int (a0 - a0 / 10 * 10)]) (rest := []) C0 hG (mtM_isOne l e_10) (lw_V q1774 q1776 qs54 q102 q1777) yd_X2_isOne ⟨by omega, by omega⟩ rfl rfl hl.1 (Nat.le_of_ble_eq_true rfl) dX2_areTwo_20 (fun H locs hG => ?_)
      refine lv_if_eq (tgt := 41) hx hb dX2_areTwo_23 (by decide) (fun c_11 => ?_) (fun c_11 => ?_)
      · have hF := ifp hF c_11
        refine lv_iconst (v := 0) hx hb dX2_areTwo_41 (by decide) ?_
        exact m_zret C0 hG dX2_areTwo_42 hF
      · have hF := ifn hF c_11
        refine lv_iload_n hx hb dX2_areTwo_26 rfl (lv_at hl 1 rfl) ?_
        refine lv_bipush (v := 10) hx hb dX2_areTwo_27 (by decide) ?_
        obtain ⟨h_12, hF⟩ := chz_of hF
        refine lv_idiv hx hb dX2_areTwo_29 h_12 ?_
        refine lv_iload_n hx hb dX2_areTwo_30 rfl (lv_at hl 1 rfl) ?_
        refine lv_bipush (v := 10) hx hb dX2_areTwo_31 (by decide) ?_
        obtain ⟨h_13, hF⟩ := chz_of hF
        refine lv_irem hx hb dX2_areTwo_33 h_13 ?_
        refine lv_icmp_eq (tgt := 41) hx hb dX2_areTwo_34 (by decide) (fun c_14 => ?_) (fun c_14 => ?_)
        · have hF := ifp hF c_14
          refine lv_iconst (v := 0) hx hb dX2_areTwo_41 (by decide) ?_
          exact m_zret C0 hG dX2_areTwo_42 hF
        · have hF := ifn hF c_14
          refine lv_iconst (v := 1) hx hb dX2_areTwo_37 (by decide) ?_
          refine lv_goto (tgt := 42) hx hb dX2_areTwo_38 (by decide) ?_
          exact m_zret C0 hG dX2_areTwo_42 hF
theorem mtM_areTwo (l : Launch) {N : Nat} {L : mL} {σ σ' : mS} {r : Int32} {a0 : Int32} (hF : fM_areTwo N σ a0 = some (σ', r)) : mMet l yX2_areTwo cX2_areTwo 2 (some .boolean) (2) (43) [.ref L.1, .int a0] L σ (some (.int r)) σ' := by
  refine m_head (by decide) rfl ?_
  intro p e s m below meth c A C0 hG
  have hl := lv_entry ([.ref L.1, .int a0]) (n := 2) (Nat.le_of_ble_eq_true rfl)
  rw [lg_entry_eq]
  generalize (lg_sl ([.ref L.1, .int a0]) ++ List.replicate (2 - (lg_sl ([.ref L.1, .int a0])).length) Slot.unset).toArray = ls at hl ⊢
  have hl : lv_has ls 2 [(0, .ref L.1), (1, .int a0)] := hl
  exact bM_areTwo_e C0 ⟨Nat.le_refl _, Nat.le_refl _⟩ _ _ _ [] ls hG hl hF
def fM_newSwimmer (N : Nat) (σ : mS) (a0 : Int32) (a1 : Int32) (a2 : Int32) (a3 : Int32) : Option (mS × Int32) :=
  nmv (σ.1 0) fun x_1 =>
  chk x_1 8 <| nmv (mSj σ 1 x_1.toNatClampNeg a0) fun σ_2 =>
  nmv (σ_2.1 0) fun x_3 =>
  chk x_3 8 <| nmv (mSj σ_2 2 x_3.toNatClampNeg a1) fun σ_4 =>
  nmv (σ_4.1 0) fun x_5 =>
  chk x_5 8 <| nmv (mSj σ_4 3 x_5.toNatClampNeg a2) fun σ_6 =>
  nmv (σ_6.1 0) fun x_7 =>
  chk x_7 8 <| nmv (mSj σ_6 4 x_7.toNatClampNeg 12) fun σ_8 =>
  nmv (σ_8.1 0) fun x_9 =>
  chk x_9 8 <| nmv (mSj σ_8 5 x_9.toNatClampNeg a3) fun σ_10 =>
  nmv (σ_10.1 0) fun x_11 =>
  chk x_11 8 <| nmv (mSj σ_10 6 x_11.toNatClampNeg 0) fun σ_12 =>
  nmv (σ_12.1 0) fun x_13 =>
  chk x_13 8 <| nmv (mSj σ_12 8 x_13.toNatClampNeg 0) fun σ_14 =>
  nmv (σ_14.1 0) fun x_15 =>
  chk x_15 8 <| nmv (mSj σ_14 9 x_15.toNatClampNeg 0) fun σ_16 =>
  nmv (σ_16.1 0) fun x_17 =>
  nmv (mSi σ_16 0 (x_17 + 1)) fun σ_18 =>
  some (σ_18, x_17)
theorem bM_newSwimmer_e {N : Nat} (C0 : mCx p s m args meth c cX2_newSwimmer 5 (some .int) L A) (hRo : 0 ≤ R.frames ∧ 0 ≤ R.locals) {σ' : mS} {r : Int32} (σ : mS) (a0 : Int32) (a1 : Int32) (a2 : Int32) (a3 : Int32) (H : Heap) (locs : List Loc) (ls : Array Slot) (hG : mG A L s σ H locs) (hl : lv_has ls 5 [(0, .ref L.1), (1, .int a0), (2, .int a1), (3, .int a2), (4, .int a3)]) (hF : fM_newSwimmer N σ a0 a1 a2 a3 = some (σ', r)) : W p l e R s m args below meth c H locs 0 0 (mZ below L A s args σ' (some (.int r))) (F0 m 0 ls []) := by
  have hx := C0.1
  have hb := C0.2.1
  unfold fM_newSwimmer at hF
  refine lv_aload_n hx hb dX2_newSwimmer_0 rfl (lv_at hl 0 rfl) ?_
  refine m_geta C0 hG 1 (by decide) rfl q1579 dX2_newSwimmer_1 ?_
  refine lv_aload_n hx hb dX2_newSwimmer_4 rfl (lv_at hl 0 rfl) ?_
  refine m_geti C0 hG 0 (by decide) rfl q1578 dX2_newSwimmer_5 hF (fun x_1 hF => ?_)
  refine lv_iload_n hx hb dX2_newSwimmer_8 rfl (lv_at hl 1 rfl) ?_
  refine m_st C0 hG 1 ⟨by decide, rfl, by decide⟩ dX2_newSwimmer_9 hF (fun σ_2 H locs hG hF => ?_)
  refine lv_aload_n hx hb dX2_newSwimmer_10 rfl (lv_at hl 0 rfl) ?_
  refine m_geta C0 hG 2 (by decide) rfl q1580 dX2_newSwimmer_11 ?_
  refine lv_aload_n hx hb dX2_newSwimmer_14 rfl (lv_at hl 0 rfl) ?_
  refine m_geti C0 hG 0 (by decide) rfl q1578 dX2_newSwimmer_15 hF (fun x_3 hF => ?_)
  refine lv_iload_n hx hb dX2_newSwimmer_18 rfl (lv_at hl 2 rfl) ?_
  refine m_st C0 hG 2 ⟨by decide, rfl, by decide⟩ dX2_newSwimmer_19 hF (fun σ_4 H locs hG hF => ?_)
  refine lv_aload_n hx hb dX2_newSwimmer_20 rfl (lv_at hl 0 rfl) ?_
  refine m_geta C0 hG 3 (by decide) rfl q1581 dX2_newSwimmer_21 ?_
  refine lv_aload_n hx hb dX2_newSwimmer_24 rfl (lv_at hl 0 rfl) ?_
  refine m_geti C0 hG 0 (by decide) rfl q1578 dX2_newSwimmer_25 hF (fun x_5 hF => ?_)
  refine lv_iload_n hx hb dX2_newSwimmer_28 rfl (lv_at hl 3 rfl) ?_
  refine m_st C0 hG 3 ⟨by decide, rfl, by decide⟩ dX2_newSwimmer_29 hF (fun σ_6 H locs hG hF => ?_)
  refine lv_aload_n hx hb dX2_newSwimmer_30 rfl (lv_at hl 0 rfl) ?_
  refine m_geta C0 hG 4 (by decide) rfl q1582 dX2_newSwimmer_31 ?_
  refine lv_aload_n hx hb dX2_newSwimmer_34 rfl (lv_at hl 0 rfl) ?_
  refine m_geti C0 hG 0 (by decide) rfl q1578 dX2_newSwimmer_35 hF (fun x_7 hF => ?_)
  refine lv_bipush (v := 12) hx hb dX2_newSwimmer_38 (by decide) ?_
  refine m_st C0 hG 4 ⟨by decide, rfl, by decide⟩ dX2_newSwimmer_40 hF (fun σ_8 H locs hG hF => ?_)
  refine lv_aload_n hx hb dX2_newSwimmer_41 rfl (lv_at hl 0 rfl) ?_
  refine m_geta C0 hG 5 (by decide) rfl q1583 dX2_newSwimmer_42 ?_
  refine lv_aload_n hx hb dX2_newSwimmer_45 rfl (lv_at hl 0 rfl) ?_
  refine m_geti C0 hG 0 (by decide) rfl q1578 dX2_newSwimmer_46 hF (fun x_9 hF => ?_)
  refine lv_iload hx hb dX2_newSwimmer_49 (lv_at hl 4 rfl) ?_
  refine m_st C0 hG 5 ⟨by decide, rfl, by decide⟩ dX2_newSwimmer_51 hF (fun σ_10 H locs hG hF => ?_)
  refine lv_aload_n hx hb dX2_newSwimmer_52 rfl (lv_at hl 0 rfl) ?_
  refine m_geta C0 hG 6 (by decide) rfl q1584 dX2_newSwimmer_53 ?_
  refine lv_aload_n hx hb dX2_newSwimmer_56 rfl (lv_at hl 0 rfl) ?_
  refine m_geti C0 hG 0 (by decide) rfl q1578 dX2_newSwimmer_57 hF (fun x_11 hF => ?_)
  refine lv_iconst (v := 0) hx hb dX2_newSwimmer_60 (by decide) ?_
  refine m_st C0 hG 6 ⟨by decide, rfl, by decide⟩ dX2_newSwimmer_61 hF (fun σ_12 H locs hG hF => ?_)
  refine lv_aload_n hx hb dX2_newSwimmer_62 rfl (lv_at hl 0 rfl) ?_
  refine m_geta C0 hG 8 (by decide) rfl q1586 dX2_newSwimmer_63 ?_
  refine lv_aload_n hx hb dX2_newSwimmer_66 rfl (lv_at hl 0 rfl) ?_
  refine m_geti C0 hG 0 (by decide) rfl q1578 dX2_newSwimmer_67 hF (fun x_13 hF => ?_)
  refine lv_iconst (v := 0) hx hb dX2_newSwimmer_70 (by decide) ?_
  refine m_st C0 hG 8 ⟨by decide, rfl, by decide⟩ dX2_newSwimmer_71 hF (fun σ_14 H locs hG hF => ?_)
  refine lv_aload_n hx hb dX2_newSwimmer_72 rfl (lv_at hl 0 rfl) ?_
  refine m_geta C0 hG 9 (by decide) rfl q1587 dX2_newSwimmer_73 ?_
  refine lv_aload_n hx hb dX2_newSwimmer_76 rfl (lv_at hl 0 rfl) ?_
  refine m_geti C0 hG 0 (by decide) rfl q1578 dX2_newSwimmer_77 hF (fun x_15 hF => ?_)
  refine lv_iconst (v := 0) hx hb dX2_newSwimmer_80 (by decide) ?_
  refine m_st C0 hG 9 ⟨by decide, rfl, by decide⟩ dX2_newSwimmer_81 hF (fun σ_16 H locs hG hF => ?_)
  refine lv_aload_n hx hb dX2_newSwimmer_82 rfl (lv_at hl 0 rfl) ?_
  refine lv_dup hx hb dX2_newSwimmer_83 rfl ?_
  refine m_geti C0 hG 0 (by decide) rfl q1578 dX2_newSwimmer_84 hF (fun x_17 hF => ?_)
  refine lv_dup_x1 hx hb dX2_newSwimmer_87 rfl rfl ?_
  refine lv_iconst (v := 1) hx hb dX2_newSwimmer_88 (by decide) ?_
  refine lv_iadd hx hb dX2_newSwimmer_89 ?_
  refine m_puti C0 hG 0 (by decide) rfl q1578 dX2_newSwimmer_90 (Or.inl ⟨by decide, by decide⟩) hF (fun σ_18 H locs hG hF => ?_)
  exact m_iret C0 hG dX2_newSwimmer_93 hF
theorem mtM_newSwimmer (l : Launch) {N : Nat} {L : mL} {σ σ' : mS} {r : Int32} {a0 : Int32} {a1 : Int32} {a2 : Int32} {a3 : Int32} (hF : fM_newSwimmer N σ a0 a1 a2 a3 = some (σ', r)) : mMet l yX2_newSwimmer cX2_newSwimmer 5 (some .int) (0) (0) [.ref L.1, .int a0, .int a1, .int a2, .int a3] L σ (some (.int r)) σ' := by
  refine m_head (by decide) rfl ?_
  intro p e s m below meth c A C0 hG
  have hl := lv_entry ([.ref L.1, .int a0, .int a1, .int a2, .int a3]) (n := 5) (Nat.le_of_ble_eq_true rfl)
  rw [lg_entry_eq]
  generalize (lg_sl ([.ref L.1, .int a0, .int a1, .int a2, .int a3]) ++ List.replicate (5 - (lg_sl ([.ref L.1, .int a0, .int a1, .int a2, .int a3])).length) Slot.unset).toArray = ls at hl ⊢
  have hl : lv_has ls 5 [(0, .ref L.1), (1, .int a0), (2, .int a1), (3, .int a2), (4, .int a3)] := hl
  exact bM_newSwimmer_e C0 ⟨Nat.le_refl _, Nat.le_refl _⟩ _ _ _ _ _ _ [] ls hG hl hF
def fM_swimmer (N : Nat) (σ : mS) (a0 : Int32) (a1 : Int32) : Option (mS × Int32) :=
  if a0 < 0 then (
    some (σ, (-1)))
  else (
    chz 100 <|
    if 15 < (a0 / 100) then (
      some (σ, (-1)))
    else (
      chz 100 <|
      if 15 < (a0 - a0 / 100 * 100) then (
        some (σ, (-1)))
      else (
        obi (fM_within N σ a1 1 9) fun σ_6 r_7 =>
        if r_7 = 0 then (
          some (σ_6, (-1)))
        else (
          nmv (σ_6.1 0) fun x_10 =>
          if x_10 = 8 then (
            some (σ_6, (-3)))
          else (
            chz 100 <|
            chz 100 <|
            obi (fM_newSwimmer N σ_6 (a0 - a0 / 100 * 100) (a0 / 100) a1 0) fun σ_14 r_15 =>
            some (σ_14, r_15))))))
theorem bM_swimmer_e {N : Nat} (C0 : mCx p s m args meth c cX2_swimmer 3 (some .int) L A) (hRo : 1 ≤ R.frames ∧ 24 ≤ R.locals) {σ' : mS} {r : Int32} (σ : mS) (a0 : Int32) (a1 : Int32) (H : Heap) (locs : List Loc) (ls : Array Slot) (hG : mG A L s σ H locs) (hl : lv_has ls 3 [(0, .ref L.1), (1, .int a0), (2, .int a1)]) (hF : fM_swimmer N σ a0 a1 = some (σ', r)) : W p l e R s m args below meth c H locs 0 0 (mZ below L A s args σ' (some (.int r))) (F0 m 0 ls []) := by
  have hx := C0.1
  have hb := C0.2.1
  unfold fM_swimmer at hF
  refine lv_iload_n hx hb dX2_swimmer_0 rfl (lv_at hl 1 rfl) ?_
  refine lv_if_lt (tgt := 32) hx hb dX2_swimmer_1 (by decide) (fun c_1 => ?_) (fun c_1 => ?_)
  · have hF := ifp hF c_1
    refine lv_iconst (v := (-1)) hx hb dX2_swimmer_32 (by decide) ?_
    exact m_iret C0 hG dX2_swimmer_33 hF
  · have hF := ifn hF c_1
    refine lv_iload_n hx hb dX2_swimmer_4 rfl (lv_at hl 1 rfl) ?_
    refine lv_bipush (v := 100) hx hb dX2_swimmer_5 (by decide) ?_
    obtain ⟨h_2, hF⟩ := chz_of hF
    refine lv_idiv hx hb dX2_swimmer_7 h_2 ?_
    refine lv_bipush (v := 15) hx hb dX2_swimmer_8 (by decide) ?_
    refine lv_icmp_gt (tgt := 32) hx hb dX2_swimmer_10 (by decide) (fun c_3 => ?_) (fun c_3 => ?_)
    · have hF := ifp hF c_3
      refine lv_iconst (v := (-1)) hx hb dX2_swimmer_32 (by decide) ?_
      exact m_iret C0 hG dX2_swimmer_33 hF
    · have hF := ifn hF c_3
      refine lv_iload_n hx hb dX2_swimmer_13 rfl (lv_at hl 1 rfl) ?_
      refine lv_bipush (v := 100) hx hb dX2_swimmer_14 (by decide) ?_
      obtain ⟨h_4, hF⟩ := chz_of hF
      refine lv_irem hx hb dX2_swimmer_16 h_4 ?_
      refine lv_bipush (v := 15) hx hb dX2_swimmer_17 (by decide) ?_
      refine lv_icmp_gt (tgt := 32) hx hb dX2_swimmer_19 (by decide) (fun c_5 => ?_) (fun c_5 => ?_)
      · have hF := ifp hF c_5
        refine lv_iconst (v := (-1)) hx hb dX2_swimmer_32 (by decide) ?_
        exact m_iret C0 hG dX2_swimmer_33 hF
      · have hF := ifn hF c_5
        refine lv_iload_n hx hb dX2_swimmer_22 rfl (lv_at hl 2 rfl) ?_
        refine lv_iconst (v := 1) hx hb dX2_swimmer_23 (by decide) ?_
        refine lv_bipush (v := 9) hx hb dX2_swimmer_24 (by decide) ?_
        obtain ⟨σ_6, r_7, e_8, hF⟩ := obi_of hF
        refine m_cSi (As := [.int a1, .int 1, .int 9]) (rest := []) C0 hG (mtM_within l e_8) (lw_S q1751 q1752 q102 q1753) yd_X2_within ⟨by omega, by omega⟩ rfl rfl hl.1 (Nat.le_of_ble_eq_true rfl) dX2_swimmer_26 (fun H locs hG => ?_)
        refine lv_if_ne (tgt := 34) hx hb dX2_swimmer_29 (by decide) (fun c_9 => ?_) (fun c_9 => ?_)
        · have hF := ifn hF c_9
          refine lv_aload_n hx hb dX2_swimmer_34 rfl (lv_at hl 0 rfl) ?_
          refine m_geti C0 hG 0 (by decide) rfl q1578 dX2_swimmer_35 hF (fun x_10 hF => ?_)
          refine lv_bipush (v := 8) hx hb dX2_swimmer_38 (by decide) ?_
          refine lv_icmp_ne (tgt := 48) hx hb dX2_swimmer_40 (by decide) (fun c_11 => ?_) (fun c_11 => ?_)
          · have hF := ifn hF c_11
            refine lv_aload_n hx hb dX2_swimmer_48 rfl (lv_at hl 0 rfl) ?_
            refine lv_iload_n hx hb dX2_swimmer_49 rfl (lv_at hl 1 rfl) ?_
            refine lv_bipush (v := 100) hx hb dX2_swimmer_50 (by decide) ?_
            obtain ⟨h_12, hF⟩ := chz_of hF
            refine lv_irem hx hb dX2_swimmer_52 h_12 ?_
            refine lv_iload_n hx hb dX2_swimmer_53 rfl (lv_at hl 1 rfl) ?_
            refine lv_bipush (v := 100) hx hb dX2_swimmer_54 (by decide) ?_
            obtain ⟨h_13, hF⟩ := chz_of hF
            refine lv_idiv hx hb dX2_swimmer_56 h_13 ?_
            refine lv_iload_n hx hb dX2_swimmer_57 rfl (lv_at hl 2 rfl) ?_
            refine lv_iconst (v := 0) hx hb dX2_swimmer_58 (by decide) ?_
            obtain ⟨σ_14, r_15, e_16, hF⟩ := obi_of hF
            refine m_cVi (As := [.int (a0 - a0 / 100 * 100), .int (a0 / 100), .int a1, .int 0]) (rest := []) C0 hG (mtM_newSwimmer l e_16) (lw_V q1754 q1756 qs52 q102 q1757) yd_X2_newSwimmer ⟨by omega, by omega⟩ rfl rfl hl.1 (Nat.le_of_ble_eq_true rfl) dX2_swimmer_59 (fun H locs hG => ?_)
            exact m_iret C0 hG dX2_swimmer_62 hF
          · have hF := ifp hF c_11
            refine lv_bipush (v := (-3)) hx hb dX2_swimmer_43 (by decide) ?_
            refine lv_goto (tgt := 62) hx hb dX2_swimmer_45 (by decide) ?_
            exact m_iret C0 hG dX2_swimmer_62 hF
        · have hF := ifp hF c_9
          refine lv_iconst (v := (-1)) hx hb dX2_swimmer_32 (by decide) ?_
          exact m_iret C0 hG dX2_swimmer_33 hF
theorem mtM_swimmer (l : Launch) {N : Nat} {L : mL} {σ σ' : mS} {r : Int32} {a0 : Int32} {a1 : Int32} (hF : fM_swimmer N σ a0 a1 = some (σ', r)) : mMet l yX2_swimmer cX2_swimmer 3 (some .int) (1) (24) [.ref L.1, .int a0, .int a1] L σ (some (.int r)) σ' := by
  refine m_head (by decide) rfl ?_
  intro p e s m below meth c A C0 hG
  have hl := lv_entry ([.ref L.1, .int a0, .int a1]) (n := 3) (Nat.le_of_ble_eq_true rfl)
  rw [lg_entry_eq]
  generalize (lg_sl ([.ref L.1, .int a0, .int a1]) ++ List.replicate (3 - (lg_sl ([.ref L.1, .int a0, .int a1])).length) Slot.unset).toArray = ls at hl ⊢
  have hl : lv_has ls 3 [(0, .ref L.1), (1, .int a0), (2, .int a1)] := hl
  exact bM_swimmer_e C0 ⟨Nat.le_refl _, Nat.le_refl _⟩ _ _ _ _ [] ls hG hl hF
def fM_swimmers_b49 (N : Nat) : Nat → mS → Int32 → Int32 → Int32 → Int32 → Int32 → Option (mS × Int32)
  | 0, _, _, _, _, _, _ => none
  | n + 1, σ, x1, x2, x3, x4, x5 =>
    if x3 ≤ x5 then (
      some (σ, x4))
    else (
      nmv ((x2.toInt64) + ((4 : Int64) * (x5.toInt64))) fun x_14 =>
      if (lg_cmp x_14 0) < 0 then (
        some (σ, x4))
      else (
        chk x1 6 <| nmv (σ.2.1 42 x1.toNatClampNeg) fun x_16 =>
        if 0 < (lg_cmp (x_14 + 4) (x_16.toInt64)) then (
          some (σ, x4))
        else (
          nmv (σ.1 0) fun x_18 =>
          if x_18 = 8 then (
            some (σ, x4))
          else (
            nmv (((60 : Int32) * x1) + (x_14.toInt32)) fun x_20 =>
            chk x_20 360 <| nmv (σ.2.2 x_20.toNatClampNeg) fun x_21 =>
            obi (fM_within N σ (x_21.toInt32) 0 15) fun σ_22 r_23 =>
            if r_23 = 0 then (
              some (σ_22, x4))
            else (
              nmv (x_20 + 1) fun x_26 =>
              chk x_26 360 <| nmv (σ_22.2.2 x_26.toNatClampNeg) fun x_27 =>
              obi (fM_within N σ_22 (x_27.toInt32) 0 15) fun σ_28 r_29 =>
              if r_29 = 0 then (
                some (σ_28, x4))
              else (
                nmv (x_20 + 2) fun x_32 =>
                chk x_32 360 <| nmv (σ_28.2.2 x_32.toNatClampNeg) fun x_33 =>
                obi (fM_within N σ_28 (x_33.toInt32) 1 9) fun σ_34 r_35 =>
                if r_35 = 0 then (
                  some (σ_34, x4))
                else (
                  nmv (x_20 + 3) fun x_38 =>
                  chk x_38 360 <| nmv (σ_34.2.2 x_38.toNatClampNeg) fun x_39 =>
                  obi (fM_within N σ_34 (x_39.toInt32) (-9) 9) fun σ_40 r_41 =>
                  if r_41 = 0 then (
                    some (σ_40, x4))
                  else (
                    chk x_20 360 <| nmv (σ_40.2.2 x_20.toNatClampNeg) fun x_44 =>
                    nmv (x_20 + 1) fun x_45 =>
                    chk x_45 360 <| nmv (σ_40.2.2 x_45.toNatClampNeg) fun x_46 =>
                    nmv (x_20 + 2) fun x_47 =>
                    chk x_47 360 <| nmv (σ_40.2.2 x_47.toNatClampNeg) fun x_48 =>
                    nmv (x_20 + 3) fun x_49 =>
                    chk x_49 360 <| nmv (σ_40.2.2 x_49.toNatClampNeg) fun x_50 =>
                    obi (fM_newSwimmer N σ_40 (x_44.toInt32) (x_46.toInt32) (x_48.toInt32) (x_50.toInt32)) fun σ_51 r_52 =>
                    nmv (x4 + 1) fun x_54 =>
                    nmv (x5 + 1) fun x_55 =>
                    (fM_swimmers_b49 N n) σ_51 x1 x2 x3 x_54 x_55))))))))
def fM_swimmers (N : Nat) (σ : mS) (a0 : Int32) (a1 : Int32) (a2 : Int32) : Option (mS × Int32) :=
  obi (fM_isShelf N σ a0) fun σ_1 r_2 =>
  if r_2 = 0 then (
    some (σ_1, (-1)))
  else (
    obi (fM_within N σ_1 a2 1 8) fun σ_5 r_6 =>
    if r_6 = 0 then (
      some (σ_5, (-1)))
    else (
      chk a0 6 <| nmv (σ_5.2.1 41 a0.toNatClampNeg) fun x_9 =>
      if x_9 = (-1) then (
        some (σ_5, 0))
      else (
        chk a0 6 <| nmv (σ_5.2.1 41 a0.toNatClampNeg) fun x_11 =>
        if x_11 = 0 then (
          fM_swimmers_b49 N N σ_5 a0 a1 a2 0 0)
        else (
          some (σ_5, (-12))))))
theorem bM_swimmers_49 {N : Nat} (C0 : mCx p s m args meth c cX2_swimmers 9 (some .int) L A) (hRo : 2 ≤ R.frames ∧ 42 ≤ R.locals) {σ' : mS} {r : Int32} : ∀ (n : Nat) (σ : mS) (x1 : Int32) (x2 : Int32) (x3 : Int32) (x4 : Int32) (x5 : Int32) (H : Heap) (locs : List Loc) (ls : Array Slot), mG A L s σ H locs → lv_has ls 9 [(0, .ref L.1), (1, .int x1), (2, .int x2), (3, .int x3), (4, .int x4), (5, .int x5)] → fM_swimmers_b49 N n σ x1 x2 x3 x4 x5 = some (σ', r) → W p l e R s m args below meth c H locs 0 0 (mZ below L A s args σ' (some (.int r))) (F0 m 49 ls []) := by
  have hx := C0.1
  have hb := C0.2.1
  intro n
  induction n with
  | zero => intro σ x1 x2 x3 x4 x5 H locs ls hG hl hF; cases hF
  | succ n ih =>
    intro σ x1 x2 x3 x4 x5 H locs ls hG hl hF
    unfold fM_swimmers_b49 at hF
    refine lv_iload hx hb dX2_swimmers_49 (lv_at hl 5 rfl) ?_
    refine lv_iload_n hx hb dX2_swimmers_51 rfl (lv_at hl 3 rfl) ?_
    refine lv_icmp_ge (tgt := 243) hx hb dX2_swimmers_52 (by decide) (fun c_13 => ?_) (fun c_13 => ?_)
    · have hF := ifp hF c_13
      refine lv_iload hx hb dX2_swimmers_243 (lv_at hl 4 rfl) ?_
      exact m_iret C0 hG dX2_swimmers_245 hF
    · have hF := ifn hF c_13
      refine lv_iload_n hx hb dX2_swimmers_55 rfl (lv_at hl 2 rfl) ?_
      refine lv_i2l (v := x2.toInt64) hx hb dX2_swimmers_56 rfl ?_
      refine lv_ldc2 (v := 4) hx hb C0.2.2.2.1 (C0.2.2.2.2.1 _ q1765) dX2_swimmers_57 ?_
      refine lv_iload hx hb dX2_swimmers_60 (lv_at hl 5 rfl) ?_
      refine lv_i2l (v := x5.toInt64) hx hb dX2_swimmers_62 rfl ?_
      refine lv_lmul hx hb dX2_swimmers_63 ?_
      refine lv_ladd hx hb dX2_swimmers_64 ?_
      refine w_nml hF (fun x_14 hF => ?_)
      refine lv_lstore (lv' := [(6, .long x_14), (0, .ref L.1), (1, .int x1), (2, .int x2), (3, .int x3), (4, .int x4), (5, .int x5)]) hx hb dX2_swimmers_65 hl (by decide) rfl (fun ls hl => ?_)
      refine lv_lload hx hb dX2_swimmers_67 (lv_at hl 0 rfl) ?_
      refine lv_lconst (v := 0) hx hb dX2_swimmers_69 (by decide) ?_
      refine W.lcmp hx hb dX2_swimmers_70 ?_
      refine lv_if_lt (tgt := 100) hx hb dX2_swimmers_71 (by decide) (fun c_15 => ?_) (fun c_15 => ?_)
      · have hF := ifp hF c_15
        refine lv_iload hx hb dX2_swimmers_100 (lv_at hl 5 rfl) ?_
        exact m_iret C0 hG dX2_swimmers_102 hF
      · have hF := ifn hF c_15
        refine lv_lload hx hb dX2_swimmers_74 (lv_at hl 0 rfl) ?_
        refine lv_ldc2 (v := 4) hx hb C0.2.2.2.1 (C0.2.2.2.2.1 _ q1765) dX2_swimmers_76 ?_
        refine lv_ladd hx hb dX2_swimmers_79 ?_
        refine lv_aload_n hx hb dX2_swimmers_80 rfl (lv_at hl 1 rfl) ?_
        refine m_geta C0 hG 42 (by decide) rfl q1620 dX2_swimmers_81 ?_
        refine lv_iload_n hx hb dX2_swimmers_84 rfl (lv_at hl 2 rfl) ?_
        refine m_ld C0 hG 42 ⟨by decide, rfl, by decide⟩ dX2_swimmers_85 hF (fun x_16 hF => ?_)
        refine lv_i2l (v := x_16.toInt64) hx hb dX2_swimmers_86 rfl ?_
        refine W.lcmp hx hb dX2_swimmers_87 ?_
        refine lv_if_gt (tgt := 100) hx hb dX2_swimmers_88 (by decide) (fun c_17 => ?_) (fun c_17 => ?_)
        · have hF := ifp hF c_17
          refine lv_iload hx hb dX2_swimmers_100 (lv_at hl 5 rfl) ?_
          exact m_iret C0 hG dX2_swimmers_102 hF
        · have hF := ifn hF c_17
          refine lv_aload_n hx hb dX2_swimmers_91 rfl (lv_at hl 1 rfl) ?_
          refine m_geti C0 hG 0 (by decide) rfl q1578 dX2_swimmers_92 hF (fun x_18 hF => ?_)
          refine lv_bipush (v := 8) hx hb dX2_swimmers_95 (by decide) ?_
          refine lv_icmp_ne (tgt := 103) hx hb dX2_swimmers_97 (by decide) (fun c_19 => ?_) (fun c_19 => ?_)
          · have hF := ifn hF c_19
            refine lv_bipush (v := 60) hx hb dX2_swimmers_103 (by decide) ?_
            refine lv_iload_n hx hb dX2_swimmers_105 rfl (lv_at hl 2 rfl) ?_
            refine lv_imul hx hb dX2_swimmers_106 ?_
            refine lv_lload hx hb dX2_swimmers_107 (lv_at hl 0 rfl) ?_
            refine lv_l2i (v := x_14.toInt32) hx hb dX2_swimmers_109 rfl ?_
            refine lv_iadd hx hb dX2_swimmers_110 ?_
            refine w_nm hF (fun x_20 hF => ?_)
            refine lv_istore (lv' := [(8, .int x_20), (6, .long x_14), (0, .ref L.1), (1, .int x1), (2, .int x2), (3, .int x3), (4, .int x4), (5, .int x5)]) hx hb dX2_swimmers_111 hl (by decide) rfl (fun ls hl => ?_)
            refine lv_aload_n hx hb dX2_swimmers_113 rfl (lv_at hl 2 rfl) ?_
            refine m_geta C0 hG 43 (by decide) rfl q1621 dX2_swimmers_114 ?_
            refine lv_iload hx hb dX2_swimmers_117 (lv_at hl 0 rfl) ?_
            refine m_ldl C0 hG dX2_swimmers_119 hF (fun x_21 hF => ?_)
            refine lv_l2i (v := x_21.toInt32) hx hb dX2_swimmers_120 rfl ?_
            refine lv_iconst (v := 0) hx hb dX2_swimmers_121 (by decide) ?_
            refine lv_bipush (v := 15) hx hb dX2_swimmers_122 (by decide) ?_
            obtain ⟨σ_22, r_23, e_24, hF⟩ := obi_of hF
            refine m_cSi (As := [.int (x_21.toInt32), .int 0, .int 15]) (rest := []) C0 hG (mtM_within l e_24) (lw_S q1751 q1752 q102 q1753) yd_X2_within ⟨by omega, by omega⟩ rfl rfl hl.1 (Nat.le_of_ble_eq_true rfl) dX2_swimmers_124 (fun H locs hG => ?_)
            refine lv_if_eq (tgt := 188) hx hb dX2_swimmers_127 (by decide) (fun c_25 => ?_) (fun c_25 => ?_)
            · have hF := ifp hF c_25
              refine lv_iload hx hb dX2_swimmers_188 (lv_at hl 6 rfl) ?_
              exact m_iret C0 hG dX2_swimmers_190 hF
            · have hF := ifn hF c_25
              refine lv_aload_n hx hb dX2_swimmers_130 rfl (lv_at hl 2 rfl) ?_
              refine m_geta C0 hG 43 (by decide) rfl q1621 dX2_swimmers_131 ?_
              refine lv_iload hx hb dX2_swimmers_134 (lv_at hl 0 rfl) ?_
              refine lv_iconst (v := 1) hx hb dX2_swimmers_136 (by decide) ?_
              refine lv_iadd hx hb dX2_swimmers_137 ?_
              refine w_nm hF (fun x_26 hF => ?_)
              refine m_ldl C0 hG dX2_swimmers_138 hF (fun x_27 hF => ?_)
              refine lv_l2i (v := x_27.toInt32) hx hb dX2_swimmers_139 rfl ?_
              refine lv_iconst (v := 0) hx hb dX2_swimmers_140 (by decide) ?_
              refine lv_bipush (v := 15) hx hb dX2_swimmers_141 (by decide) ?_
              obtain ⟨σ_28, r_29, e_30, hF⟩ := obi_of hF
              refine m_cSi (As := [.int (x_27.toInt32), .int 0, .int 15]) (rest := []) C0 hG (mtM_within l e_30) (lw_S q1751 q1752 q102 q1753) yd_X2_within ⟨by omega, by omega⟩ rfl rfl hl.1 (Nat.le_of_ble_eq_true rfl) dX2_swimmers_143 (fun H locs hG => ?_)
              refine lv_if_eq (tgt := 188) hx hb dX2_swimmers_146 (by decide) (fun c_31 => ?_) (fun c_31 => ?_)
              · have hF := ifp hF c_31
                refine lv_iload hx hb dX2_swimmers_188 (lv_at hl 6 rfl) ?_
                exact m_iret C0 hG dX2_swimmers_190 hF
              · have hF := ifn hF c_31
                refine lv_aload_n hx hb dX2_swimmers_149 rfl (lv_at hl 2 rfl) ?_
                refine m_geta C0 hG 43 (by decide) rfl q1621 dX2_swimmers_150 ?_
                refine lv_iload hx hb dX2_swimmers_153 (lv_at hl 0 rfl) ?_
                refine lv_iconst (v := 2) hx hb dX2_swimmers_155 (by decide) ?_
                refine lv_iadd hx hb dX2_swimmers_156 ?_
                refine w_nm hF (fun x_32 hF => ?_)
                refine m_ldl C0 hG dX2_swimmers_157 hF (fun x_33 hF => ?_)
                refine lv_l2i (v := x_33.toInt32) hx hb dX2_swimmers_158 rfl ?_
                refine lv_iconst (v := 1) hx hb dX2_swimmers_159 (by decide) ?_
                refine lv_bipush (v := 9) hx hb dX2_swimmers_160 (by decide) ?_
                obtain ⟨σ_34, r_35, e_36, hF⟩ := obi_of hF
                refine m_cSi (As := [.int (x_33.toInt32), .int 1, .int 9]) (rest := []) C0 hG (mtM_within l e_36) (lw_S q1751 q1752 q102 q1753) yd_X2_within ⟨by omega, by omega⟩ rfl rfl hl.1 (Nat.le_of_ble_eq_true rfl) dX2_swimmers_162 (fun H locs hG => ?_)
                refine lv_if_eq (tgt := 188) hx hb dX2_swimmers_165 (by decide) (fun c_37 => ?_) (fun c_37 => ?_)
                · have hF := ifp hF c_37
                  refine lv_iload hx hb dX2_swimmers_188 (lv_at hl 6 rfl) ?_
                  exact m_iret C0 hG dX2_swimmers_190 hF
                · have hF := ifn hF c_37
                  refine lv_aload_n hx hb dX2_swimmers_168 rfl (lv_at hl 2 rfl) ?_
                  refine m_geta C0 hG 43 (by decide) rfl q1621 dX2_swimmers_169 ?_
                  refine lv_iload hx hb dX2_swimmers_172 (lv_at hl 0 rfl) ?_
                  refine lv_iconst (v := 3) hx hb dX2_swimmers_174 (by decide) ?_
                  refine lv_iadd hx hb dX2_swimmers_175 ?_
                  refine w_nm hF (fun x_38 hF => ?_)
                  refine m_ldl C0 hG dX2_swimmers_176 hF (fun x_39 hF => ?_)
                  refine lv_l2i (v := x_39.toInt32) hx hb dX2_swimmers_177 rfl ?_
                  refine lv_bipush (v := (-9)) hx hb dX2_swimmers_178 (by decide) ?_
                  refine lv_bipush (v := 9) hx hb dX2_swimmers_180 (by decide) ?_
                  obtain ⟨σ_40, r_41, e_42, hF⟩ := obi_of hF
                  refine m_cSi (As := [.int (x_39.toInt32), .int (-9), .int 9]) (rest := []) C0 hG (mtM_within l e_42) (lw_S q1751 q1752 q102 q1753) yd_X2_within ⟨by omega, by omega⟩ rfl rfl hl.1 (Nat.le_of_ble_eq_true rfl) dX2_swimmers_182 (fun H locs hG => ?_)
                  refine lv_if_ne (tgt := 191) hx hb dX2_swimmers_185 (by decide) (fun c_43 => ?_) (fun c_43 => ?_)
                  · have hF := ifn hF c_43
                    refine lv_aload_n hx hb dX2_swimmers_191 rfl (lv_at hl 2 rfl) ?_
                    refine lv_aload_n hx hb dX2_swimmers_192 rfl (lv_at hl 2 rfl) ?_
                    refine m_geta C0 hG 43 (by decide) rfl q1621 dX2_swimmers_193 ?_
                    refine lv_iload hx hb dX2_swimmers_196 (lv_at hl 0 rfl) ?_
                    refine m_ldl C0 hG dX2_swimmers_198 hF (fun x_44 hF => ?_)
                    refine lv_l2i (v := x_44.toInt32) hx hb dX2_swimmers_199 rfl ?_
                    refine lv_aload_n hx hb dX2_swimmers_200 rfl (lv_at hl 2 rfl) ?_
                    refine m_geta C0 hG 43 (by decide) rfl q1621 dX2_swimmers_201 ?_
                    refine lv_iload hx hb dX2_swimmers_204 (lv_at hl 0 rfl) ?_
                    refine lv_iconst (v := 1) hx hb dX2_swimmers_206 (by decide) ?_
                    refine lv_iadd hx hb dX2_swimmers_207 ?_
                    refine w_nm hF (fun x_45 hF => ?_)
                    refine m_ldl C0 hG dX2_swimmers_208 hF (fun x_46 hF => ?_)
                    refine lv_l2i (v := x_46.toInt32) hx hb dX2_swimmers_209 rfl ?_
                    refine lv_aload_n hx hb dX2_swimmers_210 rfl (lv_at hl 2 rfl) ?_
                    refine m_geta C0 hG 43 (by decide) rfl q1621 dX2_swimmers_211 ?_
                    refine lv_iload hx hb dX2_swimmers_214 (lv_at hl 0 rfl) ?_
                    refine lv_iconst (v := 2) hx hb dX2_swimmers_216 (by decide) ?_
                    refine lv_iadd hx hb dX2_swimmers_217 ?_
                    refine w_nm hF (fun x_47 hF => ?_)
                    refine m_ldl C0 hG dX2_swimmers_218 hF (fun x_48 hF => ?_)
                    refine lv_l2i (v := x_48.toInt32) hx hb dX2_swimmers_219 rfl ?_
                    refine lv_aload_n hx hb dX2_swimmers_220 rfl (lv_at hl 2 rfl) ?_
                    refine m_geta C0 hG 43 (by decide) rfl q1621 dX2_swimmers_221 ?_
                    refine lv_iload hx hb dX2_swimmers_224 (lv_at hl 0 rfl) ?_
                    refine lv_iconst (v := 3) hx hb dX2_swimmers_226 (by decide) ?_
                    refine lv_iadd hx hb dX2_swimmers_227 ?_
                    refine w_nm hF (fun x_49 hF => ?_)
                    refine m_ldl C0 hG dX2_swimmers_228 hF (fun x_50 hF => ?_)
                    refine lv_l2i (v := x_50.toInt32) hx hb dX2_swimmers_229 rfl ?_
                    obtain ⟨σ_51, r_52, e_53, hF⟩ := obi_of hF
                    refine m_cVi (As := [.int (x_44.toInt32), .int (x_46.toInt32), .int (x_48.toInt32), .int (x_50.toInt32)]) (rest := []) C0 hG (mtM_newSwimmer l e_53) (lw_V q1754 q1756 qs52 q102 q1757) yd_X2_newSwimmer ⟨by omega, by omega⟩ rfl rfl hl.1 (Nat.le_of_ble_eq_true rfl) dX2_swimmers_230 (fun H locs hG => ?_)
                    refine lv_pop hx hb dX2_swimmers_233 rfl ?_
                    refine w_iinc hx hb dX2_swimmers_234 hl 6 rfl (v := 1) (by decide) (by decide) hF (fun x_54 ls hl hF => ?_)
                    have hl : lv_has ls 9 [(4, .int x_54), (8, .int x_20), (6, .long x_14), (0, .ref L.1), (1, .int x1), (2, .int x2), (3, .int x3), (5, .int x5)] := hl
                    refine w_iinc hx hb dX2_swimmers_237 hl 7 rfl (v := 1) (by decide) (by decide) hF (fun x_55 ls hl hF => ?_)
                    have hl : lv_has ls 9 [(5, .int x_55), (4, .int x_54), (8, .int x_20), (6, .long x_14), (0, .ref L.1), (1, .int x1), (2, .int x2), (3, .int x3)] := hl
                    refine lv_goto (tgt := 49) hx hb dX2_swimmers_240 (by decide) ?_
                    exact ih _ _ _ _ _ _ H locs ls hG (lv_sub hl [4, 5, 6, 7, 1, 0] rfl) hF
                  · have hF := ifp hF c_43
                    refine lv_iload hx hb dX2_swimmers_188 (lv_at hl 6 rfl) ?_
                    exact m_iret C0 hG dX2_swimmers_190 hF
          · have hF := ifp hF c_19
            refine lv_iload hx hb dX2_swimmers_100 (lv_at hl 5 rfl) ?_
            exact m_iret C0 hG dX2_swimmers_102 hF
theorem bM_swimmers_e {N : Nat} (C0 : mCx p s m args meth c cX2_swimmers 9 (some .int) L A) (hRo : 2 ≤ R.frames ∧ 42 ≤ R.locals) {σ' : mS} {r : Int32} (σ : mS) (a0 : Int32) (a1 : Int32) (a2 : Int32) (H : Heap) (locs : List Loc) (ls : Array Slot) (hG : mG A L s σ H locs) (hl : lv_has ls 9 [(0, .ref L.1), (1, .int a0), (2, .int a1), (3, .int a2)]) (hF : fM_swimmers N σ a0 a1 a2 = some (σ', r)) : W p l e R s m args below meth c H locs 0 0 (mZ below L A s args σ' (some (.int r))) (F0 m 0 ls []) := by
  have hx := C0.1
  have hb := C0.2.1
  unfold fM_swimmers at hF
  refine lv_iload_n hx hb dX2_swimmers_0 rfl (lv_at hl 1 rfl) ?_
  obtain ⟨σ_1, r_2, e_3, hF⟩ := obi_of hF
  refine m_cSi (As := [.int a0]) (rest := []) C0 hG (mtM_isShelf l e_3) (lw_S q1762 q1763 q102 q1764) yd_X2_isShelf ⟨by omega, by omega⟩ rfl rfl hl.1 (Nat.le_of_ble_eq_true rfl) dX2_swimmers_1 (fun H locs hG => ?_)
  refine lv_if_eq (tgt := 17) hx hb dX2_swimmers_4 (by decide) (fun c_4 => ?_) (fun c_4 => ?_)
  · have hF := ifp hF c_4
    refine lv_iconst (v := (-1)) hx hb dX2_swimmers_17 (by decide) ?_
    exact m_iret C0 hG dX2_swimmers_18 hF
  · have hF := ifn hF c_4
    refine lv_iload_n hx hb dX2_swimmers_7 rfl (lv_at hl 3 rfl) ?_
    refine lv_iconst (v := 1) hx hb dX2_swimmers_8 (by decide) ?_
    refine lv_bipush (v := 8) hx hb dX2_swimmers_9 (by decide) ?_
    obtain ⟨σ_5, r_6, e_7, hF⟩ := obi_of hF
    refine m_cSi (As := [.int a2, .int 1, .int 8]) (rest := []) C0 hG (mtM_within l e_7) (lw_S q1751 q1752 q102 q1753) yd_X2_within ⟨by omega, by omega⟩ rfl rfl hl.1 (Nat.le_of_ble_eq_true rfl) dX2_swimmers_11 (fun H locs hG => ?_)
    refine lv_if_ne (tgt := 19) hx hb dX2_swimmers_14 (by decide) (fun c_8 => ?_) (fun c_8 => ?_)
    · have hF := ifn hF c_8
      refine lv_aload_n hx hb dX2_swimmers_19 rfl (lv_at hl 0 rfl) ?_
      refine m_geta C0 hG 41 (by decide) rfl q1619 dX2_swimmers_20 ?_
      refine lv_iload_n hx hb dX2_swimmers_23 rfl (lv_at hl 1 rfl) ?_
      refine m_ld C0 hG 41 ⟨by decide, rfl, by decide⟩ dX2_swimmers_24 hF (fun x_9 hF => ?_)
      refine lv_iconst (v := (-1)) hx hb dX2_swimmers_25 (by decide) ?_
      refine lv_icmp_ne (tgt := 31) hx hb dX2_swimmers_26 (by decide) (fun c_10 => ?_) (fun c_10 => ?_)
      · have hF := ifn hF c_10
        refine lv_aload_n hx hb dX2_swimmers_31 rfl (lv_at hl 0 rfl) ?_
        refine m_geta C0 hG 41 (by decide) rfl q1619 dX2_swimmers_32 ?_
        refine lv_iload_n hx hb dX2_swimmers_35 rfl (lv_at hl 1 rfl) ?_
        refine m_ld C0 hG 41 ⟨by decide, rfl, by decide⟩ dX2_swimmers_36 hF (fun x_11 hF => ?_)
        refine lv_if_eq (tgt := 43) hx hb dX2_swimmers_37 (by decide) (fun c_12 => ?_) (fun c_12 => ?_)
        · have hF := ifp hF c_12
          refine lv_iconst (v := 0) hx hb dX2_swimmers_43 (by decide) ?_
          refine lv_istore (lv' := [(4, .int 0), (0, .ref L.1), (1, .int a0), (2, .int a1), (3, .int a2)]) hx hb dX2_swimmers_44 hl (by decide) rfl (fun ls hl => ?_)
          refine lv_iconst (v := 0) hx hb dX2_swimmers_46 (by decide) ?_
          refine lv_istore (lv' := [(5, .int 0), (4, .int 0), (0, .ref L.1), (1, .int a0), (2, .int a1), (3, .int a2)]) hx hb dX2_swimmers_47 hl (by decide) rfl (fun ls hl => ?_)
          exact bM_swimmers_49 C0 hRo N _ _ _ _ _ _ H locs ls hG (lv_sub hl [2, 3, 4, 5, 1, 0] rfl) hF
        · have hF := ifn hF c_12
          refine lv_bipush (v := (-12)) hx hb dX2_swimmers_40 (by decide) ?_
          exact m_iret C0 hG dX2_swimmers_42 hF
      · have hF := ifp hF c_10
        refine lv_iconst (v := 0) hx hb dX2_swimmers_29 (by decide) ?_
        exact m_iret C0 hG dX2_swimmers_30 hF
    · have hF := ifp hF c_8
      refine lv_iconst (v := (-1)) hx hb dX2_swimmers_17 (by decide) ?_
      exact m_iret C0 hG dX2_swimmers_18 hF
theorem mtM_swimmers (l : Launch) {N : Nat} {L : mL} {σ σ' : mS} {r : Int32} {a0 : Int32} {a1 : Int32} {a2 : Int32} (hF : fM_swimmers N σ a0 a1 a2 = some (σ', r)) : mMet l yX2_swimmers cX2_swimmers 9 (some .int) (2) (42) [.ref L.1, .int a0, .int a1, .int a2] L σ (some (.int r)) σ' := by
  refine m_head (by decide) rfl ?_
  intro p e s m below meth c A C0 hG
  have hl := lv_entry ([.ref L.1, .int a0, .int a1, .int a2]) (n := 9) (Nat.le_of_ble_eq_true rfl)
  rw [lg_entry_eq]
  generalize (lg_sl ([.ref L.1, .int a0, .int a1, .int a2]) ++ List.replicate (9 - (lg_sl ([.ref L.1, .int a0, .int a1, .int a2])).length) Slot.unset).toArray = ls at hl ⊢
  have hl : lv_has ls 9 [(0, .ref L.1), (1, .int a0), (2, .int a1), (3, .int a2)] := hl
  exact bM_swimmers_e C0 ⟨Nat.le_refl _, Nat.le_refl _⟩ _ _ _ _ _ [] ls hG hl hF
def fM_isOf (N : Nat) (σ : mS) (a0 : Int32) (a1 : Int32) : Option (mS × Int32) :=
  obi (fM_within N σ a1 0 5) fun σ_1 r_2 =>
  if r_2 = 0 then (
    obi (fM_within N σ_1 a1 6 8) fun σ_5 r_6 =>
    if r_6 = 0 then (
      chb 0 (some (σ_5, 0)))
    else (
      if a0 = 0 then (
        chb 1 (some (σ_5, 1)))
      else (
        chb 0 (some (σ_5, 0)))))
  else (
    obi (fM_isOne N σ_1 a0) fun σ_10 r_11 =>
    chb r_11 (some (σ_10, r_11)))
theorem bM_isOf_e {N : Nat} (C0 : mCx p s m args meth c cX2_isOf 3 (some .boolean) L A) (hRo : 2 ≤ R.frames ∧ 43 ≤ R.locals) {σ' : mS} {r : Int32} (σ : mS) (a0 : Int32) (a1 : Int32) (H : Heap) (locs : List Loc) (ls : Array Slot) (hG : mG A L s σ H locs) (hl : lv_has ls 3 [(0, .ref L.1), (1, .int a0), (2, .int a1)]) (hF : fM_isOf N σ a0 a1 = some (σ', r)) : W p l e R s m args below meth c H locs 0 0 (mZ below L A s args σ' (some (.int r))) (F0 m 0 ls []) := by
  have hx := C0.1
  have hb := C0.2.1
  unfold fM_isOf at hF
  refine lv_iload_n hx hb dX2_isOf_0 rfl (lv_at hl 2 rfl) ?_
  refine lv_iconst (v := 0) hx hb dX2_isOf_1 (by decide) ?_
  refine lv_iconst (v := 5) hx hb dX2_isOf_2 (by decide) ?_
  obtain ⟨σ_1, r_2, e_3, hF⟩ := obi_of hF
  refine m_cSi (As := [.int a1, .int 0, .int 5]) (rest := []) C0 hG (mtM_within l e_3) (lw_S q1751 q1752 q102 q1753) yd_X2_within ⟨by omega, by omega⟩ rfl rfl hl.1 (Nat.le_of_ble_eq_true rfl) dX2_isOf_3 (fun H locs hG => ?_)
  refine lv_if_eq (tgt := 17) hx hb dX2_isOf_6 (by decide) (fun c_4 => ?_) (fun c_4 => ?_)
  · have hF := ifp hF c_4
    refine lv_iload_n hx hb dX2_isOf_17 rfl (lv_at hl 2 rfl) ?_
    refine lv_bipush (v := 6) hx hb dX2_isOf_18 (by decide) ?_
    refine lv_bipush (v := 8) hx hb dX2_isOf_20 (by decide) ?_
    obtain ⟨σ_5, r_6, e_7, hF⟩ := obi_of hF
    refine m_cSi (As := [.int a1, .int 6, .int 8]) (rest := []) C0 hG (mtM_within l e_7) (lw_S q1751 q1752 q102 q1753) yd_X2_within ⟨by omega, by omega⟩ rfl rfl hl.1 (Nat.le_of_ble_eq_true rfl) dX2_isOf_22 (fun H locs hG => ?_)
    refine lv_if_eq (tgt := 36) hx hb dX2_isOf_25 (by decide) (fun c_8 => ?_) (fun c_8 => ?_)
    · have hF := ifp hF c_8
      refine lv_iconst (v := 0) hx hb dX2_isOf_36 (by decide) ?_
      exact m_zret C0 hG dX2_isOf_37 hF
    · have hF := ifn hF c_8
      refine lv_iload_n hx hb dX2_isOf_28 rfl (lv_at hl 1 rfl) ?_
      refine lv_if_ne (tgt := 36) hx hb dX2_isOf_29 (by decide) (fun c_9 => ?_) (fun c_9 => ?_)
      · have hF := ifn hF c_9
        refine lv_iconst (v := 0) hx hb dX2_isOf_36 (by decide) ?_
        exact m_zret C0 hG dX2_isOf_37 hF
      · have hF := ifp hF c_9
        refine lv_iconst (v := 1) hx hb dX2_isOf_32 (by decide) ?_
        refine lv_goto (tgt := 37) hx hb dX2_isOf_33 (by decide) ?_
        exact m_zret C0 hG dX2_isOf_37 hF
  · have hF := ifn hF c_4
    refine lv_aload_n hx hb dX2_isOf_9 rfl (lv_at hl 0 rfl) ?_
    refine lv_iload_n hx hb dX2_isOf_10 rfl (lv_at hl 1 rfl) ?_
    obtain ⟨σ_10, r_11, e_12, hF⟩ := obi_of hF
    refine m_cVi (As := [.int a0]) (rest := []) C0 hG (mtM_isOne l e_12) (lw_V q1774 q1776 qs54 q102 q1777) yd_X2_isOne ⟨by omega, by omega⟩ rfl rfl hl.1 (Nat.le_of_ble_eq_true rfl) dX2_isOf_11 (fun H locs hG => ?_)
    refine lv_goto (tgt := 37) hx hb dX2_isOf_14 (by decide) ?_
    exact m_zret C0 hG dX2_isOf_37 hF
theorem mtM_isOf (l : Launch) {N : Nat} {L : mL} {σ σ' : mS} {r : Int32} {a0 : Int32} {a1 : Int32} (hF : fM_isOf N σ a0 a1 = some (σ', r)) : mMet l yX2_isOf cX2_isOf 3 (some .boolean) (2) (43) [.ref L.1, .int a0, .int a1] L σ (some (.int r)) σ' := by
  refine m_head (by decide) rfl ?_
  intro p e s m below meth c A C0 hG
  have hl := lv_entry ([.ref L.1, .int a0, .int a1]) (n := 3) (Nat.le_of_ble_eq_true rfl)
  rw [lg_entry_eq]
  generalize (lg_sl ([.ref L.1, .int a0, .int a1]) ++ List.replicate (3 - (lg_sl ([.ref L.1, .int a0, .int a1])).length) Slot.unset).toArray = ls at hl ⊢
  have hl : lv_has ls 3 [(0, .ref L.1), (1, .int a0), (2, .int a1)] := hl
  exact bM_isOf_e C0 ⟨Nat.le_refl _, Nat.le_refl _⟩ _ _ _ _ [] ls hG hl hF
def fM_isFit (N : Nat) (σ : mS) (a0 : Int32) (a1 : Int32) : Option (mS × Int32) :=
  if a0 = 0 then (
    obi (fM_within N σ a1 0 15) fun σ_2 r_3 =>
    chb r_3 (some (σ_2, r_3)))
  else (
  if a0 = 1 then (
    obi (fM_within N σ a1 0 15) fun σ_6 r_7 =>
    chb r_7 (some (σ_6, r_7)))
  else (
  if a0 = 2 then (
    obi (fM_within N σ a1 1 9) fun σ_10 r_11 =>
    chb r_11 (some (σ_10, r_11)))
  else (
  if a0 = 3 then (
    obi (fM_within N σ a1 1 60) fun σ_14 r_15 =>
    chb r_15 (some (σ_14, r_15)))
  else (
  if a0 = 4 then (
    obi (fM_within N σ a1 (-9) 9) fun σ_18 r_19 =>
    chb r_19 (some (σ_18, r_19)))
  else (
  if a0 = 5 then (
    obi (fM_within N σ a1 0 99) fun σ_22 r_23 =>
    chb r_23 (some (σ_22, r_23)))
  else (
  if a0 = 6 then (
    obi (fM_within N σ a1 0 7) fun σ_26 r_27 =>
    chb r_27 (some (σ_26, r_27)))
  else (
  if a0 = 7 then (
    obi (fM_within N σ a1 1 999) fun σ_30 r_31 =>
    chb r_31 (some (σ_30, r_31)))
  else (
  if a0 = 8 then (
    obi (fM_within N σ a1 1 9) fun σ_34 r_35 =>
    chb r_35 (some (σ_34, r_35)))
  else (
    obi (fM_within N σ a1 1 999) fun σ_37 r_38 =>
    chb r_38 (some (σ_37, r_38)))))))))))
theorem bM_isFit_e {N : Nat} (C0 : mCx p s m args meth c cX2_isFit 2 (some .boolean) L A) (hRo : 1 ≤ R.frames ∧ 22 ≤ R.locals) {σ' : mS} {r : Int32} (σ : mS) (a0 : Int32) (a1 : Int32) (H : Heap) (locs : List Loc) (ls : Array Slot) (hG : mG A L s σ H locs) (hl : lv_has ls 2 [(0, .int a0), (1, .int a1)]) (hF : fM_isFit N σ a0 a1 = some (σ', r)) : W p l e R s m args below meth c H locs 0 0 (mZ below L A s args σ' (some (.int r))) (F0 m 0 ls []) := by
  have hx := C0.1
  have hb := C0.2.1
  unfold fM_isFit at hF
  refine lv_iload_n hx hb dX2_isFit_0 rfl (lv_at hl 0 rfl) ?_
  by_cases c_1 : a0 = 0
  · have hF := ifp hF c_1
    refine lv_tableIn (off := 51) (tgt := 52) hx hb dX2_isFit_1 (by rw [c_1]; decide) (by rw [c_1]; decide) (by rw [c_1]; rfl) (by decide) ?_
    refine lv_iload_n hx hb dX2_isFit_52 rfl (lv_at hl 1 rfl) ?_
    refine lv_iconst (v := 0) hx hb dX2_isFit_53 (by decide) ?_
    refine lv_bipush (v := 15) hx hb dX2_isFit_54 (by decide) ?_
    obtain ⟨σ_2, r_3, e_4, hF⟩ := obi_of hF
    refine m_cSi (As := [.int a1, .int 0, .int 15]) (rest := []) C0 hG (mtM_within l e_4) (lw_S q1751 q1752 q102 q1753) yd_X2_within ⟨by omega, by omega⟩ rfl rfl hl.1 (Nat.le_of_ble_eq_true rfl) dX2_isFit_56 (fun H locs hG => ?_)
    exact m_zret C0 hG dX2_isFit_59 hF
  have hF := ifn hF c_1
  by_cases c_5 : a0 = 1
  · have hF := ifp hF c_5
    refine lv_tableIn (off := 51) (tgt := 52) hx hb dX2_isFit_1 (by rw [c_5]; decide) (by rw [c_5]; decide) (by rw [c_5]; rfl) (by decide) ?_
    refine lv_iload_n hx hb dX2_isFit_52 rfl (lv_at hl 1 rfl) ?_
    refine lv_iconst (v := 0) hx hb dX2_isFit_53 (by decide) ?_
    refine lv_bipush (v := 15) hx hb dX2_isFit_54 (by decide) ?_
    obtain ⟨σ_6, r_7, e_8, hF⟩ := obi_of hF
    refine m_cSi (As := [.int a1, .int 0, .int 15]) (rest := []) C0 hG (mtM_within l e_8) (lw_S q1751 q1752 q102 q1753) yd_X2_within ⟨by omega, by omega⟩ rfl rfl hl.1 (Nat.le_of_ble_eq_true rfl) dX2_isFit_56 (fun H locs hG => ?_)
    exact m_zret C0 hG dX2_isFit_59 hF
  have hF := ifn hF c_5
  by_cases c_9 : a0 = 2
  · have hF := ifp hF c_9
    refine lv_tableIn (off := 59) (tgt := 60) hx hb dX2_isFit_1 (by rw [c_9]; decide) (by rw [c_9]; decide) (by rw [c_9]; rfl) (by decide) ?_
    refine lv_iload_n hx hb dX2_isFit_60 rfl (lv_at hl 1 rfl) ?_
    refine lv_iconst (v := 1) hx hb dX2_isFit_61 (by decide) ?_
    refine lv_bipush (v := 9) hx hb dX2_isFit_62 (by decide) ?_
    obtain ⟨σ_10, r_11, e_12, hF⟩ := obi_of hF
    refine m_cSi (As := [.int a1, .int 1, .int 9]) (rest := []) C0 hG (mtM_within l e_12) (lw_S q1751 q1752 q102 q1753) yd_X2_within ⟨by omega, by omega⟩ rfl rfl hl.1 (Nat.le_of_ble_eq_true rfl) dX2_isFit_64 (fun H locs hG => ?_)
    exact m_zret C0 hG dX2_isFit_67 hF
  have hF := ifn hF c_9
  by_cases c_13 : a0 = 3
  · have hF := ifp hF c_13
    refine lv_tableIn (off := 67) (tgt := 68) hx hb dX2_isFit_1 (by rw [c_13]; decide) (by rw [c_13]; decide) (by rw [c_13]; rfl) (by decide) ?_
    refine lv_iload_n hx hb dX2_isFit_68 rfl (lv_at hl 1 rfl) ?_
    refine lv_iconst (v := 1) hx hb dX2_isFit_69 (by decide) ?_
    refine lv_bipush (v := 60) hx hb dX2_isFit_70 (by decide) ?_
    obtain ⟨σ_14, r_15, e_16, hF⟩ := obi_of hF
    refine m_cSi (As := [.int a1, .int 1, .int 60]) (rest := []) C0 hG (mtM_within l e_16) (lw_S q1751 q1752 q102 q1753) yd_X2_within ⟨by omega, by omega⟩ rfl rfl hl.1 (Nat.le_of_ble_eq_true rfl) dX2_isFit_72 (fun H locs hG => ?_)
    exact m_zret C0 hG dX2_isFit_75 hF
  have hF := ifn hF c_13
  by_cases c_17 : a0 = 4
  · have hF := ifp hF c_17
    refine lv_tableIn (off := 75) (tgt := 76) hx hb dX2_isFit_1 (by rw [c_17]; decide) (by rw [c_17]; decide) (by rw [c_17]; rfl) (by decide) ?_
    refine lv_iload_n hx hb dX2_isFit_76 rfl (lv_at hl 1 rfl) ?_
    refine lv_bipush (v := (-9)) hx hb dX2_isFit_77 (by decide) ?_
    refine lv_bipush (v := 9) hx hb dX2_isFit_79 (by decide) ?_
    obtain ⟨σ_18, r_19, e_20, hF⟩ := obi_of hF
    refine m_cSi (As := [.int a1, .int (-9), .int 9]) (rest := []) C0 hG (mtM_within l e_20) (lw_S q1751 q1752 q102 q1753) yd_X2_within ⟨by omega, by omega⟩ rfl rfl hl.1 (Nat.le_of_ble_eq_true rfl) dX2_isFit_81 (fun H locs hG => ?_)
    exact m_zret C0 hG dX2_isFit_84 hF
  have hF := ifn hF c_17
  by_cases c_21 : a0 = 5
  · have hF := ifp hF c_21
    refine lv_tableIn (off := 84) (tgt := 85) hx hb dX2_isFit_1 (by rw [c_21]; decide) (by rw [c_21]; decide) (by rw [c_21]; rfl) (by decide) ?_
    refine lv_iload_n hx hb dX2_isFit_85 rfl (lv_at hl 1 rfl) ?_
    refine lv_iconst (v := 0) hx hb dX2_isFit_86 (by decide) ?_
    refine lv_bipush (v := 99) hx hb dX2_isFit_87 (by decide) ?_
    obtain ⟨σ_22, r_23, e_24, hF⟩ := obi_of hF
    refine m_cSi (As := [.int a1, .int 0, .int 99]) (rest := []) C0 hG (mtM_within l e_24) (lw_S q1751 q1752 q102 q1753) yd_X2_within ⟨by omega, by omega⟩ rfl rfl hl.1 (Nat.le_of_ble_eq_true rfl) dX2_isFit_89 (fun H locs hG => ?_)
    exact m_zret C0 hG dX2_isFit_92 hF
  have hF := ifn hF c_21
  by_cases c_25 : a0 = 6
  · have hF := ifp hF c_25
    refine lv_tableIn (off := 92) (tgt := 93) hx hb dX2_isFit_1 (by rw [c_25]; decide) (by rw [c_25]; decide) (by rw [c_25]; rfl) (by decide) ?_
    refine lv_iload_n hx hb dX2_isFit_93 rfl (lv_at hl 1 rfl) ?_
    refine lv_iconst (v := 0) hx hb dX2_isFit_94 (by decide) ?_
    refine lv_bipush (v := 7) hx hb dX2_isFit_95 (by decide) ?_
    obtain ⟨σ_26, r_27, e_28, hF⟩ := obi_of hF
    refine m_cSi (As := [.int a1, .int 0, .int 7]) (rest := []) C0 hG (mtM_within l e_28) (lw_S q1751 q1752 q102 q1753) yd_X2_within ⟨by omega, by omega⟩ rfl rfl hl.1 (Nat.le_of_ble_eq_true rfl) dX2_isFit_97 (fun H locs hG => ?_)
    exact m_zret C0 hG dX2_isFit_100 hF
  have hF := ifn hF c_25
  by_cases c_29 : a0 = 7
  · have hF := ifp hF c_29
    refine lv_tableIn (off := 100) (tgt := 101) hx hb dX2_isFit_1 (by rw [c_29]; decide) (by rw [c_29]; decide) (by rw [c_29]; rfl) (by decide) ?_
    refine lv_iload_n hx hb dX2_isFit_101 rfl (lv_at hl 1 rfl) ?_
    refine lv_iconst (v := 1) hx hb dX2_isFit_102 (by decide) ?_
    refine lv_sipush (v := 999) hx hb dX2_isFit_103 (by decide) ?_
    obtain ⟨σ_30, r_31, e_32, hF⟩ := obi_of hF
    refine m_cSi (As := [.int a1, .int 1, .int 999]) (rest := []) C0 hG (mtM_within l e_32) (lw_S q1751 q1752 q102 q1753) yd_X2_within ⟨by omega, by omega⟩ rfl rfl hl.1 (Nat.le_of_ble_eq_true rfl) dX2_isFit_106 (fun H locs hG => ?_)
    exact m_zret C0 hG dX2_isFit_109 hF
  have hF := ifn hF c_29
  by_cases c_33 : a0 = 8
  · have hF := ifp hF c_33
    refine lv_tableIn (off := 59) (tgt := 60) hx hb dX2_isFit_1 (by rw [c_33]; decide) (by rw [c_33]; decide) (by rw [c_33]; rfl) (by decide) ?_
    refine lv_iload_n hx hb dX2_isFit_60 rfl (lv_at hl 1 rfl) ?_
    refine lv_iconst (v := 1) hx hb dX2_isFit_61 (by decide) ?_
    refine lv_bipush (v := 9) hx hb dX2_isFit_62 (by decide) ?_
    obtain ⟨σ_34, r_35, e_36, hF⟩ := obi_of hF
    refine m_cSi (As := [.int a1, .int 1, .int 9]) (rest := []) C0 hG (mtM_within l e_36) (lw_S q1751 q1752 q102 q1753) yd_X2_within ⟨by omega, by omega⟩ rfl rfl hl.1 (Nat.le_of_ble_eq_true rfl) dX2_isFit_64 (fun H locs hG => ?_)
    exact m_zret C0 hG dX2_isFit_67 hF
  have hF := ifn hF c_33
  refine lv_tableOut (tgt := 101) hx hb dX2_isFit_1 (sw_out (fun q_ => by
      have zc_1 := lv_neT c_1 (show ((0 : Int32)).toInt = 0 from by decide)
      have zc_5 := lv_neT c_5 (show ((1 : Int32)).toInt = 1 from by decide)
      have zc_9 := lv_neT c_9 (show ((2 : Int32)).toInt = 2 from by decide)
      have zc_13 := lv_neT c_13 (show ((3 : Int32)).toInt = 3 from by decide)
      have zc_17 := lv_neT c_17 (show ((4 : Int32)).toInt = 4 from by decide)
      have zc_21 := lv_neT c_21 (show ((5 : Int32)).toInt = 5 from by decide)
      have zc_25 := lv_neT c_25 (show ((6 : Int32)).toInt = 6 from by decide)
      have zc_29 := lv_neT c_29 (show ((7 : Int32)).toInt = 7 from by decide)
      have zc_33 := lv_neT c_33 (show ((8 : Int32)).toInt = 8 from by decide)
      omega)) (by decide) ?_
  refine lv_iload_n hx hb dX2_isFit_101 rfl (lv_at hl 1 rfl) ?_
  refine lv_iconst (v := 1) hx hb dX2_isFit_102 (by decide) ?_
  refine lv_sipush (v := 999) hx hb dX2_isFit_103 (by decide) ?_
  obtain ⟨σ_37, r_38, e_39, hF⟩ := obi_of hF
  refine m_cSi (As := [.int a1, .int 1, .int 999]) (rest := []) C0 hG (mtM_within l e_39) (lw_S q1751 q1752 q102 q1753) yd_X2_within ⟨by omega, by omega⟩ rfl rfl hl.1 (Nat.le_of_ble_eq_true rfl) dX2_isFit_106 (fun H locs hG => ?_)
  exact m_zret C0 hG dX2_isFit_109 hF
theorem mtM_isFit (l : Launch) {N : Nat} {L : mL} {σ σ' : mS} {r : Int32} {a0 : Int32} {a1 : Int32} (hF : fM_isFit N σ a0 a1 = some (σ', r)) : mMet l yX2_isFit cX2_isFit 2 (some .boolean) (1) (22) [.int a0, .int a1] L σ (some (.int r)) σ' := by
  refine m_head (by decide) rfl ?_
  intro p e s m below meth c A C0 hG
  have hl := lv_entry ([.int a0, .int a1]) (n := 2) (Nat.le_of_ble_eq_true rfl)
  rw [lg_entry_eq]
  generalize (lg_sl ([.int a0, .int a1]) ++ List.replicate (2 - (lg_sl ([.int a0, .int a1])).length) Slot.unset).toArray = ls at hl ⊢
  have hl : lv_has ls 2 [(0, .int a0), (1, .int a1)] := hl
  exact bM_isFit_e C0 ⟨Nat.le_refl _, Nat.le_refl _⟩ _ _ _ _ [] ls hG hl hF
end MWALK0
