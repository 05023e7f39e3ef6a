section MWALK6
variable {p : Program} {l : Launch} {e : Env} {R : Room} {s : State} {m : MethodId} {args : Array Value} {below : List Frame} {meth : Method} {c : Code} {A : Nat → Prop}
variable {L : mL}
def fM_marks_b39 (N : Nat) (k16 : mS → Int32 → Int32 → Int32 → Option (mS × Int32)) : Nat → mS → Int32 → Int32 → Int32 → Int32 → Option (mS × Int32)
  | 0, _, _, _, _, _ => none
  | n + 1, σ, x1, x2, x3, x4 =>
    nmv (σ.1 44) fun x_8 =>
    if x_8 ≤ x4 then (
      nmv (((10 : Int32) * x2) + x3) fun x_10 =>
      chk x_10 80 <| nmv (σ.2.1 47 x_10.toNatClampNeg) fun x_11 =>
      nmv (x1 + x_11) fun x_12 =>
      nmv (x3 + 1) fun x_13 =>
      k16 σ x_12 x2 x_13)
    else (
      nmv (((10 : Int32) * x2) + x3) fun x_14 =>
      chk x_14 80 <| nmv (σ.2.1 47 x_14.toNatClampNeg) fun x_15 =>
      obi (fM_apartOf N σ x2 x3 (x4 + 1)) fun σ_16 r_17 =>
      chk x4 60 <| nmv (σ_16.2.1 45 x4.toNatClampNeg) fun x_19 =>
      obi (fM_loss N σ_16 x2 x3 r_17 x_19 x4) fun σ_20 r_21 =>
      chk x_14 80 <| nmv (mSj σ_20 47 x_14.toNatClampNeg (x_15 + r_21)) fun σ_23 =>
      nmv (x4 + 1) fun x_24 =>
      (fM_marks_b39 N k16 n) σ_23 x1 x2 x3 x_24)
def fM_marks_b16 (N : Nat) (k4 : mS → Int32 → Int32 → Option (mS × Int32)) : Nat → mS → Int32 → Int32 → Int32 → Option (mS × Int32)
  | 0, _, _, _, _ => none
  | n + 1, σ, x1, x2, x3 =>
    nmv (σ.1 0) fun x_4 =>
    if x_4 ≤ x3 then (
      nmv (x2 + 1) fun x_6 =>
      k4 σ x1 x_6)
    else (
      chk (((10 : Int32) * x2) + x3) 80 <| nmv (mSj σ 47 (((10 : Int32) * x2) + x3).toNatClampNeg 0) fun σ_7 =>
      fM_marks_b39 N (fM_marks_b16 N k4 n) N σ_7 x1 x2 x3 0)
def fM_marks_b4 (N : Nat) : Nat → mS → Int32 → Int32 → Option (mS × Int32)
  | 0, _, _, _ => none
  | n + 1, σ, x1, x2 =>
    nmv (σ.1 0) fun x_1 =>
    if x_1 ≤ x2 then (
      some (σ, x1))
    else (
      nmv (x2 + 1) fun x_3 =>
      fM_marks_b16 N (fM_marks_b4 N n) N σ x1 x2 x_3)
def fM_marks (N : Nat) (σ : mS) : Option (mS × Int32) :=
  fM_marks_b4 N N σ 0 0
theorem bM_marks_39 {N : Nat} (C0 : mCx p s m args meth c cX2_marks 5 (some .int) L A) (hRo : 3 ≤ R.frames ∧ 73 ≤ R.locals) {σ' : mS} {r : Int32} {k16 : mS → Int32 → Int32 → Int32 → Option (mS × Int32)} (hk16 : ∀ (σ : mS) (x1 : Int32) (x2 : Int32) (x3 : Int32) (H : Heap) (locs : List Loc) (ls : Array Slot), mG A L s σ H locs → lv_has ls 5 [(0, .ref L.1), (1, .int x1), (2, .int x2), (3, .int x3)] → k16 σ x1 x2 x3 = some (σ', r) → W p l e R s m args below meth c H locs 0 0 (mZ below L A s args σ' (some (.int r))) (F0 m 16 ls [])) : ∀ (n : Nat) (σ : mS) (x1 : Int32) (x2 : Int32) (x3 : Int32) (x4 : Int32) (H : Heap) (locs : List Loc) (ls : Array Slot), mG A L s σ H locs → lv_has ls 5 [(0, .ref L.1), (1, .int x1), (2, .int x2), (3, .int x3), (4, .int x4)] → fM_marks_b39 N k16 n σ x1 x2 x3 x4 = some (σ', r) → W p l e R s m args below meth c H locs 0 0 (mZ below L A s args σ' (some (.int r))) (F0 m 39 ls []) := by
  have hx := C0.1
  have hb := C0.2.1
  intro n
  induction n with
  | zero => intro σ x1 x2 x3 x4 H locs ls hG hl hF; cases hF
  | succ n ih =>
    intro σ x1 x2 x3 x4 H locs ls hG hl hF
    unfold fM_marks_b39 at hF
    refine lv_iload hx hb dX2_marks_39 (lv_at hl 4 rfl) ?_
    refine lv_aload_n hx hb dX2_marks_41 rfl (lv_at hl 0 rfl) ?_
    refine m_geti C0 hG 44 (by decide) rfl q1622 dX2_marks_42 hF (fun x_8 hF => ?_)
    refine lv_icmp_ge (tgt := 93) hx hb dX2_marks_45 (by decide) (fun c_9 => ?_) (fun c_9 => ?_)
    · have hF := ifp hF c_9
      refine lv_iload_n hx hb dX2_marks_93 rfl (lv_at hl 1 rfl) ?_
      refine lv_aload_n hx hb dX2_marks_94 rfl (lv_at hl 0 rfl) ?_
      refine m_geta C0 hG 47 (by decide) rfl q1625 dX2_marks_95 ?_
      refine lv_bipush (v := 10) hx hb dX2_marks_98 (by decide) ?_
      refine lv_iload_n hx hb dX2_marks_100 rfl (lv_at hl 2 rfl) ?_
      refine lv_imul hx hb dX2_marks_101 ?_
      refine lv_iload_n hx hb dX2_marks_102 rfl (lv_at hl 3 rfl) ?_
      refine lv_iadd hx hb dX2_marks_103 ?_
      refine w_nm hF (fun x_10 hF => ?_)
      refine m_ld C0 hG 47 ⟨by decide, rfl, by decide⟩ dX2_marks_104 hF (fun x_11 hF => ?_)
      refine lv_iadd hx hb dX2_marks_105 ?_
      refine w_nm hF (fun x_12 hF => ?_)
      refine lv_istore_n (lv' := [(1, .int x_12), (0, .ref L.1), (2, .int x2), (3, .int x3), (4, .int x4)]) hx hb dX2_marks_106 rfl hl (by decide) rfl (fun ls hl => ?_)
      refine w_iinc hx hb dX2_marks_107 hl 3 rfl (v := 1) (by decide) (by decide) hF (fun x_13 ls hl hF => ?_)
      have hl : lv_has ls 5 [(3, .int x_13), (1, .int x_12), (0, .ref L.1), (2, .int x2), (4, .int x4)] := hl
      refine lv_goto (tgt := 16) hx hb dX2_marks_110 (by decide) ?_
      exact hk16 _ _ _ _ H locs ls hG (lv_sub hl [2, 1, 3, 0] rfl) hF
    · have hF := ifn hF c_9
      refine lv_aload_n hx hb dX2_marks_48 rfl (lv_at hl 0 rfl) ?_
      refine m_geta C0 hG 47 (by decide) rfl q1625 dX2_marks_49 ?_
      refine lv_bipush (v := 10) hx hb dX2_marks_52 (by decide) ?_
      refine lv_iload_n hx hb dX2_marks_54 rfl (lv_at hl 2 rfl) ?_
      refine lv_imul hx hb dX2_marks_55 ?_
      refine lv_iload_n hx hb dX2_marks_56 rfl (lv_at hl 3 rfl) ?_
      refine lv_iadd hx hb dX2_marks_57 ?_
      refine w_nm hF (fun x_14 hF => ?_)
      refine lv_dup2_11 hx hb dX2_marks_58 rfl rfl ?_
      refine m_ld C0 hG 47 ⟨by decide, rfl, by decide⟩ dX2_marks_59 hF (fun x_15 hF => ?_)
      refine lv_aload_n hx hb dX2_marks_60 rfl (lv_at hl 0 rfl) ?_
      refine lv_iload_n hx hb dX2_marks_61 rfl (lv_at hl 2 rfl) ?_
      refine lv_iload_n hx hb dX2_marks_62 rfl (lv_at hl 3 rfl) ?_
      refine lv_aload_n hx hb dX2_marks_63 rfl (lv_at hl 0 rfl) ?_
      refine lv_iload_n hx hb dX2_marks_64 rfl (lv_at hl 2 rfl) ?_
      refine lv_iload_n hx hb dX2_marks_65 rfl (lv_at hl 3 rfl) ?_
      refine lv_iload hx hb dX2_marks_66 (lv_at hl 4 rfl) ?_
      refine lv_iconst (v := 1) hx hb dX2_marks_68 (by decide) ?_
      refine lv_iadd hx hb dX2_marks_69 ?_
      obtain ⟨σ_16, r_17, e_18, hF⟩ := obi_of hF
      refine m_cVi (As := [.int x2, .int x3, .int (x4 + 1)]) (rest := [.int x3, .int x2, .ref L.1, .int x_15, .int x_14, .ref (L.2.1 47)]) C0 hG (mtM_apartOf l e_18) (lw_V q1904 q1906 qs76 q102 q1907) yd_X2_apartOf ⟨by omega, by omega⟩ rfl rfl hl.1 (Nat.le_of_ble_eq_true rfl) dX2_marks_70 (fun H locs hG => ?_)
      refine lv_aload_n hx hb dX2_marks_73 rfl (lv_at hl 0 rfl) ?_
      refine m_geta C0 hG 45 (by decide) rfl q1623 dX2_marks_74 ?_
      refine lv_iload hx hb dX2_marks_77 (lv_at hl 4 rfl) ?_
      refine m_ld C0 hG 45 ⟨by decide, rfl, by decide⟩ dX2_marks_79 hF (fun x_19 hF => ?_)
      refine lv_iload hx hb dX2_marks_80 (lv_at hl 4 rfl) ?_
      obtain ⟨σ_20, r_21, e_22, hF⟩ := obi_of hF
      refine m_cVi (As := [.int x2, .int x3, .int r_17, .int x_19, .int x4]) (rest := [.int x_15, .int x_14, .ref (L.2.1 47)]) C0 hG (mtM_loss l e_22) (lw_V q1865 q1867 qs69 q102 q1868) yd_X2_loss ⟨by omega, by omega⟩ rfl rfl hl.1 (Nat.le_of_ble_eq_true rfl) dX2_marks_82 (fun H locs hG => ?_)
      refine lv_iadd hx hb dX2_marks_85 ?_
      refine m_st C0 hG 47 ⟨by decide, rfl, by decide⟩ dX2_marks_86 hF (fun σ_23 H locs hG hF => ?_)
      refine w_iinc hx hb dX2_marks_87 hl 4 rfl (v := 1) (by decide) (by decide) hF (fun x_24 ls hl hF => ?_)
      have hl : lv_has ls 5 [(4, .int x_24), (0, .ref L.1), (1, .int x1), (2, .int x2), (3, .int x3)] := hl
      refine lv_goto (tgt := 39) hx hb dX2_marks_90 (by decide) ?_
      exact ih _ _ _ _ _ H locs ls hG (lv_sub hl [1, 2, 3, 4, 0] rfl) hF
theorem bM_marks_16 {N : Nat} (C0 : mCx p s m args meth c cX2_marks 5 (some .int) L A) (hRo : 3 ≤ R.frames ∧ 73 ≤ R.locals) {σ' : mS} {r : Int32} {k4 : mS → Int32 → Int32 → Option (mS × Int32)} (hk4 : ∀ (σ : mS) (x1 : Int32) (x2 : Int32) (H : Heap) (locs : List Loc) (ls : Array Slot), mG A L s σ H locs → lv_has ls 5 [(0, .ref L.1), (1, .int x1), (2, .int x2)] → k4 σ x1 x2 = some (σ', r) → W p l e R s m args below meth c H locs 0 0 (mZ below L A s args σ' (some (.int r))) (F0 m 4 ls [])) : ∀ (n : Nat) (σ : mS) (x1 : Int32) (x2 : Int32) (x3 : Int32) (H : Heap) (locs : List Loc) (ls : Array Slot), mG A L s σ H locs → lv_has ls 5 [(0, .ref L.1), (1, .int x1), (2, .int x2), (3, .int x3)] → fM_marks_b16 N k4 n σ x1 x2 x3 = some (σ', r) → W p l e R s m args below meth c H locs 0 0 (mZ below L A s args σ' (some (.int r))) (F0 m 16 ls []) := by
  have hx := C0.1
  have hb := C0.2.1
  intro n
  induction n with
  | zero => intro σ x1 x2 x3 H locs ls hG hl hF; cases hF
  | succ n ih =>
    intro σ x1 x2 x3 H locs ls hG hl hF
    unfold fM_marks_b16 at hF
    refine lv_iload_n hx hb dX2_marks_16 rfl (lv_at hl 3 rfl) ?_
    refine lv_aload_n hx hb dX2_marks_17 rfl (lv_at hl 0 rfl) ?_
    refine m_geti C0 hG 0 (by decide) rfl q1578 dX2_marks_18 hF (fun x_4 hF => ?_)
    refine lv_icmp_ge (tgt := 113) hx hb dX2_marks_21 (by decide) (fun c_5 => ?_) (fun c_5 => ?_)
    · have hF := ifp hF c_5
      refine w_iinc hx hb dX2_marks_113 hl 2 rfl (v := 1) (by decide) (by decide) hF (fun x_6 ls hl hF => ?_)
      have hl : lv_has ls 5 [(2, .int x_6), (0, .ref L.1), (1, .int x1), (3, .int x3)] := hl
      refine lv_goto (tgt := 4) hx hb dX2_marks_116 (by decide) ?_
      exact hk4 _ _ _ H locs ls hG (lv_sub hl [1, 2, 0] rfl) hF
    · have hF := ifn hF c_5
      refine lv_aload_n hx hb dX2_marks_24 rfl (lv_at hl 0 rfl) ?_
      refine m_geta C0 hG 47 (by decide) rfl q1625 dX2_marks_25 ?_
      refine lv_bipush (v := 10) hx hb dX2_marks_28 (by decide) ?_
      refine lv_iload_n hx hb dX2_marks_30 rfl (lv_at hl 2 rfl) ?_
      refine lv_imul hx hb dX2_marks_31 ?_
      refine lv_iload_n hx hb dX2_marks_32 rfl (lv_at hl 3 rfl) ?_
      refine lv_iadd hx hb dX2_marks_33 ?_
      refine lv_iconst (v := 0) hx hb dX2_marks_34 (by decide) ?_
      refine m_st C0 hG 47 ⟨by decide, rfl, by decide⟩ dX2_marks_35 hF (fun σ_7 H locs hG hF => ?_)
      refine lv_iconst (v := 0) hx hb dX2_marks_36 (by decide) ?_
      refine lv_istore (lv' := [(4, .int 0), (0, .ref L.1), (1, .int x1), (2, .int x2), (3, .int x3)]) hx hb dX2_marks_37 hl (by decide) rfl (fun ls hl => ?_)
      exact bM_marks_39 C0 hRo ih N _ _ _ _ _ H locs ls hG (lv_sub hl [1, 2, 3, 4, 0] rfl) hF
theorem bM_marks_4 {N : Nat} (C0 : mCx p s m args meth c cX2_marks 5 (some .int) L A) (hRo : 3 ≤ R.frames ∧ 73 ≤ R.locals) {σ' : mS} {r : Int32} : ∀ (n : Nat) (σ : mS) (x1 : Int32) (x2 : Int32) (H : Heap) (locs : List Loc) (ls : Array Slot), mG A L s σ H locs → lv_has ls 5 [(0, .ref L.1), (1, .int x1), (2, .int x2)] → fM_marks_b4 N n σ x1 x2 = some (σ', r) → W p l e R s m args below meth c H locs 0 0 (mZ below L A s args σ' (some (.int r))) (F0 m 4 ls []) := by
  have hx := C0.1
  have hb := C0.2.1
  intro n
  induction n with
  | zero => intro σ x1 x2 H locs ls hG hl hF; cases hF
  | succ n ih =>
    intro σ x1 x2 H locs ls hG hl hF
    unfold fM_marks_b4 at hF
    refine lv_iload_n hx hb dX2_marks_4 rfl (lv_at hl 2 rfl) ?_
    refine lv_aload_n hx hb dX2_marks_5 rfl (lv_at hl 0 rfl) ?_
    refine m_geti C0 hG 0 (by decide) rfl q1578 dX2_marks_6 hF (fun x_1 hF => ?_)
    refine lv_icmp_ge (tgt := 119) hx hb dX2_marks_9 (by decide) (fun c_2 => ?_) (fun c_2 => ?_)
    · have hF := ifp hF c_2
      refine lv_iload_n hx hb dX2_marks_119 rfl (lv_at hl 1 rfl) ?_
      exact m_iret C0 hG dX2_marks_120 hF
    · have hF := ifn hF c_2
      refine lv_iload_n hx hb dX2_marks_12 rfl (lv_at hl 2 rfl) ?_
      refine lv_iconst (v := 1) hx hb dX2_marks_13 (by decide) ?_
      refine lv_iadd hx hb dX2_marks_14 ?_
      refine w_nm hF (fun x_3 hF => ?_)
      refine lv_istore_n (lv' := [(3, .int x_3), (0, .ref L.1), (1, .int x1), (2, .int x2)]) hx hb dX2_marks_15 rfl hl (by decide) rfl (fun ls hl => ?_)
      exact bM_marks_16 C0 hRo ih N _ _ _ _ H locs ls hG (lv_sub hl [1, 2, 3, 0] rfl) hF
theorem bM_marks_e {N : Nat} (C0 : mCx p s m args meth c cX2_marks 5 (some .int) L A) (hRo : 3 ≤ R.frames ∧ 73 ≤ R.locals) {σ' : mS} {r : Int32} (σ : mS) (H : Heap) (locs : List Loc) (ls : Array Slot) (hG : mG A L s σ H locs) (hl : lv_has ls 5 [(0, .ref L.1)]) (hF : fM_marks N σ = some (σ', r)) : W p l e R s m args below meth c H locs 0 0 (mZ below L A s args σ' (some (.int r))) (F0 m 0 ls []) := by
  have hx := C0.1
  have hb := C0.2.1
  unfold fM_marks at hF
  refine lv_iconst (v := 0) hx hb dX2_marks_0 (by decide) ?_
  refine lv_istore_n (lv' := [(1, .int 0), (0, .ref L.1)]) hx hb dX2_marks_1 rfl hl (by decide) rfl (fun ls hl => ?_)
  refine lv_iconst (v := 0) hx hb dX2_marks_2 (by decide) ?_
  refine lv_istore_n (lv' := [(2, .int 0), (1, .int 0), (0, .ref L.1)]) hx hb dX2_marks_3 rfl hl (by decide) rfl (fun ls hl => ?_)
  exact bM_marks_4 C0 hRo N _ _ _ H locs ls hG (lv_sub hl [2, 1, 0] rfl) hF
theorem mtM_marks (l : Launch) {N : Nat} {L : mL} {σ σ' : mS} {r : Int32} (hF : fM_marks N σ = some (σ', r)) : mMet l yX2_marks cX2_marks 5 (some .int) (3) (73) [.ref L.1] L σ (some (.int r)) σ' := by
  refine m_head (by decide) rfl ?_
  intro p e s m below meth c A C0 hG
  have hl := lv_entry ([.ref L.1]) (n := 5) (Nat.le_of_ble_eq_true rfl)
  rw [lg_entry_eq]
  generalize (lg_sl ([.ref L.1]) ++ List.replicate (5 - (lg_sl ([.ref L.1])).length) Slot.unset).toArray = ls at hl ⊢
  have hl : lv_has ls 5 [(0, .ref L.1)] := hl
  exact bM_marks_e C0 ⟨Nat.le_refl _, Nat.le_refl _⟩ _ _ [] ls hG hl hF
def fM_marksNow (N : Nat) (σ : mS) : Option (mS × Int32) :=
  obi (fM_drifts N σ 0) fun σ_1 r_2 =>
  obi (fM_marks N σ_1) fun σ_4 r_5 =>
  some (σ_4, r_5)
theorem bM_marksNow_e {N : Nat} (C0 : mCx p s m args meth c cX2_marksNow 1 (some .int) L A) (hRo : 4 ≤ R.frames ∧ 97 ≤ R.locals) {σ' : mS} {r : Int32} (σ : mS) (H : Heap) (locs : List Loc) (ls : Array Slot) (hG : mG A L s σ H locs) (hl : lv_has ls 1 [(0, .ref L.1)]) (hF : fM_marksNow N σ = some (σ', r)) : W p l e R s m args below meth c H locs 0 0 (mZ below L A s args σ' (some (.int r))) (F0 m 0 ls []) := by
  have hx := C0.1
  have hb := C0.2.1
  unfold fM_marksNow at hF
  refine lv_aload_n hx hb dX2_marksNow_0 rfl (lv_at hl 0 rfl) ?_
  refine lv_iconst (v := 0) hx hb dX2_marksNow_1 (by decide) ?_
  obtain ⟨σ_1, r_2, e_3, hF⟩ := obi_of hF
  refine m_cVv (As := [.int 0]) (rest := []) C0 hG (mtM_drifts l e_3) (lw_V q1895 q1897 qs74 q102 q1898) yd_X2_drifts ⟨by omega, by omega⟩ rfl rfl hl.1 (Nat.le_of_ble_eq_true rfl) dX2_marksNow_2 (fun H locs hG => ?_)
  refine lv_aload_n hx hb dX2_marksNow_5 rfl (lv_at hl 0 rfl) ?_
  obtain ⟨σ_4, r_5, e_6, hF⟩ := obi_of hF
  refine m_cVi (As := []) (rest := []) C0 hG (mtM_marks l e_6) (lw_V q1900 q1902 qs75 q102 q1903) yd_X2_marks ⟨by omega, by omega⟩ rfl rfl hl.1 (Nat.le_of_ble_eq_true rfl) dX2_marksNow_6 (fun H locs hG => ?_)
  exact m_iret C0 hG dX2_marksNow_9 hF
theorem mtM_marksNow (l : Launch) {N : Nat} {L : mL} {σ σ' : mS} {r : Int32} (hF : fM_marksNow N σ = some (σ', r)) : mMet l yX2_marksNow cX2_marksNow 1 (some .int) (4) (97) [.ref L.1] L σ (some (.int r)) σ' := by
  refine m_head (by decide) rfl ?_
  intro p e s m below meth c A C0 hG
  have hl := lv_entry ([.ref L.1]) (n := 1) (Nat.le_of_ble_eq_true rfl)
  rw [lg_entry_eq]
  generalize (lg_sl ([.ref L.1]) ++ List.replicate (1 - (lg_sl ([.ref L.1])).length) Slot.unset).toArray = ls at hl ⊢
  have hl : lv_has ls 1 [(0, .ref L.1)] := hl
  exact bM_marksNow_e C0 ⟨Nat.le_refl _, Nat.le_refl _⟩ _ _ [] ls hG hl hF
def fM_firstApart_b36 (N : Nat) (k2 : mS → Int32 → Option (mS × Int32)) (σ : mS) (x1 : Int32) : Option (mS × Int32) :=
  nmv (x1 + 1) fun x_10 =>
  k2 σ x_10
def fM_firstApart_b2 (N : Nat) : Nat → mS → Int32 → Option (mS × Int32)
  | 0, _, _ => none
  | n + 1, σ, x1 =>
    nmv (σ.1 44) fun x_1 =>
    if x_1 ≤ x1 then (
      some (σ, (-2)))
    else (
      nmv (σ.1 0) fun x_3 =>
      if x_3 ≤ 1 then (
        fM_firstApart_b36 N (fM_firstApart_b2 N n) σ x1)
      else (
        obi (fM_greatest N σ (x1 + 1)) fun σ_5 r_6 =>
        chk 1 3 <| nmv (σ_5.2.1 7 (1 : Int32).toNatClampNeg) fun x_8 =>
        if r_6 < x_8 then (
          fM_firstApart_b36 N (fM_firstApart_b2 N n) σ_5 x1)
        else (
          some (σ_5, x1))))
def fM_firstApart (N : Nat) (σ : mS) : Option (mS × Int32) :=
  fM_firstApart_b2 N N σ 0
theorem bM_firstApart_36 {N : Nat} (C0 : mCx p s m args meth c cX2_firstApart 2 (some .int) L A) (hRo : 4 ≤ R.frames ∧ 92 ≤ R.locals) {σ' : mS} {r : Int32} {k2 : mS → Int32 → Option (mS × Int32)} (hk2 : ∀ (σ : mS) (x1 : Int32) (H : Heap) (locs : List Loc) (ls : Array Slot), mG A L s σ H locs → lv_has ls 2 [(0, .ref L.1), (1, .int x1)] → k2 σ x1 = some (σ', r) → W p l e R s m args below meth c H locs 0 0 (mZ below L A s args σ' (some (.int r))) (F0 m 2 ls [])) (σ : mS) (x1 : Int32) (H : Heap) (locs : List Loc) (ls : Array Slot) (hG : mG A L s σ H locs) (hl : lv_has ls 2 [(0, .ref L.1), (1, .int x1)]) (hF : fM_firstApart_b36 N k2 σ x1 = some (σ', r)) : W p l e R s m args below meth c H locs 0 0 (mZ below L A s args σ' (some (.int r))) (F0 m 36 ls []) := by
  have hx := C0.1
  have hb := C0.2.1
  unfold fM_firstApart_b36 at hF
  refine w_iinc hx hb dX2_firstApart_36 hl 1 rfl (v := 1) (by decide) (by decide) hF (fun x_10 ls hl hF => ?_)
  have hl : lv_has ls 2 [(1, .int x_10), (0, .ref L.1)] := hl
  refine lv_goto (tgt := 2) hx hb dX2_firstApart_39 (by decide) ?_
  exact hk2 _ _ H locs ls hG (lv_sub hl [1, 0] rfl) hF
theorem bM_firstApart_2 {N : Nat} (C0 : mCx p s m args meth c cX2_firstApart 2 (some .int) L A) (hRo : 4 ≤ R.frames ∧ 92 ≤ R.locals) {σ' : mS} {r : Int32} : ∀ (n : Nat) (σ : mS) (x1 : Int32) (H : Heap) (locs : List Loc) (ls : Array Slot), mG A L s σ H locs → lv_has ls 2 [(0, .ref L.1), (1, .int x1)] → fM_firstApart_b2 N n σ x1 = some (σ', r) → W p l e R s m args below meth c H locs 0 0 (mZ below L A s args σ' (some (.int r))) (F0 m 2 ls []) := by
  have hx := C0.1
  have hb := C0.2.1
  intro n
  induction n with
  | zero => intro σ x1 H locs ls hG hl hF; cases hF
  | succ n ih =>
    intro σ x1 H locs ls hG hl hF
    unfold fM_firstApart_b2 at hF
    refine lv_iload_n hx hb dX2_firstApart_2 rfl (lv_at hl 1 rfl) ?_
    refine lv_aload_n hx hb dX2_firstApart_3 rfl (lv_at hl 0 rfl) ?_
    refine m_geti C0 hG 44 (by decide) rfl q1622 dX2_firstApart_4 hF (fun x_1 hF => ?_)
    refine lv_icmp_ge (tgt := 42) hx hb dX2_firstApart_7 (by decide) (fun c_2 => ?_) (fun c_2 => ?_)
    · have hF := ifp hF c_2
      refine lv_bipush (v := (-2)) hx hb dX2_firstApart_42 (by decide) ?_
      exact m_iret C0 hG dX2_firstApart_44 hF
    · have hF := ifn hF c_2
      refine lv_aload_n hx hb dX2_firstApart_10 rfl (lv_at hl 0 rfl) ?_
      refine m_geti C0 hG 0 (by decide) rfl q1578 dX2_firstApart_11 hF (fun x_3 hF => ?_)
      refine lv_iconst (v := 1) hx hb dX2_firstApart_14 (by decide) ?_
      refine lv_icmp_le (tgt := 36) hx hb dX2_firstApart_15 (by decide) (fun c_4 => ?_) (fun c_4 => ?_)
      · have hF := ifp hF c_4
        exact bM_firstApart_36 C0 hRo ih _ _ H locs ls hG (lv_sub hl [0, 1] rfl) hF
      · have hF := ifn hF c_4
        refine lv_aload_n hx hb dX2_firstApart_18 rfl (lv_at hl 0 rfl) ?_
        refine lv_iload_n hx hb dX2_firstApart_19 rfl (lv_at hl 1 rfl) ?_
        refine lv_iconst (v := 1) hx hb dX2_firstApart_20 (by decide) ?_
        refine lv_iadd hx hb dX2_firstApart_21 ?_
        obtain ⟨σ_5, r_6, e_7, hF⟩ := obi_of hF
        refine m_cVi (As := [.int (x1 + 1)]) (rest := []) C0 hG (mtM_greatest l e_7) (lw_V q1916 q1918 qs79 q102 q1919) yd_X2_greatest ⟨by omega, by omega⟩ rfl rfl hl.1 (Nat.le_of_ble_eq_true rfl) dX2_firstApart_22 (fun H locs hG => ?_)
        refine lv_aload_n hx hb dX2_firstApart_25 rfl (lv_at hl 0 rfl) ?_
        refine m_geta C0 hG 7 (by decide) rfl q1585 dX2_firstApart_26 ?_
        refine lv_iconst (v := 1) hx hb dX2_firstApart_29 (by decide) ?_
        refine m_ld C0 hG 7 ⟨by decide, rfl, by decide⟩ dX2_firstApart_30 hF (fun x_8 hF => ?_)
        refine lv_icmp_lt (tgt := 36) hx hb dX2_firstApart_31 (by decide) (fun c_9 => ?_) (fun c_9 => ?_)
        · have hF := ifp hF c_9
          exact bM_firstApart_36 C0 hRo ih _ _ H locs ls hG (lv_sub hl [0, 1] rfl) hF
        · have hF := ifn hF c_9
          refine lv_iload_n hx hb dX2_firstApart_34 rfl (lv_at hl 1 rfl) ?_
          exact m_iret C0 hG dX2_firstApart_35 hF
theorem bM_firstApart_e {N : Nat} (C0 : mCx p s m args meth c cX2_firstApart 2 (some .int) L A) (hRo : 4 ≤ R.frames ∧ 92 ≤ R.locals) {σ' : mS} {r : Int32} (σ : mS) (H : Heap) (locs : List Loc) (ls : Array Slot) (hG : mG A L s σ H locs) (hl : lv_has ls 2 [(0, .ref L.1)]) (hF : fM_firstApart N σ = some (σ', r)) : W p l e R s m args below meth c H locs 0 0 (mZ below L A s args σ' (some (.int r))) (F0 m 0 ls []) := by
  have hx := C0.1
  have hb := C0.2.1
  unfold fM_firstApart at hF
  refine lv_iconst (v := 0) hx hb dX2_firstApart_0 (by decide) ?_
  refine lv_istore_n (lv' := [(1, .int 0), (0, .ref L.1)]) hx hb dX2_firstApart_1 rfl hl (by decide) rfl (fun ls hl => ?_)
  exact bM_firstApart_2 C0 hRo N _ _ H locs ls hG (lv_sub hl [1, 0] rfl) hF
theorem mtM_firstApart (l : Launch) {N : Nat} {L : mL} {σ σ' : mS} {r : Int32} (hF : fM_firstApart N σ = some (σ', r)) : mMet l yX2_firstApart cX2_firstApart 2 (some .int) (4) (92) [.ref L.1] L σ (some (.int r)) σ' := by
  refine m_head (by decide) rfl ?_
  intro p e s m below meth c A C0 hG
  have hl := lv_entry ([.ref L.1]) (n := 2) (Nat.le_of_ble_eq_true rfl)
  rw [lg_entry_eq]
  generalize (lg_sl ([.ref L.1]) ++ List.replicate (2 - (lg_sl ([.ref L.1])).length) Slot.unset).toArray = ls at hl ⊢
  have hl : lv_has ls 2 [(0, .ref L.1)] := hl
  exact bM_firstApart_e C0 ⟨Nat.le_refl _, Nat.le_refl _⟩ _ _ [] ls hG hl hF
def fM_losers_b69 (N : Nat) (k20 : mS → Int32 → Int32 → Int32 → Int32 → Option (mS × Int32)) (σ : mS) (x1 : Int32) (x2 : Int32) (x3 : Int32) (x4 : Int32) : Option (mS × Int32) :=
  nmv (x4 + 1) fun x_13 =>
  k20 σ x1 x2 x3 x_13
def fM_losers_b20 (N : Nat) (k7 : mS → Int32 → Int32 → Int32 → Option (mS × Int32)) : Nat → mS → Int32 → Int32 → Int32 → Int32 → Option (mS × Int32)
  | 0, _, _, _, _, _ => none
  | n + 1, σ, x1, x2, x3, x4 =>
    nmv (σ.1 0) fun x_4 =>
    if x_4 ≤ x4 then (
      nmv (x3 + 1) fun x_6 =>
      k7 σ x1 x2 x_6)
    else (
      nmv (((10 : Int32) * x3) + x4) fun x_7 =>
      chk x_7 80 <| nmv (σ.2.1 47 x_7.toNatClampNeg) fun x_8 =>
      if x2 < x_8 then (
        nmv (((10 : Int32) * x3) + x4) fun x_10 =>
        chk x_10 80 <| nmv (σ.2.1 47 x_10.toNatClampNeg) fun x_11 =>
        nmv (((10 : Int32) * x3) + x4) fun x_12 =>
        fM_losers_b69 N (fM_losers_b20 N k7 n) σ x_12 x_11 x3 x4)
      else (
        fM_losers_b69 N (fM_losers_b20 N k7 n) σ x1 x2 x3 x4))
def fM_losers_b7 (N : Nat) : Nat → mS → Int32 → Int32 → Int32 → Option (mS × Int32)
  | 0, _, _, _, _ => none
  | n + 1, σ, x1, x2, x3 =>
    nmv (σ.1 0) fun x_1 =>
    if x_1 ≤ x3 then (
      some (σ, x1))
    else (
      nmv (x3 + 1) fun x_3 =>
      fM_losers_b20 N (fM_losers_b7 N n) N σ x1 x2 x3 x_3)
def fM_losers (N : Nat) (σ : mS) : Option (mS × Int32) :=
  fM_losers_b7 N N σ (-2) 0 0
theorem bM_losers_69 {N : Nat} (C0 : mCx p s m args meth c cX2_losers 5 (some .int) L A) (hRo : 0 ≤ R.frames ∧ 0 ≤ R.locals) {σ' : mS} {r : Int32} {k20 : mS → Int32 → Int32 → Int32 → Int32 → Option (mS × Int32)} (hk20 : ∀ (σ : mS) (x1 : Int32) (x2 : Int32) (x3 : Int32) (x4 : Int32) (H : Heap) (locs : List Loc) (ls : Array Slot), mG A L s σ H locs → lv_has ls 5 [(0, .ref L.1), (1, .int x1), (2, .int x2), (3, .int x3), (4, .int x4)] → k20 σ x1 x2 x3 x4 = some (σ', r) → W p l e R s m args below meth c H locs 0 0 (mZ below L A s args σ' (some (.int r))) (F0 m 20 ls [])) (σ : mS) (x1 : Int32) (x2 : Int32) (x3 : Int32) (x4 : Int32) (H : Heap) (locs : List Loc) (ls : Array Slot) (hG : mG A L s σ H locs) (hl : lv_has ls 5 [(0, .ref L.1), (1, .int x1), (2, .int x2), (3, .int x3), (4, .int x4)]) (hF : fM_losers_b69 N k20 σ x1 x2 x3 x4 = some (σ', r)) : W p l e R s m args below meth c H locs 0 0 (mZ below L A s args σ' (some (.int r))) (F0 m 69 ls []) := by
  have hx := C0.1
  have hb := C0.2.1
  unfold fM_losers_b69 at hF
  refine w_iinc hx hb dX2_losers_69 hl 4 rfl (v := 1) (by decide) (by decide) hF (fun x_13 ls hl hF => ?_)
  have hl : lv_has ls 5 [(4, .int x_13), (0, .ref L.1), (1, .int x1), (2, .int x2), (3, .int x3)] := hl
  refine lv_goto (tgt := 20) hx hb dX2_losers_72 (by decide) ?_
  exact hk20 _ _ _ _ _ H locs ls hG (lv_sub hl [1, 2, 3, 4, 0] rfl) hF
theorem bM_losers_20 {N : Nat} (C0 : mCx p s m args meth c cX2_losers 5 (some .int) L A) (hRo : 0 ≤ R.frames ∧ 0 ≤ R.locals) {σ' : mS} {r : Int32} {k7 : mS → Int32 → Int32 → Int32 → Option (mS × Int32)} (hk7 : ∀ (σ : mS) (x1 : Int32) (x2 : Int32) (x3 : Int32) (H : Heap) (locs : List Loc) (ls : Array Slot), mG A L s σ H locs → lv_has ls 5 [(0, .ref L.1), (1, .int x1), (2, .int x2), (3, .int x3)] → k7 σ x1 x2 x3 = some (σ', r) → W p l e R s m args below meth c H locs 0 0 (mZ below L A s args σ' (some (.int r))) (F0 m 7 ls [])) : ∀ (n : Nat) (σ : mS) (x1 : Int32) (x2 : Int32) (x3 : Int32) (x4 : Int32) (H : Heap) (locs : List Loc) (ls : Array Slot), mG A L s σ H locs → lv_has ls 5 [(0, .ref L.1), (1, .int x1), (2, .int x2), (3, .int x3), (4, .int x4)] → fM_losers_b20 N k7 n σ x1 x2 x3 x4 = some (σ', r) → W p l e R s m args below meth c H locs 0 0 (mZ below L A s args σ' (some (.int r))) (F0 m 20 ls []) := by
  have hx := C0.1
  have hb := C0.2.1
  intro n
  induction n with
  | zero => intro σ x1 x2 x3 x4 H locs ls hG hl hF; cases hF
  | succ n ih =>
    intro σ x1 x2 x3 x4 H locs ls hG hl hF
    unfold fM_losers_b20 at hF
    refine lv_iload hx hb dX2_losers_20 (lv_at hl 4 rfl) ?_
    refine lv_aload_n hx hb dX2_losers_22 rfl (lv_at hl 0 rfl) ?_
    refine m_geti C0 hG 0 (by decide) rfl q1578 dX2_losers_23 hF (fun x_4 hF => ?_)
    refine lv_icmp_ge (tgt := 75) hx hb dX2_losers_26 (by decide) (fun c_5 => ?_) (fun c_5 => ?_)
    · have hF := ifp hF c_5
      refine w_iinc hx hb dX2_losers_75 hl 3 rfl (v := 1) (by decide) (by decide) hF (fun x_6 ls hl hF => ?_)
      have hl : lv_has ls 5 [(3, .int x_6), (0, .ref L.1), (1, .int x1), (2, .int x2), (4, .int x4)] := hl
      refine lv_goto (tgt := 7) hx hb dX2_losers_78 (by decide) ?_
      exact hk7 _ _ _ _ H locs ls hG (lv_sub hl [1, 2, 3, 0] rfl) hF
    · have hF := ifn hF c_5
      refine lv_aload_n hx hb dX2_losers_29 rfl (lv_at hl 0 rfl) ?_
      refine m_geta C0 hG 47 (by decide) rfl q1625 dX2_losers_30 ?_
      refine lv_bipush (v := 10) hx hb dX2_losers_33 (by decide) ?_
      refine lv_iload_n hx hb dX2_losers_35 rfl (lv_at hl 3 rfl) ?_
      refine lv_imul hx hb dX2_losers_36 ?_
      refine lv_iload hx hb dX2_losers_37 (lv_at hl 4 rfl) ?_
      refine lv_iadd hx hb dX2_losers_39 ?_
      refine w_nm hF (fun x_7 hF => ?_)
      refine m_ld C0 hG 47 ⟨by decide, rfl, by decide⟩ dX2_losers_40 hF (fun x_8 hF => ?_)
      refine lv_iload_n hx hb dX2_losers_41 rfl (lv_at hl 2 rfl) ?_
      refine lv_icmp_gt (tgt := 48) hx hb dX2_losers_42 (by decide) (fun c_9 => ?_) (fun c_9 => ?_)
      · have hF := ifp hF c_9
        refine lv_aload_n hx hb dX2_losers_48 rfl (lv_at hl 0 rfl) ?_
        refine m_geta C0 hG 47 (by decide) rfl q1625 dX2_losers_49 ?_
        refine lv_bipush (v := 10) hx hb dX2_losers_52 (by decide) ?_
        refine lv_iload_n hx hb dX2_losers_54 rfl (lv_at hl 3 rfl) ?_
        refine lv_imul hx hb dX2_losers_55 ?_
        refine lv_iload hx hb dX2_losers_56 (lv_at hl 4 rfl) ?_
        refine lv_iadd hx hb dX2_losers_58 ?_
        refine w_nm hF (fun x_10 hF => ?_)
        refine m_ld C0 hG 47 ⟨by decide, rfl, by decide⟩ dX2_losers_59 hF (fun x_11 hF => ?_)
        refine lv_istore_n (lv' := [(2, .int x_11), (0, .ref L.1), (1, .int x1), (3, .int x3), (4, .int x4)]) hx hb dX2_losers_60 rfl hl (by decide) rfl (fun ls hl => ?_)
        refine lv_bipush (v := 10) hx hb dX2_losers_61 (by decide) ?_
        refine lv_iload_n hx hb dX2_losers_63 rfl (lv_at hl 3 rfl) ?_
        refine lv_imul hx hb dX2_losers_64 ?_
        refine lv_iload hx hb dX2_losers_65 (lv_at hl 4 rfl) ?_
        refine lv_iadd hx hb dX2_losers_67 ?_
        refine w_nm hF (fun x_12 hF => ?_)
        refine lv_istore_n (lv' := [(1, .int x_12), (2, .int x_11), (0, .ref L.1), (3, .int x3), (4, .int x4)]) hx hb dX2_losers_68 rfl hl (by decide) rfl (fun ls hl => ?_)
        exact bM_losers_69 C0 hRo ih _ _ _ _ _ H locs ls hG (lv_sub hl [2, 0, 1, 3, 4] rfl) hF
      · have hF := ifn hF c_9
        refine lv_goto (tgt := 69) hx hb dX2_losers_45 (by decide) ?_
        exact bM_losers_69 C0 hRo ih _ _ _ _ _ H locs ls hG (lv_sub hl [0, 1, 2, 3, 4] rfl) hF
theorem bM_losers_7 {N : Nat} (C0 : mCx p s m args meth c cX2_losers 5 (some .int) L A) (hRo : 0 ≤ R.frames ∧ 0 ≤ R.locals) {σ' : mS} {r : Int32} : ∀ (n : Nat) (σ : mS) (x1 : Int32) (x2 : Int32) (x3 : Int32) (H : Heap) (locs : List Loc) (ls : Array Slot), mG A L s σ H locs → lv_has ls 5 [(0, .ref L.1), (1, .int x1), (2, .int x2), (3, .int x3)] → fM_losers_b7 N n σ x1 x2 x3 = some (σ', r) → W p l e R s m args below meth c H locs 0 0 (mZ below L A s args σ' (some (.int r))) (F0 m 7 ls []) := by
  have hx := C0.1
  have hb := C0.2.1
  intro n
  induction n with
  | zero => intro σ x1 x2 x3 H locs ls hG hl hF; cases hF
  | succ n ih =>
    intro σ x1 x2 x3 H locs ls hG hl hF
    unfold fM_losers_b7 at hF
    refine lv_iload_n hx hb dX2_losers_7 rfl (lv_at hl 3 rfl) ?_
    refine lv_aload_n hx hb dX2_losers_8 rfl (lv_at hl 0 rfl) ?_
    refine m_geti C0 hG 0 (by decide) rfl q1578 dX2_losers_9 hF (fun x_1 hF => ?_)
    refine lv_icmp_ge (tgt := 81) hx hb dX2_losers_12 (by decide) (fun c_2 => ?_) (fun c_2 => ?_)
    · have hF := ifp hF c_2
      refine lv_iload_n hx hb dX2_losers_81 rfl (lv_at hl 1 rfl) ?_
      exact m_iret C0 hG dX2_losers_82 hF
    · have hF := ifn hF c_2
      refine lv_iload_n hx hb dX2_losers_15 rfl (lv_at hl 3 rfl) ?_
      refine lv_iconst (v := 1) hx hb dX2_losers_16 (by decide) ?_
      refine lv_iadd hx hb dX2_losers_17 ?_
      refine w_nm hF (fun x_3 hF => ?_)
      refine lv_istore (lv' := [(4, .int x_3), (0, .ref L.1), (1, .int x1), (2, .int x2), (3, .int x3)]) hx hb dX2_losers_18 hl (by decide) rfl (fun ls hl => ?_)
      exact bM_losers_20 C0 hRo ih N _ _ _ _ _ H locs ls hG (lv_sub hl [1, 2, 3, 4, 0] rfl) hF
theorem bM_losers_e {N : Nat} (C0 : mCx p s m args meth c cX2_losers 5 (some .int) L A) (hRo : 0 ≤ R.frames ∧ 0 ≤ R.locals) {σ' : mS} {r : Int32} (σ : mS) (H : Heap) (locs : List Loc) (ls : Array Slot) (hG : mG A L s σ H locs) (hl : lv_has ls 5 [(0, .ref L.1)]) (hF : fM_losers N σ = some (σ', r)) : W p l e R s m args below meth c H locs 0 0 (mZ below L A s args σ' (some (.int r))) (F0 m 0 ls []) := by
  have hx := C0.1
  have hb := C0.2.1
  unfold fM_losers at hF
  refine lv_bipush (v := (-2)) hx hb dX2_losers_0 (by decide) ?_
  refine lv_istore_n (lv' := [(1, .int (-2)), (0, .ref L.1)]) hx hb dX2_losers_2 rfl hl (by decide) rfl (fun ls hl => ?_)
  refine lv_iconst (v := 0) hx hb dX2_losers_3 (by decide) ?_
  refine lv_istore_n (lv' := [(2, .int 0), (1, .int (-2)), (0, .ref L.1)]) hx hb dX2_losers_4 rfl hl (by decide) rfl (fun ls hl => ?_)
  refine lv_iconst (v := 0) hx hb dX2_losers_5 (by decide) ?_
  refine lv_istore_n (lv' := [(3, .int 0), (2, .int 0), (1, .int (-2)), (0, .ref L.1)]) hx hb dX2_losers_6 rfl hl (by decide) rfl (fun ls hl => ?_)
  exact bM_losers_7 C0 hRo N _ _ _ _ H locs ls hG (lv_sub hl [3, 2, 1, 0] rfl) hF
theorem mtM_losers (l : Launch) {N : Nat} {L : mL} {σ σ' : mS} {r : Int32} (hF : fM_losers N σ = some (σ', r)) : mMet l yX2_losers cX2_losers 5 (some .int) (0) (0) [.ref L.1] L σ (some (.int r)) σ' := by
  refine m_head (by decide) rfl ?_
  intro p e s m below meth c A C0 hG
  have hl := lv_entry ([.ref L.1]) (n := 5) (Nat.le_of_ble_eq_true rfl)
  rw [lg_entry_eq]
  generalize (lg_sl ([.ref L.1]) ++ List.replicate (5 - (lg_sl ([.ref L.1])).length) Slot.unset).toArray = ls at hl ⊢
  have hl : lv_has ls 5 [(0, .ref L.1)] := hl
  exact bM_losers_e C0 ⟨Nat.le_refl _, Nat.le_refl _⟩ _ _ [] ls hG hl hF
def fM_routine (N : Nat) (σ : mS) (a0 : Int32) (a1 : Int32) : Option (mS × Int32) :=
  obi (fM_isShelf N σ a0) fun σ_1 r_2 =>
  if r_2 = 0 then (
    some (σ_1, (-1)))
  else (
    obi (fM_within N σ_1 a1 0 3) fun σ_5 r_6 =>
    if r_6 = 0 then (
      some (σ_5, (-1)))
    else (
      obi (fM_noRow N σ_5 a0 0) fun σ_9 r_10 =>
      if 0 ≤ r_10 then (
        obi (fM_reads N σ_9 a0) fun σ_13 r_14 =>
        obi (fM_marksNow N σ_13) fun σ_16 r_17 =>
        if a1 = 0 then (
          nmv (σ_16.1 44) fun x_28 =>
          some (σ_16, x_28))
        else (
          if a1 = 1 then (
            some (σ_16, r_17))
          else (
            if a1 = 2 then (
              obi (fM_firstApart N σ_16) fun σ_25 r_26 =>
              some (σ_25, r_26))
            else (
              obi (fM_losers N σ_16) fun σ_22 r_23 =>
              some (σ_22, r_23)))))
      else (
        some (σ_9, r_10))))
theorem bM_routine_e {N : Nat} (C0 : mCx p s m args meth c cX2_routine 5 (some .int) L A) (hRo : 5 ≤ R.frames ∧ 117 ≤ R.locals) {σ' : mS} {r : Int32} (σ : mS) (a0 : Int32) (a1 : Int32) (H : Heap) (locs : List Loc) (ls : Array Slot) (hG : mG A L s σ H locs) (hl : lv_has ls 5 [(0, .ref L.1), (1, .int a0), (2, .int a1)]) (hF : fM_routine N σ a0 a1 = some (σ', r)) : W p l e R s m args below meth c H locs 0 0 (mZ below L A s args σ' (some (.int r))) (F0 m 0 ls []) := by
  have hx := C0.1
  have hb := C0.2.1
  unfold fM_routine at hF
  refine lv_iload_n hx hb dX2_routine_0 rfl (lv_at hl 1 rfl) ?_
  obtain ⟨σ_1, r_2, e_3, hF⟩ := obi_of hF
  refine m_cSi (As := [.int a0]) (rest := []) C0 hG (mtM_isShelf l e_3) (lw_S q1762 q1763 q102 q1764) yd_X2_isShelf ⟨by omega, by omega⟩ rfl rfl hl.1 (Nat.le_of_ble_eq_true rfl) dX2_routine_1 (fun H locs hG => ?_)
  refine lv_if_eq (tgt := 16) hx hb dX2_routine_4 (by decide) (fun c_4 => ?_) (fun c_4 => ?_)
  · have hF := ifp hF c_4
    refine lv_iconst (v := (-1)) hx hb dX2_routine_16 (by decide) ?_
    exact m_iret C0 hG dX2_routine_17 hF
  · have hF := ifn hF c_4
    refine lv_iload_n hx hb dX2_routine_7 rfl (lv_at hl 2 rfl) ?_
    refine lv_iconst (v := 0) hx hb dX2_routine_8 (by decide) ?_
    refine lv_iconst (v := 3) hx hb dX2_routine_9 (by decide) ?_
    obtain ⟨σ_5, r_6, e_7, hF⟩ := obi_of hF
    refine m_cSi (As := [.int a1, .int 0, .int 3]) (rest := []) C0 hG (mtM_within l e_7) (lw_S q1751 q1752 q102 q1753) yd_X2_within ⟨by omega, by omega⟩ rfl rfl hl.1 (Nat.le_of_ble_eq_true rfl) dX2_routine_10 (fun H locs hG => ?_)
    refine lv_if_ne (tgt := 18) hx hb dX2_routine_13 (by decide) (fun c_8 => ?_) (fun c_8 => ?_)
    · have hF := ifn hF c_8
      refine lv_aload_n hx hb dX2_routine_18 rfl (lv_at hl 0 rfl) ?_
      refine lv_iload_n hx hb dX2_routine_19 rfl (lv_at hl 1 rfl) ?_
      refine lv_iconst (v := 0) hx hb dX2_routine_20 (by decide) ?_
      obtain ⟨σ_9, r_10, e_11, hF⟩ := obi_of hF
      refine m_cVi (As := [.int a0, .int 0]) (rest := []) C0 hG (mtM_noRow l e_11) (lw_V q1883 q1885 qs71 q102 q1886) yd_X2_noRow ⟨by omega, by omega⟩ rfl rfl hl.1 (Nat.le_of_ble_eq_true rfl) dX2_routine_21 (fun H locs hG => ?_)
      refine lv_istore_n (lv' := [(3, .int r_10), (0, .ref L.1), (1, .int a0), (2, .int a1)]) hx hb dX2_routine_24 rfl hl (by decide) rfl (fun ls hl => ?_)
      refine lv_iload_n hx hb dX2_routine_25 rfl (lv_at hl 0 rfl) ?_
      refine lv_if_ge (tgt := 31) hx hb dX2_routine_26 (by decide) (fun c_12 => ?_) (fun c_12 => ?_)
      · have hF := ifp hF c_12
        refine lv_aload_n hx hb dX2_routine_31 rfl (lv_at hl 1 rfl) ?_
        refine lv_iload_n hx hb dX2_routine_32 rfl (lv_at hl 2 rfl) ?_
        obtain ⟨σ_13, r_14, e_15, hF⟩ := obi_of hF
        refine m_cVv (As := [.int a0]) (rest := []) C0 hG (mtM_reads l e_15) (lw_V q1887 q1889 qs72 q102 q1890) yd_X2_reads ⟨by omega, by omega⟩ rfl rfl hl.1 (Nat.le_of_ble_eq_true rfl) dX2_routine_33 (fun H locs hG => ?_)
        refine lv_aload_n hx hb dX2_routine_36 rfl (lv_at hl 1 rfl) ?_
        obtain ⟨σ_16, r_17, e_18, hF⟩ := obi_of hF
        refine m_cVi (As := []) (rest := []) C0 hG (mtM_marksNow l e_18) (lw_V q1891 q1893 qs73 q102 q1894) yd_X2_marksNow ⟨by omega, by omega⟩ rfl rfl hl.1 (Nat.le_of_ble_eq_true rfl) dX2_routine_37 (fun H locs hG => ?_)
        refine lv_istore (lv' := [(4, .int r_17), (3, .int r_10), (0, .ref L.1), (1, .int a0), (2, .int a1)]) hx hb dX2_routine_40 hl (by decide) rfl (fun ls hl => ?_)
        refine lv_iload_n hx hb dX2_routine_42 rfl (lv_at hl 4 rfl) ?_
        refine lv_if_ne (tgt := 53) hx hb dX2_routine_43 (by decide) (fun c_19 => ?_) (fun c_19 => ?_)
        · have hF := ifn hF c_19
          refine lv_iload_n hx hb dX2_routine_53 rfl (lv_at hl 4 rfl) ?_
          refine lv_iconst (v := 1) hx hb dX2_routine_54 (by decide) ?_
          refine lv_icmp_ne (tgt := 63) hx hb dX2_routine_55 (by decide) (fun c_20 => ?_) (fun c_20 => ?_)
          · have hF := ifn hF c_20
            refine lv_iload_n hx hb dX2_routine_63 rfl (lv_at hl 4 rfl) ?_
            refine lv_iconst (v := 2) hx hb dX2_routine_64 (by decide) ?_
            refine lv_icmp_ne (tgt := 75) hx hb dX2_routine_65 (by decide) (fun c_21 => ?_) (fun c_21 => ?_)
            · have hF := ifn hF c_21
              refine lv_aload_n hx hb dX2_routine_75 rfl (lv_at hl 2 rfl) ?_
              obtain ⟨σ_22, r_23, e_24, hF⟩ := obi_of hF
              refine m_cVi (As := []) (rest := []) C0 hG (mtM_losers l e_24) (lw_V q1924 q1926 qs81 q102 q1927) yd_X2_losers ⟨by omega, by omega⟩ rfl rfl hl.1 (Nat.le_of_ble_eq_true rfl) dX2_routine_76 (fun H locs hG => ?_)
              exact m_iret C0 hG dX2_routine_79 hF
            · have hF := ifp hF c_21
              refine lv_aload_n hx hb dX2_routine_68 rfl (lv_at hl 2 rfl) ?_
              obtain ⟨σ_25, r_26, e_27, hF⟩ := obi_of hF
              refine m_cVi (As := []) (rest := []) C0 hG (mtM_firstApart l e_27) (lw_V q1912 q1914 qs78 q102 q1915) yd_X2_firstApart ⟨by omega, by omega⟩ rfl rfl hl.1 (Nat.le_of_ble_eq_true rfl) dX2_routine_69 (fun H locs hG => ?_)
              refine lv_goto (tgt := 79) hx hb dX2_routine_72 (by decide) ?_
              exact m_iret C0 hG dX2_routine_79 hF
          · have hF := ifp hF c_20
            refine lv_iload hx hb dX2_routine_58 (lv_at hl 0 rfl) ?_
            refine lv_goto (tgt := 79) hx hb dX2_routine_60 (by decide) ?_
            exact m_iret C0 hG dX2_routine_79 hF
        · have hF := ifp hF c_19
          refine lv_aload_n hx hb dX2_routine_46 rfl (lv_at hl 2 rfl) ?_
          refine m_geti C0 hG 44 (by decide) rfl q1622 dX2_routine_47 hF (fun x_28 hF => ?_)
          refine lv_goto (tgt := 79) hx hb dX2_routine_50 (by decide) ?_
          exact m_iret C0 hG dX2_routine_79 hF
      · have hF := ifn hF c_12
        refine lv_iload_n hx hb dX2_routine_29 rfl (lv_at hl 0 rfl) ?_
        exact m_iret C0 hG dX2_routine_30 hF
    · have hF := ifp hF c_8
      refine lv_iconst (v := (-1)) hx hb dX2_routine_16 (by decide) ?_
      exact m_iret C0 hG dX2_routine_17 hF
theorem mtM_routine (l : Launch) {N : Nat} {L : mL} {σ σ' : mS} {r : Int32} {a0 : Int32} {a1 : Int32} (hF : fM_routine N σ a0 a1 = some (σ', r)) : mMet l yX2_routine cX2_routine 5 (some .int) (5) (117) [.ref L.1, .int a0, .int a1] L σ (some (.int r)) σ' := by
  refine m_head (by decide) rfl ?_
  intro p e s m below meth c A C0 hG
  have hl := lv_entry ([.ref L.1, .int a0, .int a1]) (n := 5) (Nat.le_of_ble_eq_true rfl)
  rw [lg_entry_eq]
  generalize (lg_sl ([.ref L.1, .int a0, .int a1]) ++ List.replicate (5 - (lg_sl ([.ref L.1, .int a0, .int a1])).length) Slot.unset).toArray = ls at hl ⊢
  have hl : lv_has ls 5 [(0, .ref L.1), (1, .int a0), (2, .int a1)] := hl
  exact bM_routine_e C0 ⟨Nat.le_refl _, Nat.le_refl _⟩ _ _ _ _ [] ls hG hl hF
def fM_off (N : Nat) (σ : mS) (a0 : Int32) (a1 : Int32) (a2 : Int32) : Option (mS × Int32) :=
  obi (fM_isShelf N σ a0) fun σ_1 r_2 =>
  if r_2 = 0 then (
    some (σ_1, (-2000000000)))
  else (
    obi (fM_within N σ_1 a1 0 60) fun σ_5 r_6 =>
    if r_6 = 0 then (
      some (σ_5, (-2000000000)))
    else (
      obi (fM_isOne N σ_5 a2) fun σ_9 r_10 =>
      if r_10 = 0 then (
        some (σ_9, (-2000000000)))
      else (
        obi (fM_noRow N σ_9 a0 0) fun σ_13 r_14 =>
        if 0 ≤ r_14 then (
          obi (fM_reads N σ_13 a0) fun σ_17 r_18 =>
          obi (fM_drifts N σ_17 0) fun σ_20 r_21 =>
          nmv (σ_20.1 44) fun x_23 =>
          nmv (if x_23 < a1 then x_23 else a1) fun x_24 =>
          obi (fM_offOf N σ_20 a2 x_24) fun σ_25 r_26 =>
          some (σ_25, r_26))
        else (
          some (σ_13, (-2000000000))))))
theorem bM_off_e {N : Nat} (C0 : mCx p s m args meth c cX2_off 4 (some .int) L A) (hRo : 3 ≤ R.frames ∧ 67 ≤ R.locals) {σ' : mS} {r : Int32} (σ : mS) (a0 : Int32) (a1 : Int32) (a2 : Int32) (H : Heap) (locs : List Loc) (ls : Array Slot) (hG : mG A L s σ H locs) (hl : lv_has ls 4 [(0, .ref L.1), (1, .int a0), (2, .int a1), (3, .int a2)]) (hF : fM_off N σ a0 a1 a2 = some (σ', r)) : W p l e R s m args below meth c H locs 0 0 (mZ below L A s args σ' (some (.int r))) (F0 m 0 ls []) := by
  have hx := C0.1
  have hb := C0.2.1
  unfold fM_off at hF
  refine lv_iload_n hx hb dX2_off_0 rfl (lv_at hl 1 rfl) ?_
  obtain ⟨σ_1, r_2, e_3, hF⟩ := obi_of hF
  refine m_cSi (As := [.int a0]) (rest := []) C0 hG (mtM_isShelf l e_3) (lw_S q1762 q1763 q102 q1764) yd_X2_isShelf ⟨by omega, by omega⟩ rfl rfl hl.1 (Nat.le_of_ble_eq_true rfl) dX2_off_1 (fun H locs hG => ?_)
  refine lv_if_eq (tgt := 34) hx hb dX2_off_4 (by decide) (fun c_4 => ?_) (fun c_4 => ?_)
  · have hF := ifp hF c_4
    refine lv_ldc (v := (-2000000000)) hx hb C0.2.2.2.1 (C0.2.2.2.2.1 _ q1781) dX2_off_34 ?_
    exact m_iret C0 hG dX2_off_36 hF
  · have hF := ifn hF c_4
    refine lv_iload_n hx hb dX2_off_7 rfl (lv_at hl 2 rfl) ?_
    refine lv_iconst (v := 0) hx hb dX2_off_8 (by decide) ?_
    refine lv_bipush (v := 60) hx hb dX2_off_9 (by decide) ?_
    obtain ⟨σ_5, r_6, e_7, hF⟩ := obi_of hF
    refine m_cSi (As := [.int a1, .int 0, .int 60]) (rest := []) C0 hG (mtM_within l e_7) (lw_S q1751 q1752 q102 q1753) yd_X2_within ⟨by omega, by omega⟩ rfl rfl hl.1 (Nat.le_of_ble_eq_true rfl) dX2_off_11 (fun H locs hG => ?_)
    refine lv_if_eq (tgt := 34) hx hb dX2_off_14 (by decide) (fun c_8 => ?_) (fun c_8 => ?_)
    · have hF := ifp hF c_8
      refine lv_ldc (v := (-2000000000)) hx hb C0.2.2.2.1 (C0.2.2.2.2.1 _ q1781) dX2_off_34 ?_
      exact m_iret C0 hG dX2_off_36 hF
    · have hF := ifn hF c_8
      refine lv_aload_n hx hb dX2_off_17 rfl (lv_at hl 0 rfl) ?_
      refine lv_iload_n hx hb dX2_off_18 rfl (lv_at hl 3 rfl) ?_
      obtain ⟨σ_9, r_10, e_11, hF⟩ := obi_of hF
      refine m_cVi (As := [.int a2]) (rest := []) C0 hG (mtM_isOne l e_11) (lw_V q1774 q1776 qs54 q102 q1777) yd_X2_isOne ⟨by omega, by omega⟩ rfl rfl hl.1 (Nat.le_of_ble_eq_true rfl) dX2_off_19 (fun H locs hG => ?_)
      refine lv_if_eq (tgt := 34) hx hb dX2_off_22 (by decide) (fun c_12 => ?_) (fun c_12 => ?_)
      · have hF := ifp hF c_12
        refine lv_ldc (v := (-2000000000)) hx hb C0.2.2.2.1 (C0.2.2.2.2.1 _ q1781) dX2_off_34 ?_
        exact m_iret C0 hG dX2_off_36 hF
      · have hF := ifn hF c_12
        refine lv_aload_n hx hb dX2_off_25 rfl (lv_at hl 0 rfl) ?_
        refine lv_iload_n hx hb dX2_off_26 rfl (lv_at hl 1 rfl) ?_
        refine lv_iconst (v := 0) hx hb dX2_off_27 (by decide) ?_
        obtain ⟨σ_13, r_14, e_15, hF⟩ := obi_of hF
        refine m_cVi (As := [.int a0, .int 0]) (rest := []) C0 hG (mtM_noRow l e_15) (lw_V q1883 q1885 qs71 q102 q1886) yd_X2_noRow ⟨by omega, by omega⟩ rfl rfl hl.1 (Nat.le_of_ble_eq_true rfl) dX2_off_28 (fun H locs hG => ?_)
        refine lv_if_ge (tgt := 37) hx hb dX2_off_31 (by decide) (fun c_16 => ?_) (fun c_16 => ?_)
        · have hF := ifp hF c_16
          refine lv_aload_n hx hb dX2_off_37 rfl (lv_at hl 0 rfl) ?_
          refine lv_iload_n hx hb dX2_off_38 rfl (lv_at hl 1 rfl) ?_
          obtain ⟨σ_17, r_18, e_19, hF⟩ := obi_of hF
          refine m_cVv (As := [.int a0]) (rest := []) C0 hG (mtM_reads l e_19) (lw_V q1887 q1889 qs72 q102 q1890) yd_X2_reads ⟨by omega, by omega⟩ rfl rfl hl.1 (Nat.le_of_ble_eq_true rfl) dX2_off_39 (fun H locs hG => ?_)
          refine lv_aload_n hx hb dX2_off_42 rfl (lv_at hl 0 rfl) ?_
          refine lv_iconst (v := 0) hx hb dX2_off_43 (by decide) ?_
          obtain ⟨σ_20, r_21, e_22, hF⟩ := obi_of hF
          refine m_cVv (As := [.int 0]) (rest := []) C0 hG (mtM_drifts l e_22) (lw_V q1895 q1897 qs74 q102 q1898) yd_X2_drifts ⟨by omega, by omega⟩ rfl rfl hl.1 (Nat.le_of_ble_eq_true rfl) dX2_off_44 (fun H locs hG => ?_)
          refine lv_aload_n hx hb dX2_off_47 rfl (lv_at hl 0 rfl) ?_
          refine lv_iload_n hx hb dX2_off_48 rfl (lv_at hl 3 rfl) ?_
          refine lv_iload_n hx hb dX2_off_49 rfl (lv_at hl 2 rfl) ?_
          refine lv_aload_n hx hb dX2_off_50 rfl (lv_at hl 0 rfl) ?_
          refine m_geti C0 hG 44 (by decide) rfl q1622 dX2_off_51 hF (fun x_23 hF => ?_)
          refine m_min C0 hl.1 q1869 q679 q116 q680 ⟨by omega, by omega⟩ (Nat.le_of_ble_eq_true rfl) dX2_off_54 hF (fun x_24 hF => ?_)
          obtain ⟨σ_25, r_26, e_27, hF⟩ := obi_of hF
          refine m_cVi (As := [.int a2, .int x_24]) (rest := []) C0 hG (mtM_offOf l e_27) (lw_V q1908 q1910 qs77 q102 q1911) yd_X2_offOf ⟨by omega, by omega⟩ rfl rfl hl.1 (Nat.le_of_ble_eq_true rfl) dX2_off_57 (fun H locs hG => ?_)
          exact m_iret C0 hG dX2_off_60 hF
        · have hF := ifn hF c_16
          refine lv_ldc (v := (-2000000000)) hx hb C0.2.2.2.1 (C0.2.2.2.2.1 _ q1781) dX2_off_34 ?_
          exact m_iret C0 hG dX2_off_36 hF
theorem mtM_off (l : Launch) {N : Nat} {L : mL} {σ σ' : mS} {r : Int32} {a0 : Int32} {a1 : Int32} {a2 : Int32} (hF : fM_off N σ a0 a1 a2 = some (σ', r)) : mMet l yX2_off cX2_off 4 (some .int) (3) (67) [.ref L.1, .int a0, .int a1, .int a2] L σ (some (.int r)) σ' := by
  refine m_head (by decide) rfl ?_
  intro p e s m below meth c A C0 hG
  have hl := lv_entry ([.ref L.1, .int a0, .int a1, .int a2]) (n := 4) (Nat.le_of_ble_eq_true rfl)
  rw [lg_entry_eq]
  generalize (lg_sl ([.ref L.1, .int a0, .int a1, .int a2]) ++ List.replicate (4 - (lg_sl ([.ref L.1, .int a0, .int a1, .int a2])).length) Slot.unset).toArray = ls at hl ⊢
  have hl : lv_has ls 4 [(0, .ref L.1), (1, .int a0), (2, .int a1), (3, .int a2)] := hl
  exact bM_off_e C0 ⟨Nat.le_refl _, Nat.le_refl _⟩ _ _ _ _ _ [] ls hG hl hF
def fM_apart (N : Nat) (σ : mS) (a0 : Int32) (a1 : Int32) (a2 : Int32) : Option (mS × Int32) :=
  obi (fM_isShelf N σ a0) fun σ_1 r_2 =>
  if r_2 = 0 then (
    some (σ_1, (-1)))
  else (
    obi (fM_within N σ_1 a1 0 60) fun σ_5 r_6 =>
    if r_6 = 0 then (
      some (σ_5, (-1)))
    else (
      obi (fM_within N σ_5 a2 0 1) fun σ_9 r_10 =>
      if r_10 = 0 then (
        some (σ_9, (-1)))
      else (
        obi (fM_noRow N σ_9 a0 0) fun σ_13 r_14 =>
        if 0 ≤ r_14 then (
          obi (fM_reads N σ_13 a0) fun σ_17 r_18 =>
          obi (fM_drifts N σ_17 0) fun σ_20 r_21 =>
          if a2 = 0 then (
            nmv (σ_20.1 44) fun x_29 =>
            nmv (if x_29 < a1 then x_29 else a1) fun x_30 =>
            obi (fM_greatest N σ_20 x_30) fun σ_31 r_32 =>
            some (σ_31, r_32))
          else (
            nmv (σ_20.1 44) fun x_24 =>
            nmv (if x_24 < a1 then x_24 else a1) fun x_25 =>
            obi (fM_farthest N σ_20 x_25) fun σ_26 r_27 =>
            some (σ_26, r_27)))
        else (
          some (σ_13, r_14)))))
theorem bM_apart_e {N : Nat} (C0 : mCx p s m args meth c cX2_apart 5 (some .int) L A) (hRo : 4 ≤ R.frames ∧ 92 ≤ R.locals) {σ' : mS} {r : Int32} (σ : mS) (a0 : Int32) (a1 : Int32) (a2 : Int32) (H : Heap) (locs : List Loc) (ls : Array Slot) (hG : mG A L s σ H locs) (hl : lv_has ls 5 [(0, .ref L.1), (1, .int a0), (2, .int a1), (3, .int a2)]) (hF : fM_apart N σ a0 a1 a2 = some (σ', r)) : W p l e R s m args below meth c H locs 0 0 (mZ below L A s args σ' (some (.int r))) (F0 m 0 ls []) := by
  have hx := C0.1
  have hb := C0.2.1
  unfold fM_apart at hF
  refine lv_iload_n hx hb dX2_apart_0 rfl (lv_at hl 1 rfl) ?_
  obtain ⟨σ_1, r_2, e_3, hF⟩ := obi_of hF
  refine m_cSi (As := [.int a0]) (rest := []) C0 hG (mtM_isShelf l e_3) (lw_S q1762 q1763 q102 q1764) yd_X2_isShelf ⟨by omega, by omega⟩ rfl rfl hl.1 (Nat.le_of_ble_eq_true rfl) dX2_apart_1 (fun H locs hG => ?_)
  refine lv_if_eq (tgt := 26) hx hb dX2_apart_4 (by decide) (fun c_4 => ?_) (fun c_4 => ?_)
  · have hF := ifp hF c_4
    refine lv_iconst (v := (-1)) hx hb dX2_apart_26 (by decide) ?_
    exact m_iret C0 hG dX2_apart_27 hF
  · have hF := ifn hF c_4
    refine lv_iload_n hx hb dX2_apart_7 rfl (lv_at hl 2 rfl) ?_
    refine lv_iconst (v := 0) hx hb dX2_apart_8 (by decide) ?_
    refine lv_bipush (v := 60) hx hb dX2_apart_9 (by decide) ?_
    obtain ⟨σ_5, r_6, e_7, hF⟩ := obi_of hF
    refine m_cSi (As := [.int a1, .int 0, .int 60]) (rest := []) C0 hG (mtM_within l e_7) (lw_S q1751 q1752 q102 q1753) yd_X2_within ⟨by omega, by omega⟩ rfl rfl hl.1 (Nat.le_of_ble_eq_true rfl) dX2_apart_11 (fun H locs hG => ?_)
    refine lv_if_eq (tgt := 26) hx hb dX2_apart_14 (by decide) (fun c_8 => ?_) (fun c_8 => ?_)
    · have hF := ifp hF c_8
      refine lv_iconst (v := (-1)) hx hb dX2_apart_26 (by decide) ?_
      exact m_iret C0 hG dX2_apart_27 hF
    · have hF := ifn hF c_8
      refine lv_iload_n hx hb dX2_apart_17 rfl (lv_at hl 3 rfl) ?_
      refine lv_iconst (v := 0) hx hb dX2_apart_18 (by decide) ?_
      refine lv_iconst (v := 1) hx hb dX2_apart_19 (by decide) ?_
      obtain ⟨σ_9, r_10, e_11, hF⟩ := obi_of hF
      refine m_cSi (As := [.int a2, .int 0, .int 1]) (rest := []) C0 hG (mtM_within l e_11) (lw_S q1751 q1752 q102 q1753) yd_X2_within ⟨by omega, by omega⟩ rfl rfl hl.1 (Nat.le_of_ble_eq_true rfl) dX2_apart_20 (fun H locs hG => ?_)
      refine lv_if_ne (tgt := 28) hx hb dX2_apart_23 (by decide) (fun c_12 => ?_) (fun c_12 => ?_)
      · have hF := ifn hF c_12
        refine lv_aload_n hx hb dX2_apart_28 rfl (lv_at hl 0 rfl) ?_
        refine lv_iload_n hx hb dX2_apart_29 rfl (lv_at hl 1 rfl) ?_
        refine lv_iconst (v := 0) hx hb dX2_apart_30 (by decide) ?_
        obtain ⟨σ_13, r_14, e_15, hF⟩ := obi_of hF
        refine m_cVi (As := [.int a0, .int 0]) (rest := []) C0 hG (mtM_noRow l e_15) (lw_V q1883 q1885 qs71 q102 q1886) yd_X2_noRow ⟨by omega, by omega⟩ rfl rfl hl.1 (Nat.le_of_ble_eq_true rfl) dX2_apart_31 (fun H locs hG => ?_)
        refine lv_istore (lv' := [(4, .int r_14), (0, .ref L.1), (1, .int a0), (2, .int a1), (3, .int a2)]) hx hb dX2_apart_34 hl (by decide) rfl (fun ls hl => ?_)
        refine lv_iload hx hb dX2_apart_36 (lv_at hl 0 rfl) ?_
        refine lv_if_ge (tgt := 44) hx hb dX2_apart_38 (by decide) (fun c_16 => ?_) (fun c_16 => ?_)
        · have hF := ifp hF c_16
          refine lv_aload_n hx hb dX2_apart_44 rfl (lv_at hl 1 rfl) ?_
          refine lv_iload_n hx hb dX2_apart_45 rfl (lv_at hl 2 rfl) ?_
          obtain ⟨σ_17, r_18, e_19, hF⟩ := obi_of hF
          refine m_cVv (As := [.int a0]) (rest := []) C0 hG (mtM_reads l e_19) (lw_V q1887 q1889 qs72 q102 q1890) yd_X2_reads ⟨by omega, by omega⟩ rfl rfl hl.1 (Nat.le_of_ble_eq_true rfl) dX2_apart_46 (fun H locs hG => ?_)
          refine lv_aload_n hx hb dX2_apart_49 rfl (lv_at hl 1 rfl) ?_
          refine lv_iconst (v := 0) hx hb dX2_apart_50 (by decide) ?_
          obtain ⟨σ_20, r_21, e_22, hF⟩ := obi_of hF
          refine m_cVv (As := [.int 0]) (rest := []) C0 hG (mtM_drifts l e_22) (lw_V q1895 q1897 qs74 q102 q1898) yd_X2_drifts ⟨by omega, by omega⟩ rfl rfl hl.1 (Nat.le_of_ble_eq_true rfl) dX2_apart_51 (fun H locs hG => ?_)
          refine lv_iload_n hx hb dX2_apart_54 rfl (lv_at hl 4 rfl) ?_
          refine lv_if_ne (tgt := 73) hx hb dX2_apart_55 (by decide) (fun c_23 => ?_) (fun c_23 => ?_)
          · have hF := ifn hF c_23
            refine lv_aload_n hx hb dX2_apart_73 rfl (lv_at hl 1 rfl) ?_
            refine lv_iload_n hx hb dX2_apart_74 rfl (lv_at hl 3 rfl) ?_
            refine lv_aload_n hx hb dX2_apart_75 rfl (lv_at hl 1 rfl) ?_
            refine m_geti C0 hG 44 (by decide) rfl q1622 dX2_apart_76 hF (fun x_24 hF => ?_)
            refine m_min C0 hl.1 q1869 q679 q116 q680 ⟨by omega, by omega⟩ (Nat.le_of_ble_eq_true rfl) dX2_apart_79 hF (fun x_25 hF => ?_)
            obtain ⟨σ_26, r_27, e_28, hF⟩ := obi_of hF
            refine m_cVi (As := [.int x_25]) (rest := []) C0 hG (mtM_farthest l e_28) (lw_V q1920 q1922 qs80 q102 q1923) yd_X2_farthest ⟨by omega, by omega⟩ rfl rfl hl.1 (Nat.le_of_ble_eq_true rfl) dX2_apart_82 (fun H locs hG => ?_)
            exact m_iret C0 hG dX2_apart_85 hF
          · have hF := ifp hF c_23
            refine lv_aload_n hx hb dX2_apart_58 rfl (lv_at hl 1 rfl) ?_
            refine lv_iload_n hx hb dX2_apart_59 rfl (lv_at hl 3 rfl) ?_
            refine lv_aload_n hx hb dX2_apart_60 rfl (lv_at hl 1 rfl) ?_
            refine m_geti C0 hG 44 (by decide) rfl q1622 dX2_apart_61 hF (fun x_29 hF => ?_)
            refine m_min C0 hl.1 q1869 q679 q116 q680 ⟨by omega, by omega⟩ (Nat.le_of_ble_eq_true rfl) dX2_apart_64 hF (fun x_30 hF => ?_)
            obtain ⟨σ_31, r_32, e_33, hF⟩ := obi_of hF
            refine m_cVi (As := [.int x_30]) (rest := []) C0 hG (mtM_greatest l e_33) (lw_V q1916 q1918 qs79 q102 q1919) yd_X2_greatest ⟨by omega, by omega⟩ rfl rfl hl.1 (Nat.le_of_ble_eq_true rfl) dX2_apart_67 (fun H locs hG => ?_)
            refine lv_goto (tgt := 85) hx hb dX2_apart_70 (by decide) ?_
            exact m_iret C0 hG dX2_apart_85 hF
        · have hF := ifn hF c_16
          refine lv_iload hx hb dX2_apart_41 (lv_at hl 0 rfl) ?_
          exact m_iret C0 hG dX2_apart_43 hF
      · have hF := ifp hF c_12
        refine lv_iconst (v := (-1)) hx hb dX2_apart_26 (by decide) ?_
        exact m_iret C0 hG dX2_apart_27 hF
theorem mtM_apart (l : Launch) {N : Nat} {L : mL} {σ σ' : mS} {r : Int32} {a0 : Int32} {a1 : Int32} {a2 : Int32} (hF : fM_apart N σ a0 a1 a2 = some (σ', r)) : mMet l yX2_apart cX2_apart 5 (some .int) (4) (92) [.ref L.1, .int a0, .int a1, .int a2] L σ (some (.int r)) σ' := by
  refine m_head (by decide) rfl ?_
  intro p e s m below meth c A C0 hG
  have hl := lv_entry ([.ref L.1, .int a0, .int a1, .int a2]) (n := 5) (Nat.le_of_ble_eq_true rfl)
  rw [lg_entry_eq]
  generalize (lg_sl ([.ref L.1, .int a0, .int a1, .int a2]) ++ List.replicate (5 - (lg_sl ([.ref L.1, .int a0, .int a1, .int a2])).length) Slot.unset).toArray = ls at hl ⊢
  have hl : lv_has ls 5 [(0, .ref L.1), (1, .int a0), (2, .int a1), (3, .int a2)] := hl
  exact bM_apart_e C0 ⟨Nat.le_refl _, Nat.le_refl _⟩ _ _ _ _ _ [] ls hG hl hF
def fM_isUnder (N : Nat) (σ : mS) (a0 : Int32) : Option (mS × Int32) :=
  if a0 = 1 then (
    chb 1 (some (σ, 1)))
  else (
    if a0 = 2 then (
      chb 1 (some (σ, 1)))
    else (
      chb 0 (some (σ, 0))))
theorem bM_isUnder_e {N : Nat} (C0 : mCx p s m args meth c cX2_isUnder 1 (some .boolean) L A) (hRo : 0 ≤ R.frames ∧ 0 ≤ R.locals) {σ' : mS} {r : Int32} (σ : mS) (a0 : Int32) (H : Heap) (locs : List Loc) (ls : Array Slot) (hG : mG A L s σ H locs) (hl : lv_has ls 1 [(0, .int a0)]) (hF : fM_isUnder N σ a0 = some (σ', r)) : W p l e R s m args below meth c H locs 0 0 (mZ below L A s args σ' (some (.int r))) (F0 m 0 ls []) := by
  have hx := C0.1
  have hb := C0.2.1
  unfold fM_isUnder at hF
  refine lv_iload_n hx hb dX2_isUnder_0 rfl (lv_at hl 0 rfl) ?_
  refine lv_iconst (v := 1) hx hb dX2_isUnder_1 (by decide) ?_
  refine lv_icmp_eq (tgt := 10) hx hb dX2_isUnder_2 (by decide) (fun c_1 => ?_) (fun c_1 => ?_)
  · have hF := ifp hF c_1
    refine lv_iconst (v := 1) hx hb dX2_isUnder_10 (by decide) ?_
    refine lv_goto (tgt := 15) hx hb dX2_isUnder_11 (by decide) ?_
    exact m_zret C0 hG dX2_isUnder_15 hF
  · have hF := ifn hF c_1
    refine lv_iload_n hx hb dX2_isUnder_5 rfl (lv_at hl 0 rfl) ?_
    refine lv_iconst (v := 2) hx hb dX2_isUnder_6 (by decide) ?_
    refine lv_icmp_ne (tgt := 14) hx hb dX2_isUnder_7 (by decide) (fun c_2 => ?_) (fun c_2 => ?_)
    · have hF := ifn hF c_2
      refine lv_iconst (v := 0) hx hb dX2_isUnder_14 (by decide) ?_
      exact m_zret C0 hG dX2_isUnder_15 hF
    · have hF := ifp hF c_2
      refine lv_iconst (v := 1) hx hb dX2_isUnder_10 (by decide) ?_
      refine lv_goto (tgt := 15) hx hb dX2_isUnder_11 (by decide) ?_
      exact m_zret C0 hG dX2_isUnder_15 hF
theorem mtM_isUnder (l : Launch) {N : Nat} {L : mL} {σ σ' : mS} {r : Int32} {a0 : Int32} (hF : fM_isUnder N σ a0 = some (σ', r)) : mMet l yX2_isUnder cX2_isUnder 1 (some .boolean) (0) (0) [.int a0] L σ (some (.int r)) σ' := by
  refine m_head (by decide) rfl ?_
  intro p e s m below meth c A C0 hG
  have hl := lv_entry ([.int a0]) (n := 1) (Nat.le_of_ble_eq_true rfl)
  rw [lg_entry_eq]
  generalize (lg_sl ([.int a0]) ++ List.replicate (1 - (lg_sl ([.int a0])).length) Slot.unset).toArray = ls at hl ⊢
  have hl : lv_has ls 1 [(0, .int a0)] := hl
  exact bM_isUnder_e C0 ⟨Nat.le_refl _, Nat.le_refl _⟩ _ _ _ [] ls hG hl hF
end MWALK6
