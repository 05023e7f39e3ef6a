section MWALK11
variable {p : Program} {l : Launch} {e : Env} {R : Room} {s : State} {m : MethodId} {args : Array Value} {below : List Frame} {meth : Method} {c : Code} {A : Nat → Prop}
variable {L : mL}
def fM_quicker_b83 (N : Nat) (k54 : mS → Int32 → Int32 → Int32 → Int32 → Int32 → Option (mS × Int32)) (σ : mS) (x1 : Int32) (x2 : Int32) (x4 : Int32) (x5 : Int32) (x6 : Int32) : Option (mS × Int32) :=
  nmv (x6 + (-1)) fun x_25 =>
  k54 σ x1 x2 x4 x5 x_25
def fM_quicker_b54 (N : Nat) : Nat → mS → Int32 → Int32 → Int32 → Int32 → Int32 → Option (mS × Int32)
  | 0, _, _, _, _, _, _ => none
  | n + 1, σ, x1, x2, x4, x5, x6 =>
    if x6 < (-9) then (
      chk x2 8 <| nmv (mSj σ 5 x2.toNatClampNeg x4) fun σ_19 =>
      some (σ_19, x5))
    else (
      chk x2 8 <| nmv (mSj σ 5 x2.toNatClampNeg x6) fun σ_20 =>
      obi (fM_wrong N σ_20 x1) fun σ_21 r_22 =>
      if r_22 = (-2) then (
        fM_quicker_b83 N (fM_quicker_b54 N n) σ_21 x1 x2 x4 x6 x6)
      else (
        fM_quicker_b83 N (fM_quicker_b54 N n) σ_21 x1 x2 x4 x5 x6))
def fM_quicker (N : Nat) (σ : mS) (a0 : Int32) (a1 : Int32) : Option (mS × Int32) :=
  obi (fM_areShelves N σ a0) fun σ_1 r_2 =>
  if r_2 = 0 then (
    some (σ_1, (-2000000000)))
  else (
    obi (fM_isOne N σ_1 a1) fun σ_5 r_6 =>
    if r_6 = 0 then (
      some (σ_5, (-2000000000)))
    else (
      obi (fM_noRipples N σ_5 a0) fun σ_9 r_10 =>
      if 0 ≤ r_10 then (
        chz 10 <|
        obi (fM_reads N σ_9 (a0 / 10)) fun σ_14 r_15 =>
        chk a1 8 <| nmv (σ_14.2.1 5 a1.toNatClampNeg) fun x_17 =>
        fM_quicker_b54 N N σ_14 a0 a1 x_17 (-99) 9)
      else (
        some (σ_9, r_10))))
theorem bM_quicker_83 {N : Nat} (C0 : mCx p s m args meth c cX2_quicker 7 (some .int) L A) (hRo : 5 ≤ R.frames ∧ 114 ≤ R.locals) {σ' : mS} {r : Int32} {k54 : mS → Int32 → Int32 → Int32 → Int32 → Int32 → Option (mS × Int32)} (hk54 : ∀ (σ : mS) (x1 : Int32) (x2 : Int32) (x4 : Int32) (x5 : Int32) (x6 : Int32) (H : Heap) (locs : List Loc) (ls : Array Slot), mG A L s σ H locs → lv_has ls 7 [(0, .ref L.1), (1, .int x1), (2, .int x2), (4, .int x4), (5, .int x5), (6, .int x6)] → k54 σ x1 x2 x4 x5 x6 = some (σ', r) → W p l e R s m args below meth c H locs 0 0 (mZ below L A s args σ' (some (.int r))) (F0 m 54 ls [])) (σ : mS) (x1 : Int32) (x2 : Int32) (x4 : Int32) (x5 : Int32) (x6 : Int32) (H : Heap) (locs : List Loc) (ls : Array Slot) (hG : mG A L s σ H locs) (hl : lv_has ls 7 [(0, .ref L.1), (1, .int x1), (2, .int x2), (4, .int x4), (5, .int x5), (6, .int x6)]) (hF : fM_quicker_b83 N k54 σ x1 x2 x4 x5 x6 = some (σ', r)) : W p l e R s m args below meth c H locs 0 0 (mZ below L A s args σ' (some (.int r))) (F0 m 83 ls []) := by
  have hx := C0.1
  have hb := C0.2.1
  unfold fM_quicker_b83 at hF
  refine w_iinc hx hb dX2_quicker_83 hl 5 rfl (v := (-1)) (by decide) (by decide) hF (fun x_25 ls hl hF => ?_)
  have hl : lv_has ls 7 [(6, .int x_25), (0, .ref L.1), (1, .int x1), (2, .int x2), (4, .int x4), (5, .int x5)] := hl
  refine lv_goto (tgt := 54) hx hb dX2_quicker_86 (by decide) ?_
  exact hk54 _ _ _ _ _ _ H locs ls hG (lv_sub hl [1, 2, 3, 4, 5, 0] rfl) hF
theorem bM_quicker_54 {N : Nat} (C0 : mCx p s m args meth c cX2_quicker 7 (some .int) L A) (hRo : 5 ≤ R.frames ∧ 114 ≤ R.locals) {σ' : mS} {r : Int32} : ∀ (n : Nat) (σ : mS) (x1 : Int32) (x2 : Int32) (x4 : Int32) (x5 : Int32) (x6 : Int32) (H : Heap) (locs : List Loc) (ls : Array Slot), mG A L s σ H locs → lv_has ls 7 [(0, .ref L.1), (1, .int x1), (2, .int x2), (4, .int x4), (5, .int x5), (6, .int x6)] → fM_quicker_b54 N n σ x1 x2 x4 x5 x6 = some (σ', r) → W p l e R s m args below meth c H locs 0 0 (mZ below L A s args σ' (some (.int r))) (F0 m 54 ls []) := by
  have hx := C0.1
  have hb := C0.2.1
  intro n
  induction n with
  | zero => intro σ x1 x2 x4 x5 x6 H locs ls hG hl hF; cases hF
  | succ n ih =>
    intro σ x1 x2 x4 x5 x6 H locs ls hG hl hF
    unfold fM_quicker_b54 at hF
    refine lv_iload hx hb dX2_quicker_54 (lv_at hl 5 rfl) ?_
    refine lv_bipush (v := (-9)) hx hb dX2_quicker_56 (by decide) ?_
    refine lv_icmp_lt (tgt := 89) hx hb dX2_quicker_58 (by decide) (fun c_18 => ?_) (fun c_18 => ?_)
    · have hF := ifp hF c_18
      refine lv_aload_n hx hb dX2_quicker_89 rfl (lv_at hl 0 rfl) ?_
      refine m_geta C0 hG 5 (by decide) rfl q1583 dX2_quicker_90 ?_
      refine lv_iload_n hx hb dX2_quicker_93 rfl (lv_at hl 2 rfl) ?_
      refine lv_iload hx hb dX2_quicker_94 (lv_at hl 3 rfl) ?_
      refine m_st C0 hG 5 ⟨by decide, rfl, by decide⟩ dX2_quicker_96 hF (fun σ_19 H locs hG hF => ?_)
      refine lv_iload hx hb dX2_quicker_97 (lv_at hl 4 rfl) ?_
      exact m_iret C0 hG dX2_quicker_99 hF
    · have hF := ifn hF c_18
      refine lv_aload_n hx hb dX2_quicker_61 rfl (lv_at hl 0 rfl) ?_
      refine m_geta C0 hG 5 (by decide) rfl q1583 dX2_quicker_62 ?_
      refine lv_iload_n hx hb dX2_quicker_65 rfl (lv_at hl 2 rfl) ?_
      refine lv_iload hx hb dX2_quicker_66 (lv_at hl 5 rfl) ?_
      refine m_st C0 hG 5 ⟨by decide, rfl, by decide⟩ dX2_quicker_68 hF (fun σ_20 H locs hG hF => ?_)
      refine lv_aload_n hx hb dX2_quicker_69 rfl (lv_at hl 0 rfl) ?_
      refine lv_iload_n hx hb dX2_quicker_70 rfl (lv_at hl 1 rfl) ?_
      obtain ⟨σ_21, r_22, e_23, hF⟩ := obi_of hF
      refine m_cVi (As := [.int x1]) (rest := []) C0 hG (mtM_wrong l e_23) (lw_V q2030 q2032 qs92 q102 q2033) yd_X2_wrong ⟨by omega, by omega⟩ rfl rfl hl.1 (Nat.le_of_ble_eq_true rfl) dX2_quicker_71 (fun H locs hG => ?_)
      refine lv_bipush (v := (-2)) hx hb dX2_quicker_74 (by decide) ?_
      refine lv_icmp_ne (tgt := 83) hx hb dX2_quicker_76 (by decide) (fun c_24 => ?_) (fun c_24 => ?_)
      · have hF := ifn hF c_24
        exact bM_quicker_83 C0 hRo ih _ _ _ _ _ _ H locs ls hG (lv_sub hl [0, 1, 2, 3, 4, 5] rfl) hF
      · have hF := ifp hF c_24
        refine lv_iload hx hb dX2_quicker_79 (lv_at hl 5 rfl) ?_
        refine lv_istore (lv' := [(5, .int x6), (0, .ref L.1), (1, .int x1), (2, .int x2), (4, .int x4), (6, .int x6)]) hx hb dX2_quicker_81 hl (by decide) rfl (fun ls hl => ?_)
        exact bM_quicker_83 C0 hRo ih _ _ _ _ _ _ H locs ls hG (lv_sub hl [1, 2, 3, 4, 0, 5] rfl) hF
theorem bM_quicker_e {N : Nat} (C0 : mCx p s m args meth c cX2_quicker 7 (some .int) L A) (hRo : 5 ≤ R.frames ∧ 114 ≤ R.locals) {σ' : mS} {r : Int32} (σ : mS) (a0 : Int32) (a1 : Int32) (H : Heap) (locs : List Loc) (ls : Array Slot) (hG : mG A L s σ H locs) (hl : lv_has ls 7 [(0, .ref L.1), (1, .int a0), (2, .int a1)]) (hF : fM_quicker N σ a0 a1 = some (σ', r)) : W p l e R s m args below meth c H locs 0 0 (mZ below L A s args σ' (some (.int r))) (F0 m 0 ls []) := by
  have hx := C0.1
  have hb := C0.2.1
  unfold fM_quicker at hF
  refine lv_iload_n hx hb dX2_quicker_0 rfl (lv_at hl 1 rfl) ?_
  obtain ⟨σ_1, r_2, e_3, hF⟩ := obi_of hF
  refine m_cSi (As := [.int a0]) (rest := []) C0 hG (mtM_areShelves l e_3) (lw_S q2023 q2024 q102 q2025) yd_X2_areShelves ⟨by omega, by omega⟩ rfl rfl hl.1 (Nat.le_of_ble_eq_true rfl) dX2_quicker_1 (fun H locs hG => ?_)
  refine lv_if_eq (tgt := 15) hx hb dX2_quicker_4 (by decide) (fun c_4 => ?_) (fun c_4 => ?_)
  · have hF := ifp hF c_4
    refine lv_ldc (v := (-2000000000)) hx hb C0.2.2.2.1 (C0.2.2.2.2.1 _ q1781) dX2_quicker_15 ?_
    exact m_iret C0 hG dX2_quicker_17 hF
  · have hF := ifn hF c_4
    refine lv_aload_n hx hb dX2_quicker_7 rfl (lv_at hl 0 rfl) ?_
    refine lv_iload_n hx hb dX2_quicker_8 rfl (lv_at hl 2 rfl) ?_
    obtain ⟨σ_5, r_6, e_7, hF⟩ := obi_of hF
    refine m_cVi (As := [.int a1]) (rest := []) C0 hG (mtM_isOne l e_7) (lw_V q1774 q1776 qs54 q102 q1777) yd_X2_isOne ⟨by omega, by omega⟩ rfl rfl hl.1 (Nat.le_of_ble_eq_true rfl) dX2_quicker_9 (fun H locs hG => ?_)
    refine lv_if_ne (tgt := 18) hx hb dX2_quicker_12 (by decide) (fun c_8 => ?_) (fun c_8 => ?_)
    · have hF := ifn hF c_8
      refine lv_aload_n hx hb dX2_quicker_18 rfl (lv_at hl 0 rfl) ?_
      refine lv_iload_n hx hb dX2_quicker_19 rfl (lv_at hl 1 rfl) ?_
      obtain ⟨σ_9, r_10, e_11, hF⟩ := obi_of hF
      refine m_cVi (As := [.int a0]) (rest := []) C0 hG (mtM_noRipples l e_11) (lw_V q2026 q2028 qs91 q102 q2029) yd_X2_noRipples ⟨by omega, by omega⟩ rfl rfl hl.1 (Nat.le_of_ble_eq_true rfl) dX2_quicker_20 (fun H locs hG => ?_)
      refine lv_istore_n (lv' := [(3, .int r_10), (0, .ref L.1), (1, .int a0), (2, .int a1)]) hx hb dX2_quicker_23 rfl hl (by decide) rfl (fun ls hl => ?_)
      refine lv_iload_n hx hb dX2_quicker_24 rfl (lv_at hl 0 rfl) ?_
      refine lv_if_ge (tgt := 30) hx hb dX2_quicker_25 (by decide) (fun c_12 => ?_) (fun c_12 => ?_)
      · have hF := ifp hF c_12
        refine lv_aload_n hx hb dX2_quicker_30 rfl (lv_at hl 1 rfl) ?_
        refine lv_iload_n hx hb dX2_quicker_31 rfl (lv_at hl 2 rfl) ?_
        refine lv_bipush (v := 10) hx hb dX2_quicker_32 (by decide) ?_
        obtain ⟨h_13, hF⟩ := chz_of hF
        refine lv_idiv hx hb dX2_quicker_34 h_13 ?_
        obtain ⟨σ_14, r_15, e_16, hF⟩ := obi_of hF
        refine m_cVv (As := [.int (a0 / 10)]) (rest := []) C0 hG (mtM_reads l e_16) (lw_V q1887 q1889 qs72 q102 q1890) yd_X2_reads ⟨by omega, by omega⟩ rfl rfl hl.1 (Nat.le_of_ble_eq_true rfl) dX2_quicker_35 (fun H locs hG => ?_)
        refine lv_aload_n hx hb dX2_quicker_38 rfl (lv_at hl 1 rfl) ?_
        refine m_geta C0 hG 5 (by decide) rfl q1583 dX2_quicker_39 ?_
        refine lv_iload_n hx hb dX2_quicker_42 rfl (lv_at hl 3 rfl) ?_
        refine m_ld C0 hG 5 ⟨by decide, rfl, by decide⟩ dX2_quicker_43 hF (fun x_17 hF => ?_)
        refine lv_istore (lv' := [(4, .int x_17), (3, .int r_10), (0, .ref L.1), (1, .int a0), (2, .int a1)]) hx hb dX2_quicker_44 hl (by decide) rfl (fun ls hl => ?_)
        refine lv_bipush (v := (-99)) hx hb dX2_quicker_46 (by decide) ?_
        refine lv_istore (lv' := [(5, .int (-99)), (4, .int x_17), (3, .int r_10), (0, .ref L.1), (1, .int a0), (2, .int a1)]) hx hb dX2_quicker_48 hl (by decide) rfl (fun ls hl => ?_)
        refine lv_bipush (v := 9) hx hb dX2_quicker_50 (by decide) ?_
        refine lv_istore (lv' := [(6, .int 9), (5, .int (-99)), (4, .int x_17), (3, .int r_10), (0, .ref L.1), (1, .int a0), (2, .int a1)]) hx hb dX2_quicker_52 hl (by decide) rfl (fun ls hl => ?_)
        exact bM_quicker_54 C0 hRo N _ _ _ _ _ _ H locs ls hG (lv_sub hl [4, 5, 6, 2, 1, 0] rfl) hF
      · have hF := ifn hF c_12
        refine lv_iload_n hx hb dX2_quicker_28 rfl (lv_at hl 0 rfl) ?_
        exact m_iret C0 hG dX2_quicker_29 hF
    · have hF := ifp hF c_8
      refine lv_ldc (v := (-2000000000)) hx hb C0.2.2.2.1 (C0.2.2.2.2.1 _ q1781) dX2_quicker_15 ?_
      exact m_iret C0 hG dX2_quicker_17 hF
theorem mtM_quicker (l : Launch) {N : Nat} {L : mL} {σ σ' : mS} {r : Int32} {a0 : Int32} {a1 : Int32} (hF : fM_quicker N σ a0 a1 = some (σ', r)) : mMet l yX2_quicker cX2_quicker 7 (some .int) (5) (114) [.ref L.1, .int a0, .int a1] L σ (some (.int r)) σ' := by
  refine m_head (by decide) rfl ?_
  intro p e s m below meth c A C0 hG
  have hl := lv_entry ([.ref L.1, .int a0, .int a1]) (n := 7) (Nat.le_of_ble_eq_true rfl)
  rw [lg_entry_eq]
  generalize (lg_sl ([.ref L.1, .int a0, .int a1]) ++ List.replicate (7 - (lg_sl ([.ref L.1, .int a0, .int a1])).length) Slot.unset).toArray = ls at hl ⊢
  have hl : lv_has ls 7 [(0, .ref L.1), (1, .int a0), (2, .int a1)] := hl
  exact bM_quicker_e C0 ⟨Nat.le_refl _, Nat.le_refl _⟩ _ _ _ _ [] ls hG hl hF
def fM_drawn_b123 (N : Nat) (k88 : mS → Int32 → Int32 → Int32 → Int32 → Int32 → Option (mS × Int32)) (σ : mS) (x3 : Int32) (x4 : Int32) (x6 : Int32) (x7 : Int32) (x8 : Int32) : Option (mS × Int32) :=
  nmv (x8 + 1) fun x_39 =>
  k88 σ x3 x4 x6 x7 x_39
def fM_drawn_b88 (N : Nat) : Nat → mS → Int32 → Int32 → Int32 → Int32 → Int32 → Option (mS × Int32)
  | 0, _, _, _, _, _, _ => none
  | n + 1, σ, x3, x4, x6, x7, x8 =>
    chz 100 <|
    if (x3 / 100) ≤ x8 then (
      if x4 = 0 then (
        some (σ, x6))
      else (
        some (σ, x7)))
    else (
      obi (fM_drifts N σ 1) fun σ_30 r_31 =>
      obi (fM_marks N σ_30) fun σ_33 r_34 =>
      nmv (x6 + r_34) fun x_36 =>
      if r_34 = 0 then (
        nmv (x7 + 1) fun x_38 =>
        fM_drawn_b123 N (fM_drawn_b88 N n) σ_33 x3 x4 x_36 x_38 x8)
      else (
        fM_drawn_b123 N (fM_drawn_b88 N n) σ_33 x3 x4 x_36 x7 x8))
def fM_drawn (N : Nat) (σ : mS) (a0 : Int32) (a1 : Int32) (a2 : Int32) (a3 : Int32) : Option (mS × Int32) :=
  obi (fM_isShelf N σ a0) fun σ_1 r_2 =>
  if r_2 = 0 then (
    some (σ_1, (-1)))
  else (
    if a2 < 0 then (
      some (σ_1, (-1)))
    else (
      chz 100 <|
      obi (fM_within N σ_1 (a2 / 100) 1 30) fun σ_7 r_8 =>
      if r_8 = 0 then (
        some (σ_7, (-1)))
      else (
        chz 100 <|
        if 12 < (a2 - a2 / 100 * 100) then (
          some (σ_7, (-1)))
        else (
          obi (fM_within N σ_7 a3 0 1) fun σ_13 r_14 =>
          if r_14 = 0 then (
            some (σ_13, (-1)))
          else (
            obi (fM_noRow N σ_13 a0 0) fun σ_17 r_18 =>
            if 0 ≤ r_18 then (
              obi (fM_reads N σ_17 a0) fun σ_21 r_22 =>
              nmv (mSi σ_21 51 a1) fun σ_24 =>
              chz 100 <|
              nmv (mSi σ_24 52 (a2 - a2 / 100 * 100)) fun σ_26 =>
              fM_drawn_b88 N N σ_26 a2 a3 0 0 0)
            else (
              some (σ_17, r_18)))))))
theorem bM_drawn_123 {N : Nat} (C0 : mCx p s m args meth c cX2_drawn 10 (some .int) L A) (hRo : 4 ≤ R.frames ∧ 97 ≤ R.locals) {σ' : mS} {r : Int32} {k88 : mS → Int32 → Int32 → Int32 → Int32 → Int32 → Option (mS × Int32)} (hk88 : ∀ (σ : mS) (x3 : Int32) (x4 : Int32) (x6 : Int32) (x7 : Int32) (x8 : Int32) (H : Heap) (locs : List Loc) (ls : Array Slot), mG A L s σ H locs → lv_has ls 10 [(0, .ref L.1), (3, .int x3), (4, .int x4), (6, .int x6), (7, .int x7), (8, .int x8)] → k88 σ x3 x4 x6 x7 x8 = some (σ', r) → W p l e R s m args below meth c H locs 0 0 (mZ below L A s args σ' (some (.int r))) (F0 m 88 ls [])) (σ : mS) (x3 : Int32) (x4 : Int32) (x6 : Int32) (x7 : Int32) (x8 : Int32) (H : Heap) (locs : List Loc) (ls : Array Slot) (hG : mG A L s σ H locs) (hl : lv_has ls 10 [(0, .ref L.1), (3, .int x3), (4, .int x4), (6, .int x6), (7, .int x7), (8, .int x8)]) (hF : fM_drawn_b123 N k88 σ x3 x4 x6 x7 x8 = some (σ', r)) : W p l e R s m args below meth c H locs 0 0 (mZ below L A s args σ' (some (.int r))) (F0 m 123 ls []) := by
  have hx := C0.1
  have hb := C0.2.1
  unfold fM_drawn_b123 at hF
  refine w_iinc hx hb dX2_drawn_123 hl 5 rfl (v := 1) (by decide) (by decide) hF (fun x_39 ls hl hF => ?_)
  have hl : lv_has ls 10 [(8, .int x_39), (0, .ref L.1), (3, .int x3), (4, .int x4), (6, .int x6), (7, .int x7)] := hl
  refine lv_goto (tgt := 88) hx hb dX2_drawn_126 (by decide) ?_
  exact hk88 _ _ _ _ _ _ H locs ls hG (lv_sub hl [1, 2, 3, 4, 5, 0] rfl) hF
theorem bM_drawn_88 {N : Nat} (C0 : mCx p s m args meth c cX2_drawn 10 (some .int) L A) (hRo : 4 ≤ R.frames ∧ 97 ≤ R.locals) {σ' : mS} {r : Int32} : ∀ (n : Nat) (σ : mS) (x3 : Int32) (x4 : Int32) (x6 : Int32) (x7 : Int32) (x8 : Int32) (H : Heap) (locs : List Loc) (ls : Array Slot), mG A L s σ H locs → lv_has ls 10 [(0, .ref L.1), (3, .int x3), (4, .int x4), (6, .int x6), (7, .int x7), (8, .int x8)] → fM_drawn_b88 N n σ x3 x4 x6 x7 x8 = some (σ', r) → W p l e R s m args below meth c H locs 0 0 (mZ below L A s args σ' (some (.int r))) (F0 m 88 ls []) := by
  have hx := C0.1
  have hb := C0.2.1
  intro n
  induction n with
  | zero => intro σ x3 x4 x6 x7 x8 H locs ls hG hl hF; cases hF
  | succ n ih =>
    intro σ x3 x4 x6 x7 x8 H locs ls hG hl hF
    unfold fM_drawn_b88 at hF
    refine lv_iload hx hb dX2_drawn_88 (lv_at hl 5 rfl) ?_
    refine lv_iload_n hx hb dX2_drawn_90 rfl (lv_at hl 1 rfl) ?_
    refine lv_bipush (v := 100) hx hb dX2_drawn_91 (by decide) ?_
    obtain ⟨h_27, hF⟩ := chz_of hF
    refine lv_idiv hx hb dX2_drawn_93 h_27 ?_
    refine lv_icmp_ge (tgt := 129) hx hb dX2_drawn_94 (by decide) (fun c_28 => ?_) (fun c_28 => ?_)
    · have hF := ifp hF c_28
      refine lv_iload hx hb dX2_drawn_129 (lv_at hl 2 rfl) ?_
      refine lv_if_ne (tgt := 139) hx hb dX2_drawn_131 (by decide) (fun c_29 => ?_) (fun c_29 => ?_)
      · have hF := ifn hF c_29
        refine lv_iload hx hb dX2_drawn_139 (lv_at hl 4 rfl) ?_
        exact m_iret C0 hG dX2_drawn_141 hF
      · have hF := ifp hF c_29
        refine lv_iload hx hb dX2_drawn_134 (lv_at hl 3 rfl) ?_
        refine lv_goto (tgt := 141) hx hb dX2_drawn_136 (by decide) ?_
        exact m_iret C0 hG dX2_drawn_141 hF
    · have hF := ifn hF c_28
      refine lv_aload_n hx hb dX2_drawn_97 rfl (lv_at hl 0 rfl) ?_
      refine lv_iconst (v := 1) hx hb dX2_drawn_98 (by decide) ?_
      obtain ⟨σ_30, r_31, e_32, hF⟩ := obi_of hF
      refine m_cVv (As := [.int 1]) (rest := []) C0 hG (mtM_drifts l e_32) (lw_V q1895 q1897 qs74 q102 q1898) yd_X2_drifts ⟨by omega, by omega⟩ rfl rfl hl.1 (Nat.le_of_ble_eq_true rfl) dX2_drawn_99 (fun H locs hG => ?_)
      refine lv_aload_n hx hb dX2_drawn_102 rfl (lv_at hl 0 rfl) ?_
      obtain ⟨σ_33, r_34, e_35, hF⟩ := obi_of hF
      refine m_cVi (As := []) (rest := []) C0 hG (mtM_marks l e_35) (lw_V q1900 q1902 qs75 q102 q1903) yd_X2_marks ⟨by omega, by omega⟩ rfl rfl hl.1 (Nat.le_of_ble_eq_true rfl) dX2_drawn_103 (fun H locs hG => ?_)
      refine lv_istore (lv' := [(9, .int r_34), (0, .ref L.1), (3, .int x3), (4, .int x4), (6, .int x6), (7, .int x7), (8, .int x8)]) hx hb dX2_drawn_106 hl (by decide) rfl (fun ls hl => ?_)
      refine lv_iload hx hb dX2_drawn_108 (lv_at hl 4 rfl) ?_
      refine lv_iload hx hb dX2_drawn_110 (lv_at hl 0 rfl) ?_
      refine lv_iadd hx hb dX2_drawn_112 ?_
      refine w_nm hF (fun x_36 hF => ?_)
      refine lv_istore (lv' := [(6, .int x_36), (9, .int r_34), (0, .ref L.1), (3, .int x3), (4, .int x4), (7, .int x7), (8, .int x8)]) hx hb dX2_drawn_113 hl (by decide) rfl (fun ls hl => ?_)
      refine lv_iload hx hb dX2_drawn_115 (lv_at hl 1 rfl) ?_
      refine lv_if_ne (tgt := 123) hx hb dX2_drawn_117 (by decide) (fun c_37 => ?_) (fun c_37 => ?_)
      · have hF := ifn hF c_37
        exact bM_drawn_123 C0 hRo ih _ _ _ _ _ _ H locs ls hG (lv_sub hl [2, 3, 4, 0, 5, 6] rfl) hF
      · have hF := ifp hF c_37
        refine w_iinc hx hb dX2_drawn_120 hl 5 rfl (v := 1) (by decide) (by decide) hF (fun x_38 ls hl hF => ?_)
        have hl : lv_has ls 10 [(7, .int x_38), (6, .int x_36), (9, .int r_34), (0, .ref L.1), (3, .int x3), (4, .int x4), (8, .int x8)] := hl
        exact bM_drawn_123 C0 hRo ih _ _ _ _ _ _ H locs ls hG (lv_sub hl [3, 4, 5, 1, 0, 6] rfl) hF
theorem bM_drawn_e {N : Nat} (C0 : mCx p s m args meth c cX2_drawn 10 (some .int) L A) (hRo : 4 ≤ R.frames ∧ 97 ≤ R.locals) {σ' : mS} {r : Int32} (σ : mS) (a0 : Int32) (a1 : Int32) (a2 : Int32) (a3 : Int32) (H : Heap) (locs : List Loc) (ls : Array Slot) (hG : mG A L s σ H locs) (hl : lv_has ls 10 [(0, .ref L.1), (1, .int a0), (2, .int a1), (3, .int a2), (4, .int a3)]) (hF : fM_drawn N σ a0 a1 a2 a3 = some (σ', r)) : W p l e R s m args below meth c H locs 0 0 (mZ below L A s args σ' (some (.int r))) (F0 m 0 ls []) := by
  have hx := C0.1
  have hb := C0.2.1
  unfold fM_drawn at hF
  refine lv_iload_n hx hb dX2_drawn_0 rfl (lv_at hl 1 rfl) ?_
  obtain ⟨σ_1, r_2, e_3, hF⟩ := obi_of hF
  refine m_cSi (As := [.int a0]) (rest := []) C0 hG (mtM_isShelf l e_3) (lw_S q1762 q1763 q102 q1764) yd_X2_isShelf ⟨by omega, by omega⟩ rfl rfl hl.1 (Nat.le_of_ble_eq_true rfl) dX2_drawn_1 (fun H locs hG => ?_)
  refine lv_if_eq (tgt := 43) hx hb dX2_drawn_4 (by decide) (fun c_4 => ?_) (fun c_4 => ?_)
  · have hF := ifp hF c_4
    refine lv_iconst (v := (-1)) hx hb dX2_drawn_43 (by decide) ?_
    exact m_iret C0 hG dX2_drawn_44 hF
  · have hF := ifn hF c_4
    refine lv_iload_n hx hb dX2_drawn_7 rfl (lv_at hl 3 rfl) ?_
    refine lv_if_lt (tgt := 43) hx hb dX2_drawn_8 (by decide) (fun c_5 => ?_) (fun c_5 => ?_)
    · have hF := ifp hF c_5
      refine lv_iconst (v := (-1)) hx hb dX2_drawn_43 (by decide) ?_
      exact m_iret C0 hG dX2_drawn_44 hF
    · have hF := ifn hF c_5
      refine lv_iload_n hx hb dX2_drawn_11 rfl (lv_at hl 3 rfl) ?_
      refine lv_bipush (v := 100) hx hb dX2_drawn_12 (by decide) ?_
      obtain ⟨h_6, hF⟩ := chz_of hF
      refine lv_idiv hx hb dX2_drawn_14 h_6 ?_
      refine lv_iconst (v := 1) hx hb dX2_drawn_15 (by decide) ?_
      refine lv_bipush (v := 30) hx hb dX2_drawn_16 (by decide) ?_
      obtain ⟨σ_7, r_8, e_9, hF⟩ := obi_of hF
      refine m_cSi (As := [.int (a2 / 100), .int 1, .int 30]) (rest := []) C0 hG (mtM_within l e_9) (lw_S q1751 q1752 q102 q1753) yd_X2_within ⟨by omega, by omega⟩ rfl rfl hl.1 (Nat.le_of_ble_eq_true rfl) dX2_drawn_18 (fun H locs hG => ?_)
      refine lv_if_eq (tgt := 43) hx hb dX2_drawn_21 (by decide) (fun c_10 => ?_) (fun c_10 => ?_)
      · have hF := ifp hF c_10
        refine lv_iconst (v := (-1)) hx hb dX2_drawn_43 (by decide) ?_
        exact m_iret C0 hG dX2_drawn_44 hF
      · have hF := ifn hF c_10
        refine lv_iload_n hx hb dX2_drawn_24 rfl (lv_at hl 3 rfl) ?_
        refine lv_bipush (v := 100) hx hb dX2_drawn_25 (by decide) ?_
        obtain ⟨h_11, hF⟩ := chz_of hF
        refine lv_irem hx hb dX2_drawn_27 h_11 ?_
        refine lv_bipush (v := 12) hx hb dX2_drawn_28 (by decide) ?_
        refine lv_icmp_gt (tgt := 43) hx hb dX2_drawn_30 (by decide) (fun c_12 => ?_) (fun c_12 => ?_)
        · have hF := ifp hF c_12
          refine lv_iconst (v := (-1)) hx hb dX2_drawn_43 (by decide) ?_
          exact m_iret C0 hG dX2_drawn_44 hF
        · have hF := ifn hF c_12
          refine lv_iload hx hb dX2_drawn_33 (lv_at hl 4 rfl) ?_
          refine lv_iconst (v := 0) hx hb dX2_drawn_35 (by decide) ?_
          refine lv_iconst (v := 1) hx hb dX2_drawn_36 (by decide) ?_
          obtain ⟨σ_13, r_14, e_15, hF⟩ := obi_of hF
          refine m_cSi (As := [.int a3, .int 0, .int 1]) (rest := []) C0 hG (mtM_within l e_15) (lw_S q1751 q1752 q102 q1753) yd_X2_within ⟨by omega, by omega⟩ rfl rfl hl.1 (Nat.le_of_ble_eq_true rfl) dX2_drawn_37 (fun H locs hG => ?_)
          refine lv_if_ne (tgt := 45) hx hb dX2_drawn_40 (by decide) (fun c_16 => ?_) (fun c_16 => ?_)
          · have hF := ifn hF c_16
            refine lv_aload_n hx hb dX2_drawn_45 rfl (lv_at hl 0 rfl) ?_
            refine lv_iload_n hx hb dX2_drawn_46 rfl (lv_at hl 1 rfl) ?_
            refine lv_iconst (v := 0) hx hb dX2_drawn_47 (by decide) ?_
            obtain ⟨σ_17, r_18, e_19, hF⟩ := obi_of hF
            refine m_cVi (As := [.int a0, .int 0]) (rest := []) C0 hG (mtM_noRow l e_19) (lw_V q1883 q1885 qs71 q102 q1886) yd_X2_noRow ⟨by omega, by omega⟩ rfl rfl hl.1 (Nat.le_of_ble_eq_true rfl) dX2_drawn_48 (fun H locs hG => ?_)
            refine lv_istore (lv' := [(5, .int r_18), (0, .ref L.1), (1, .int a0), (2, .int a1), (3, .int a2), (4, .int a3)]) hx hb dX2_drawn_51 hl (by decide) rfl (fun ls hl => ?_)
            refine lv_iload hx hb dX2_drawn_53 (lv_at hl 0 rfl) ?_
            refine lv_if_ge (tgt := 61) hx hb dX2_drawn_55 (by decide) (fun c_20 => ?_) (fun c_20 => ?_)
            · have hF := ifp hF c_20
              refine lv_aload_n hx hb dX2_drawn_61 rfl (lv_at hl 1 rfl) ?_
              refine lv_iload_n hx hb dX2_drawn_62 rfl (lv_at hl 2 rfl) ?_
              obtain ⟨σ_21, r_22, e_23, hF⟩ := obi_of hF
              refine m_cVv (As := [.int a0]) (rest := []) C0 hG (mtM_reads l e_23) (lw_V q1887 q1889 qs72 q102 q1890) yd_X2_reads ⟨by omega, by omega⟩ rfl rfl hl.1 (Nat.le_of_ble_eq_true rfl) dX2_drawn_63 (fun H locs hG => ?_)
              refine lv_aload_n hx hb dX2_drawn_66 rfl (lv_at hl 1 rfl) ?_
              refine lv_iload_n hx hb dX2_drawn_67 rfl (lv_at hl 3 rfl) ?_
              refine m_puti C0 hG 51 (by decide) rfl q1629 dX2_drawn_68 (Or.inl ⟨by decide, by decide⟩) hF (fun σ_24 H locs hG hF => ?_)
              refine lv_aload_n hx hb dX2_drawn_71 rfl (lv_at hl 1 rfl) ?_
              refine lv_iload_n hx hb dX2_drawn_72 rfl (lv_at hl 4 rfl) ?_
              refine lv_bipush (v := 100) hx hb dX2_drawn_73 (by decide) ?_
              obtain ⟨h_25, hF⟩ := chz_of hF
              refine lv_irem hx hb dX2_drawn_75 h_25 ?_
              refine m_puti C0 hG 52 (by decide) rfl q1630 dX2_drawn_76 (Or.inl ⟨by decide, by decide⟩) hF (fun σ_26 H locs hG hF => ?_)
              refine lv_iconst (v := 0) hx hb dX2_drawn_79 (by decide) ?_
              refine lv_istore (lv' := [(6, .int 0), (5, .int r_18), (0, .ref L.1), (1, .int a0), (2, .int a1), (3, .int a2), (4, .int a3)]) hx hb dX2_drawn_80 hl (by decide) rfl (fun ls hl => ?_)
              refine lv_iconst (v := 0) hx hb dX2_drawn_82 (by decide) ?_
              refine lv_istore (lv' := [(7, .int 0), (6, .int 0), (5, .int r_18), (0, .ref L.1), (1, .int a0), (2, .int a1), (3, .int a2), (4, .int a3)]) hx hb dX2_drawn_83 hl (by decide) rfl (fun ls hl => ?_)
              refine lv_iconst (v := 0) hx hb dX2_drawn_85 (by decide) ?_
              refine lv_istore (lv' := [(8, .int 0), (7, .int 0), (6, .int 0), (5, .int r_18), (0, .ref L.1), (1, .int a0), (2, .int a1), (3, .int a2), (4, .int a3)]) hx hb dX2_drawn_86 hl (by decide) rfl (fun ls hl => ?_)
              exact bM_drawn_88 C0 hRo N _ _ _ _ _ _ H locs ls hG (lv_sub hl [4, 7, 8, 2, 1, 0] rfl) hF
            · have hF := ifn hF c_20
              refine lv_iload hx hb dX2_drawn_58 (lv_at hl 0 rfl) ?_
              exact m_iret C0 hG dX2_drawn_60 hF
          · have hF := ifp hF c_16
            refine lv_iconst (v := (-1)) hx hb dX2_drawn_43 (by decide) ?_
            exact m_iret C0 hG dX2_drawn_44 hF
theorem mtM_drawn (l : Launch) {N : Nat} {L : mL} {σ σ' : mS} {r : Int32} {a0 : Int32} {a1 : Int32} {a2 : Int32} {a3 : Int32} (hF : fM_drawn N σ a0 a1 a2 a3 = some (σ', r)) : mMet l yX2_drawn cX2_drawn 10 (some .int) (4) (97) [.ref L.1, .int a0, .int a1, .int a2, .int a3] L σ (some (.int r)) σ' := by
  refine m_head (by decide) rfl ?_
  intro p e s m below meth c A C0 hG
  have hl := lv_entry ([.ref L.1, .int a0, .int a1, .int a2, .int a3]) (n := 10) (Nat.le_of_ble_eq_true rfl)
  rw [lg_entry_eq]
  generalize (lg_sl ([.ref L.1, .int a0, .int a1, .int a2, .int a3]) ++ List.replicate (10 - (lg_sl ([.ref L.1, .int a0, .int a1, .int a2, .int a3])).length) Slot.unset).toArray = ls at hl ⊢
  have hl : lv_has ls 10 [(0, .ref L.1), (1, .int a0), (2, .int a1), (3, .int a2), (4, .int a3)] := hl
  exact bM_drawn_e C0 ⟨Nat.le_refl _, Nat.le_refl _⟩ _ _ _ _ _ _ [] ls hG hl hF
def fM_swim_b196 (N : Nat) (k105 : mS → Int32 → Int32 → Int32 → Option (mS × Int32)) (σ : mS) (x3 : Int32) (x4 : Int32) (x5 : Int32) : Option (mS × Int32) :=
  nmv (x5 + 1) fun x_49 =>
  k105 σ x3 x4 x_49
def fM_swim_b151 (N : Nat) (k105 : mS → Int32 → Int32 → Int32 → Option (mS × Int32)) (σ : mS) (x3 : Int32) (x4 : Int32) (x5 : Int32) : Option (mS × Int32) :=
  chk x5 8 <| nmv (σ.2.1 8 x5.toNatClampNeg) fun x_42 =>
  chk x5 8 <| nmv (mSj σ 8 x5.toNatClampNeg (x_42 + x4)) fun σ_43 =>
  chk x5 8 <| nmv (σ_43.2.1 8 x5.toNatClampNeg) fun x_44 =>
  if 100 ≤ x_44 then (
    chk x5 8 <| nmv (mSj σ_43 8 x5.toNatClampNeg 0) fun σ_46 =>
    chk 4 5 <| nmv (σ_46.2.1 28 (4 : Int32).toNatClampNeg) fun x_47 =>
    chk 4 5 <| nmv (mSj σ_46 28 (4 : Int32).toNatClampNeg (x_47 + 1)) fun σ_48 =>
    fM_swim_b196 N k105 σ_48 x3 x4 x5)
  else (
    fM_swim_b196 N k105 σ_43 x3 x4 x5)
def fM_swim_b105 (N : Nat) : Nat → mS → Int32 → Int32 → Int32 → Option (mS × Int32)
  | 0, _, _, _, _ => none
  | n + 1, σ, x3, x4, x5 =>
    nmv (σ.1 0) fun x_30 =>
    if x_30 ≤ x5 then (
      some (σ, x3))
    else (
      chk x5 8 <| nmv (σ.2.1 4 x5.toNatClampNeg) fun x_32 =>
      obi (fM_goneAt N σ x_32) fun σ_33 r_34 =>
      if r_34 = (-2) then (
        fM_swim_b151 N (fM_swim_b105 N n) σ_33 x3 x4 x5)
      else (
        chk x5 8 <| nmv (σ_33.2.1 9 x5.toNatClampNeg) fun x_37 =>
        chk x5 8 <| nmv (mSj σ_33 9 x5.toNatClampNeg (x_37 + 1)) fun σ_38 =>
        chk 3 5 <| nmv (σ_38.2.1 28 (3 : Int32).toNatClampNeg) fun x_39 =>
        chk 3 5 <| nmv (mSj σ_38 28 (3 : Int32).toNatClampNeg (x_39 + 1)) fun σ_40 =>
        fM_swim_b151 N (fM_swim_b105 N n) σ_40 x3 x4 x5))
def fM_swim_b63 (N : Nat) (k38 : mS → Int32 → Int32 → Int32 → Option (mS × Int32)) (σ : mS) (x3 : Int32) (x4 : Int32) (x5 : Int32) : Option (mS × Int32) :=
  nmv (x5 + 1) fun x_41 =>
  k38 σ x3 x4 x_41
def fM_swim_b38 (N : Nat) : Nat → mS → Int32 → Int32 → Int32 → Option (mS × Int32)
  | 0, _, _, _, _ => none
  | n + 1, σ, x3, x4, x5 =>
    nmv (σ.1 44) fun x_15 =>
    if x_15 ≤ x5 then (
      chk 0 5 <| nmv (σ.2.1 28 (0 : Int32).toNatClampNeg) fun x_17 =>
      chk 0 5 <| nmv (mSj σ 28 (0 : Int32).toNatClampNeg (x_17 + 1)) fun σ_18 =>
      chk 1 5 <| nmv (σ_18.2.1 28 (1 : Int32).toNatClampNeg) fun x_19 =>
      nmv (σ_18.1 44) fun x_20 =>
      chk 1 5 <| nmv (mSj σ_18 28 (1 : Int32).toNatClampNeg (x_19 + x_20)) fun σ_21 =>
      chk 2 5 <| nmv (σ_21.2.1 28 (2 : Int32).toNatClampNeg) fun x_22 =>
      chk 2 5 <| nmv (mSj σ_21 28 (2 : Int32).toNatClampNeg (x_22 + x3)) fun σ_23 =>
      fM_swim_b105 N N σ_23 x3 x4 0)
    else (
      chk x5 60 <| nmv (σ.2.1 45 x5.toNatClampNeg) fun x_24 =>
      obi (fM_isUnder N σ x_24) fun σ_25 r_26 =>
      if r_26 = 0 then (
        fM_swim_b63 N (fM_swim_b38 N n) σ_25 x3 x4 x5)
      else (
        nmv (x4 + 1) fun x_29 =>
        fM_swim_b63 N (fM_swim_b38 N n) σ_25 x3 x_29 x5))
def fM_swim (N : Nat) (σ : mS) (a0 : Int32) : Option (mS × Int32) :=
  obi (fM_isShelf N σ a0) fun σ_1 r_2 =>
  if r_2 = 0 then (
    some (σ_1, (-1)))
  else (
    obi (fM_noRow N σ_1 a0 0) fun σ_5 r_6 =>
    if 0 ≤ r_6 then (
      obi (fM_reads N σ_5 a0) fun σ_9 r_10 =>
      obi (fM_marksNow N σ_9) fun σ_12 r_13 =>
      fM_swim_b38 N N σ_12 r_13 0 0)
    else (
      some (σ_5, r_6)))
theorem bM_swim_196 {N : Nat} (C0 : mCx p s m args meth c cX2_swim 6 (some .int) L A) (hRo : 5 ≤ R.frames ∧ 117 ≤ R.locals) {σ' : mS} {r : Int32} {k105 : mS → Int32 → Int32 → Int32 → Option (mS × Int32)} (hk105 : ∀ (σ : mS) (x3 : Int32) (x4 : Int32) (x5 : Int32) (H : Heap) (locs : List Loc) (ls : Array Slot), mG A L s σ H locs → lv_has ls 6 [(0, .ref L.1), (3, .int x3), (4, .int x4), (5, .int x5)] → k105 σ x3 x4 x5 = some (σ', r) → W p l e R s m args below meth c H locs 0 0 (mZ below L A s args σ' (some (.int r))) (F0 m 105 ls [])) (σ : mS) (x3 : Int32) (x4 : Int32) (x5 : Int32) (H : Heap) (locs : List Loc) (ls : Array Slot) (hG : mG A L s σ H locs) (hl : lv_has ls 6 [(0, .ref L.1), (3, .int x3), (4, .int x4), (5, .int x5)]) (hF : fM_swim_b196 N k105 σ x3 x4 x5 = some (σ', r)) : W p l e R s m args below meth c H locs 0 0 (mZ below L A s args σ' (some (.int r))) (F0 m 196 ls []) := by
  have hx := C0.1
  have hb := C0.2.1
  unfold fM_swim_b196 at hF
  refine w_iinc hx hb dX2_swim_196 hl 3 rfl (v := 1) (by decide) (by decide) hF (fun x_49 ls hl hF => ?_)
  have hl : lv_has ls 6 [(5, .int x_49), (0, .ref L.1), (3, .int x3), (4, .int x4)] := hl
  refine lv_goto (tgt := 105) hx hb dX2_swim_199 (by decide) ?_
  exact hk105 _ _ _ _ H locs ls hG (lv_sub hl [1, 2, 3, 0] rfl) hF
theorem bM_swim_151 {N : Nat} (C0 : mCx p s m args meth c cX2_swim 6 (some .int) L A) (hRo : 5 ≤ R.frames ∧ 117 ≤ R.locals) {σ' : mS} {r : Int32} {k105 : mS → Int32 → Int32 → Int32 → Option (mS × Int32)} (hk105 : ∀ (σ : mS) (x3 : Int32) (x4 : Int32) (x5 : Int32) (H : Heap) (locs : List Loc) (ls : Array Slot), mG A L s σ H locs → lv_has ls 6 [(0, .ref L.1), (3, .int x3), (4, .int x4), (5, .int x5)] → k105 σ x3 x4 x5 = some (σ', r) → W p l e R s m args below meth c H locs 0 0 (mZ below L A s args σ' (some (.int r))) (F0 m 105 ls [])) (σ : mS) (x3 : Int32) (x4 : Int32) (x5 : Int32) (H : Heap) (locs : List Loc) (ls : Array Slot) (hG : mG A L s σ H locs) (hl : lv_has ls 6 [(0, .ref L.1), (3, .int x3), (4, .int x4), (5, .int x5)]) (hF : fM_swim_b151 N k105 σ x3 x4 x5 = some (σ', r)) : W p l e R s m args below meth c H locs 0 0 (mZ below L A s args σ' (some (.int r))) (F0 m 151 ls []) := by
  have hx := C0.1
  have hb := C0.2.1
  unfold fM_swim_b151 at hF
  refine lv_aload_n hx hb dX2_swim_151 rfl (lv_at hl 0 rfl) ?_
  refine m_geta C0 hG 8 (by decide) rfl q1586 dX2_swim_152 ?_
  refine lv_iload hx hb dX2_swim_155 (lv_at hl 3 rfl) ?_
  refine lv_dup2_11 hx hb dX2_swim_157 rfl rfl ?_
  refine m_ld C0 hG 8 ⟨by decide, rfl, by decide⟩ dX2_swim_158 hF (fun x_42 hF => ?_)
  refine lv_iload hx hb dX2_swim_159 (lv_at hl 2 rfl) ?_
  refine lv_iadd hx hb dX2_swim_161 ?_
  refine m_st C0 hG 8 ⟨by decide, rfl, by decide⟩ dX2_swim_162 hF (fun σ_43 H locs hG hF => ?_)
  refine lv_aload_n hx hb dX2_swim_163 rfl (lv_at hl 0 rfl) ?_
  refine m_geta C0 hG 8 (by decide) rfl q1586 dX2_swim_164 ?_
  refine lv_iload hx hb dX2_swim_167 (lv_at hl 3 rfl) ?_
  refine m_ld C0 hG 8 ⟨by decide, rfl, by decide⟩ dX2_swim_169 hF (fun x_44 hF => ?_)
  refine lv_bipush (v := 100) hx hb dX2_swim_170 (by decide) ?_
  refine lv_icmp_ge (tgt := 178) hx hb dX2_swim_172 (by decide) (fun c_45 => ?_) (fun c_45 => ?_)
  · have hF := ifp hF c_45
    refine lv_aload_n hx hb dX2_swim_178 rfl (lv_at hl 0 rfl) ?_
    refine m_geta C0 hG 8 (by decide) rfl q1586 dX2_swim_179 ?_
    refine lv_iload hx hb dX2_swim_182 (lv_at hl 3 rfl) ?_
    refine lv_iconst (v := 0) hx hb dX2_swim_184 (by decide) ?_
    refine m_st C0 hG 8 ⟨by decide, rfl, by decide⟩ dX2_swim_185 hF (fun σ_46 H locs hG hF => ?_)
    refine lv_aload_n hx hb dX2_swim_186 rfl (lv_at hl 0 rfl) ?_
    refine m_geta C0 hG 28 (by decide) rfl q1606 dX2_swim_187 ?_
    refine lv_iconst (v := 4) hx hb dX2_swim_190 (by decide) ?_
    refine lv_dup2_11 hx hb dX2_swim_191 rfl rfl ?_
    refine m_ld C0 hG 28 ⟨by decide, rfl, by decide⟩ dX2_swim_192 hF (fun x_47 hF => ?_)
    refine lv_iconst (v := 1) hx hb dX2_swim_193 (by decide) ?_
    refine lv_iadd hx hb dX2_swim_194 ?_
    refine m_st C0 hG 28 ⟨by decide, rfl, by decide⟩ dX2_swim_195 hF (fun σ_48 H locs hG hF => ?_)
    exact bM_swim_196 C0 hRo hk105 _ _ _ _ H locs ls hG (lv_sub hl [0, 1, 2, 3] rfl) hF
  · have hF := ifn hF c_45
    refine lv_goto (tgt := 196) hx hb dX2_swim_175 (by decide) ?_
    exact bM_swim_196 C0 hRo hk105 _ _ _ _ H locs ls hG (lv_sub hl [0, 1, 2, 3] rfl) hF
theorem bM_swim_105 {N : Nat} (C0 : mCx p s m args meth c cX2_swim 6 (some .int) L A) (hRo : 5 ≤ R.frames ∧ 117 ≤ R.locals) {σ' : mS} {r : Int32} : ∀ (n : Nat) (σ : mS) (x3 : Int32) (x4 : Int32) (x5 : Int32) (H : Heap) (locs : List Loc) (ls : Array Slot), mG A L s σ H locs → lv_has ls 6 [(0, .ref L.1), (3, .int x3), (4, .int x4), (5, .int x5)] → fM_swim_b105 N n σ x3 x4 x5 = some (σ', r) → W p l e R s m args below meth c H locs 0 0 (mZ below L A s args σ' (some (.int r))) (F0 m 105 ls []) := by
  have hx := C0.1
  have hb := C0.2.1
  intro n
  induction n with
  | zero => intro σ x3 x4 x5 H locs ls hG hl hF; cases hF
  | succ n ih =>
    intro σ x3 x4 x5 H locs ls hG hl hF
    unfold fM_swim_b105 at hF
    refine lv_iload hx hb dX2_swim_105 (lv_at hl 3 rfl) ?_
    refine lv_aload_n hx hb dX2_swim_107 rfl (lv_at hl 0 rfl) ?_
    refine m_geti C0 hG 0 (by decide) rfl q1578 dX2_swim_108 hF (fun x_30 hF => ?_)
    refine lv_icmp_ge (tgt := 202) hx hb dX2_swim_111 (by decide) (fun c_31 => ?_) (fun c_31 => ?_)
    · have hF := ifp hF c_31
      refine lv_iload_n hx hb dX2_swim_202 rfl (lv_at hl 1 rfl) ?_
      exact m_iret C0 hG dX2_swim_203 hF
    · have hF := ifn hF c_31
      refine lv_aload_n hx hb dX2_swim_114 rfl (lv_at hl 0 rfl) ?_
      refine lv_aload_n hx hb dX2_swim_115 rfl (lv_at hl 0 rfl) ?_
      refine m_geta C0 hG 4 (by decide) rfl q1582 dX2_swim_116 ?_
      refine lv_iload hx hb dX2_swim_119 (lv_at hl 3 rfl) ?_
      refine m_ld C0 hG 4 ⟨by decide, rfl, by decide⟩ dX2_swim_121 hF (fun x_32 hF => ?_)
      obtain ⟨σ_33, r_34, e_35, hF⟩ := obi_of hF
      refine m_cVi (As := [.int x_32]) (rest := []) C0 hG (mtM_goneAt l e_35) (lw_V q1944 q1946 qs83 q102 q1947) yd_X2_goneAt ⟨by omega, by omega⟩ rfl rfl hl.1 (Nat.le_of_ble_eq_true rfl) dX2_swim_122 (fun H locs hG => ?_)
      refine lv_bipush (v := (-2)) hx hb dX2_swim_125 (by decide) ?_
      refine lv_icmp_eq (tgt := 151) hx hb dX2_swim_127 (by decide) (fun c_36 => ?_) (fun c_36 => ?_)
      · have hF := ifp hF c_36
        exact bM_swim_151 C0 hRo ih _ _ _ _ H locs ls hG (lv_sub hl [0, 1, 2, 3] rfl) hF
      · have hF := ifn hF c_36
        refine lv_aload_n hx hb dX2_swim_130 rfl (lv_at hl 0 rfl) ?_
        refine m_geta C0 hG 9 (by decide) rfl q1587 dX2_swim_131 ?_
        refine lv_iload hx hb dX2_swim_134 (lv_at hl 3 rfl) ?_
        refine lv_dup2_11 hx hb dX2_swim_136 rfl rfl ?_
        refine m_ld C0 hG 9 ⟨by decide, rfl, by decide⟩ dX2_swim_137 hF (fun x_37 hF => ?_)
        refine lv_iconst (v := 1) hx hb dX2_swim_138 (by decide) ?_
        refine lv_iadd hx hb dX2_swim_139 ?_
        refine m_st C0 hG 9 ⟨by decide, rfl, by decide⟩ dX2_swim_140 hF (fun σ_38 H locs hG hF => ?_)
        refine lv_aload_n hx hb dX2_swim_141 rfl (lv_at hl 0 rfl) ?_
        refine m_geta C0 hG 28 (by decide) rfl q1606 dX2_swim_142 ?_
        refine lv_iconst (v := 3) hx hb dX2_swim_145 (by decide) ?_
        refine lv_dup2_11 hx hb dX2_swim_146 rfl rfl ?_
        refine m_ld C0 hG 28 ⟨by decide, rfl, by decide⟩ dX2_swim_147 hF (fun x_39 hF => ?_)
        refine lv_iconst (v := 1) hx hb dX2_swim_148 (by decide) ?_
        refine lv_iadd hx hb dX2_swim_149 ?_
        refine m_st C0 hG 28 ⟨by decide, rfl, by decide⟩ dX2_swim_150 hF (fun σ_40 H locs hG hF => ?_)
        exact bM_swim_151 C0 hRo ih _ _ _ _ H locs ls hG (lv_sub hl [0, 1, 2, 3] rfl) hF
theorem bM_swim_63 {N : Nat} (C0 : mCx p s m args meth c cX2_swim 6 (some .int) L A) (hRo : 5 ≤ R.frames ∧ 117 ≤ R.locals) {σ' : mS} {r : Int32} {k38 : mS → Int32 → Int32 → Int32 → Option (mS × Int32)} (hk38 : ∀ (σ : mS) (x3 : Int32) (x4 : Int32) (x5 : Int32) (H : Heap) (locs : List Loc) (ls : Array Slot), mG A L s σ H locs → lv_has ls 6 [(0, .ref L.1), (3, .int x3), (4, .int x4), (5, .int x5)] → k38 σ x3 x4 x5 = some (σ', r) → W p l e R s m args below meth c H locs 0 0 (mZ below L A s args σ' (some (.int r))) (F0 m 38 ls [])) (σ : mS) (x3 : Int32) (x4 : Int32) (x5 : Int32) (H : Heap) (locs : List Loc) (ls : Array Slot) (hG : mG A L s σ H locs) (hl : lv_has ls 6 [(0, .ref L.1), (3, .int x3), (4, .int x4), (5, .int x5)]) (hF : fM_swim_b63 N k38 σ x3 x4 x5 = some (σ', r)) : W p l e R s m args below meth c H locs 0 0 (mZ below L A s args σ' (some (.int r))) (F0 m 63 ls []) := by
  have hx := C0.1
  have hb := C0.2.1
  unfold fM_swim_b63 at hF
  refine w_iinc hx hb dX2_swim_63 hl 3 rfl (v := 1) (by decide) (by decide) hF (fun x_41 ls hl hF => ?_)
  have hl : lv_has ls 6 [(5, .int x_41), (0, .ref L.1), (3, .int x3), (4, .int x4)] := hl
  refine lv_goto (tgt := 38) hx hb dX2_swim_66 (by decide) ?_
  exact hk38 _ _ _ _ H locs ls hG (lv_sub hl [1, 2, 3, 0] rfl) hF
theorem bM_swim_38 {N : Nat} (C0 : mCx p s m args meth c cX2_swim 6 (some .int) L A) (hRo : 5 ≤ R.frames ∧ 117 ≤ R.locals) {σ' : mS} {r : Int32} : ∀ (n : Nat) (σ : mS) (x3 : Int32) (x4 : Int32) (x5 : Int32) (H : Heap) (locs : List Loc) (ls : Array Slot), mG A L s σ H locs → lv_has ls 6 [(0, .ref L.1), (3, .int x3), (4, .int x4), (5, .int x5)] → fM_swim_b38 N n σ x3 x4 x5 = some (σ', r) → W p l e R s m args below meth c H locs 0 0 (mZ below L A s args σ' (some (.int r))) (F0 m 38 ls []) := by
  have hx := C0.1
  have hb := C0.2.1
  intro n
  induction n with
  | zero => intro σ x3 x4 x5 H locs ls hG hl hF; cases hF
  | succ n ih =>
    intro σ x3 x4 x5 H locs ls hG hl hF
    unfold fM_swim_b38 at hF
    refine lv_iload hx hb dX2_swim_38 (lv_at hl 3 rfl) ?_
    refine lv_aload_n hx hb dX2_swim_40 rfl (lv_at hl 0 rfl) ?_
    refine m_geti C0 hG 44 (by decide) rfl q1622 dX2_swim_41 hF (fun x_15 hF => ?_)
    refine lv_icmp_ge (tgt := 69) hx hb dX2_swim_44 (by decide) (fun c_16 => ?_) (fun c_16 => ?_)
    · have hF := ifp hF c_16
      refine lv_aload_n hx hb dX2_swim_69 rfl (lv_at hl 0 rfl) ?_
      refine m_geta C0 hG 28 (by decide) rfl q1606 dX2_swim_70 ?_
      refine lv_iconst (v := 0) hx hb dX2_swim_73 (by decide) ?_
      refine lv_dup2_11 hx hb dX2_swim_74 rfl rfl ?_
      refine m_ld C0 hG 28 ⟨by decide, rfl, by decide⟩ dX2_swim_75 hF (fun x_17 hF => ?_)
      refine lv_iconst (v := 1) hx hb dX2_swim_76 (by decide) ?_
      refine lv_iadd hx hb dX2_swim_77 ?_
      refine m_st C0 hG 28 ⟨by decide, rfl, by decide⟩ dX2_swim_78 hF (fun σ_18 H locs hG hF => ?_)
      refine lv_aload_n hx hb dX2_swim_79 rfl (lv_at hl 0 rfl) ?_
      refine m_geta C0 hG 28 (by decide) rfl q1606 dX2_swim_80 ?_
      refine lv_iconst (v := 1) hx hb dX2_swim_83 (by decide) ?_
      refine lv_dup2_11 hx hb dX2_swim_84 rfl rfl ?_
      refine m_ld C0 hG 28 ⟨by decide, rfl, by decide⟩ dX2_swim_85 hF (fun x_19 hF => ?_)
      refine lv_aload_n hx hb dX2_swim_86 rfl (lv_at hl 0 rfl) ?_
      refine m_geti C0 hG 44 (by decide) rfl q1622 dX2_swim_87 hF (fun x_20 hF => ?_)
      refine lv_iadd hx hb dX2_swim_90 ?_
      refine m_st C0 hG 28 ⟨by decide, rfl, by decide⟩ dX2_swim_91 hF (fun σ_21 H locs hG hF => ?_)
      refine lv_aload_n hx hb dX2_swim_92 rfl (lv_at hl 0 rfl) ?_
      refine m_geta C0 hG 28 (by decide) rfl q1606 dX2_swim_93 ?_
      refine lv_iconst (v := 2) hx hb dX2_swim_96 (by decide) ?_
      refine lv_dup2_11 hx hb dX2_swim_97 rfl rfl ?_
      refine m_ld C0 hG 28 ⟨by decide, rfl, by decide⟩ dX2_swim_98 hF (fun x_22 hF => ?_)
      refine lv_iload_n hx hb dX2_swim_99 rfl (lv_at hl 1 rfl) ?_
      refine lv_iadd hx hb dX2_swim_100 ?_
      refine m_st C0 hG 28 ⟨by decide, rfl, by decide⟩ dX2_swim_101 hF (fun σ_23 H locs hG hF => ?_)
      refine lv_iconst (v := 0) hx hb dX2_swim_102 (by decide) ?_
      refine lv_istore (lv' := [(5, .int 0), (0, .ref L.1), (3, .int x3), (4, .int x4)]) hx hb dX2_swim_103 hl (by decide) rfl (fun ls hl => ?_)
      exact bM_swim_105 C0 hRo N _ _ _ _ H locs ls hG (lv_sub hl [1, 2, 3, 0] rfl) hF
    · have hF := ifn hF c_16
      refine lv_aload_n hx hb dX2_swim_47 rfl (lv_at hl 0 rfl) ?_
      refine m_geta C0 hG 45 (by decide) rfl q1623 dX2_swim_48 ?_
      refine lv_iload hx hb dX2_swim_51 (lv_at hl 3 rfl) ?_
      refine m_ld C0 hG 45 ⟨by decide, rfl, by decide⟩ dX2_swim_53 hF (fun x_24 hF => ?_)
      obtain ⟨σ_25, r_26, e_27, hF⟩ := obi_of hF
      refine m_cSi (As := [.int x_24]) (rest := []) C0 hG (mtM_isUnder l e_27) (lw_S q1948 q1949 q102 q1950) yd_X2_isUnder ⟨by omega, by omega⟩ rfl rfl hl.1 (Nat.le_of_ble_eq_true rfl) dX2_swim_54 (fun H locs hG => ?_)
      refine lv_if_eq (tgt := 63) hx hb dX2_swim_57 (by decide) (fun c_28 => ?_) (fun c_28 => ?_)
      · have hF := ifp hF c_28
        exact bM_swim_63 C0 hRo ih _ _ _ _ H locs ls hG (lv_sub hl [0, 1, 2, 3] rfl) hF
      · have hF := ifn hF c_28
        refine w_iinc hx hb dX2_swim_60 hl 2 rfl (v := 1) (by decide) (by decide) hF (fun x_29 ls hl hF => ?_)
        have hl : lv_has ls 6 [(4, .int x_29), (0, .ref L.1), (3, .int x3), (5, .int x5)] := hl
        exact bM_swim_63 C0 hRo ih _ _ _ _ H locs ls hG (lv_sub hl [1, 2, 0, 3] rfl) hF
theorem bM_swim_e {N : Nat} (C0 : mCx p s m args meth c cX2_swim 6 (some .int) L A) (hRo : 5 ≤ R.frames ∧ 117 ≤ R.locals) {σ' : mS} {r : Int32} (σ : mS) (a0 : Int32) (H : Heap) (locs : List Loc) (ls : Array Slot) (hG : mG A L s σ H locs) (hl : lv_has ls 6 [(0, .ref L.1), (1, .int a0)]) (hF : fM_swim N σ a0 = some (σ', r)) : W p l e R s m args below meth c H locs 0 0 (mZ below L A s args σ' (some (.int r))) (F0 m 0 ls []) := by
  have hx := C0.1
  have hb := C0.2.1
  unfold fM_swim at hF
  refine lv_iload_n hx hb dX2_swim_0 rfl (lv_at hl 1 rfl) ?_
  obtain ⟨σ_1, r_2, e_3, hF⟩ := obi_of hF
  refine m_cSi (As := [.int a0]) (rest := []) C0 hG (mtM_isShelf l e_3) (lw_S q1762 q1763 q102 q1764) yd_X2_isShelf ⟨by omega, by omega⟩ rfl rfl hl.1 (Nat.le_of_ble_eq_true rfl) dX2_swim_1 (fun H locs hG => ?_)
  refine lv_if_ne (tgt := 9) hx hb dX2_swim_4 (by decide) (fun c_4 => ?_) (fun c_4 => ?_)
  · have hF := ifn hF c_4
    refine lv_aload_n hx hb dX2_swim_9 rfl (lv_at hl 0 rfl) ?_
    refine lv_iload_n hx hb dX2_swim_10 rfl (lv_at hl 1 rfl) ?_
    refine lv_iconst (v := 0) hx hb dX2_swim_11 (by decide) ?_
    obtain ⟨σ_5, r_6, e_7, hF⟩ := obi_of hF
    refine m_cVi (As := [.int a0, .int 0]) (rest := []) C0 hG (mtM_noRow l e_7) (lw_V q1883 q1885 qs71 q102 q1886) yd_X2_noRow ⟨by omega, by omega⟩ rfl rfl hl.1 (Nat.le_of_ble_eq_true rfl) dX2_swim_12 (fun H locs hG => ?_)
    refine lv_istore_n (lv' := [(2, .int r_6), (0, .ref L.1), (1, .int a0)]) hx hb dX2_swim_15 rfl hl (by decide) rfl (fun ls hl => ?_)
    refine lv_iload_n hx hb dX2_swim_16 rfl (lv_at hl 0 rfl) ?_
    refine lv_if_ge (tgt := 22) hx hb dX2_swim_17 (by decide) (fun c_8 => ?_) (fun c_8 => ?_)
    · have hF := ifp hF c_8
      refine lv_aload_n hx hb dX2_swim_22 rfl (lv_at hl 1 rfl) ?_
      refine lv_iload_n hx hb dX2_swim_23 rfl (lv_at hl 2 rfl) ?_
      obtain ⟨σ_9, r_10, e_11, hF⟩ := obi_of hF
      refine m_cVv (As := [.int a0]) (rest := []) C0 hG (mtM_reads l e_11) (lw_V q1887 q1889 qs72 q102 q1890) yd_X2_reads ⟨by omega, by omega⟩ rfl rfl hl.1 (Nat.le_of_ble_eq_true rfl) dX2_swim_24 (fun H locs hG => ?_)
      refine lv_aload_n hx hb dX2_swim_27 rfl (lv_at hl 1 rfl) ?_
      obtain ⟨σ_12, r_13, e_14, hF⟩ := obi_of hF
      refine m_cVi (As := []) (rest := []) C0 hG (mtM_marksNow l e_14) (lw_V q1891 q1893 qs73 q102 q1894) yd_X2_marksNow ⟨by omega, by omega⟩ rfl rfl hl.1 (Nat.le_of_ble_eq_true rfl) dX2_swim_28 (fun H locs hG => ?_)
      refine lv_istore_n (lv' := [(3, .int r_13), (2, .int r_6), (0, .ref L.1), (1, .int a0)]) hx hb dX2_swim_31 rfl hl (by decide) rfl (fun ls hl => ?_)
      refine lv_iconst (v := 0) hx hb dX2_swim_32 (by decide) ?_
      refine lv_istore (lv' := [(4, .int 0), (3, .int r_13), (2, .int r_6), (0, .ref L.1), (1, .int a0)]) hx hb dX2_swim_33 hl (by decide) rfl (fun ls hl => ?_)
      refine lv_iconst (v := 0) hx hb dX2_swim_35 (by decide) ?_
      refine lv_istore (lv' := [(5, .int 0), (4, .int 0), (3, .int r_13), (2, .int r_6), (0, .ref L.1), (1, .int a0)]) hx hb dX2_swim_36 hl (by decide) rfl (fun ls hl => ?_)
      exact bM_swim_38 C0 hRo N _ _ _ _ H locs ls hG (lv_sub hl [4, 2, 1, 0] rfl) hF
    · have hF := ifn hF c_8
      refine lv_iload_n hx hb dX2_swim_20 rfl (lv_at hl 0 rfl) ?_
      exact m_iret C0 hG dX2_swim_21 hF
  · have hF := ifp hF c_4
    refine lv_iconst (v := (-1)) hx hb dX2_swim_7 (by decide) ?_
    exact m_iret C0 hG dX2_swim_8 hF
theorem mtM_swim (l : Launch) {N : Nat} {L : mL} {σ σ' : mS} {r : Int32} {a0 : Int32} (hF : fM_swim N σ a0 = some (σ', r)) : mMet l yX2_swim cX2_swim 6 (some .int) (5) (117) [.ref L.1, .int a0] L σ (some (.int r)) σ' := by
  refine m_head (by decide) rfl ?_
  intro p e s m below meth c A C0 hG
  have hl := lv_entry ([.ref L.1, .int a0]) (n := 6) (Nat.le_of_ble_eq_true rfl)
  rw [lg_entry_eq]
  generalize (lg_sl ([.ref L.1, .int a0]) ++ List.replicate (6 - (lg_sl ([.ref L.1, .int a0])).length) Slot.unset).toArray = ls at hl ⊢
  have hl : lv_has ls 6 [(0, .ref L.1), (1, .int a0)] := hl
  exact bM_swim_e C0 ⟨Nat.le_refl _, Nat.le_refl _⟩ _ _ _ [] ls hG hl hF
def fM_led (N : Nat) (σ : mS) (a0 : Int32) : Option (mS × Int32) :=
  obi (fM_within N σ a0 0 4) fun σ_1 r_2 =>
  if r_2 = 0 then (
    some (σ_1, (-1)))
  else (
    chk a0 5 <| nmv (σ_1.2.1 28 a0.toNatClampNeg) fun x_5 =>
    some (σ_1, x_5))
theorem bM_led_e {N : Nat} (C0 : mCx p s m args meth c cX2_led 2 (some .int) L A) (hRo : 1 ≤ R.frames ∧ 22 ≤ R.locals) {σ' : mS} {r : Int32} (σ : mS) (a0 : Int32) (H : Heap) (locs : List Loc) (ls : Array Slot) (hG : mG A L s σ H locs) (hl : lv_has ls 2 [(0, .ref L.1), (1, .int a0)]) (hF : fM_led N σ a0 = some (σ', r)) : W p l e R s m args below meth c H locs 0 0 (mZ below L A s args σ' (some (.int r))) (F0 m 0 ls []) := by
  have hx := C0.1
  have hb := C0.2.1
  unfold fM_led at hF
  refine lv_iload_n hx hb dX2_led_0 rfl (lv_at hl 1 rfl) ?_
  refine lv_iconst (v := 0) hx hb dX2_led_1 (by decide) ?_
  refine lv_iconst (v := 4) hx hb dX2_led_2 (by decide) ?_
  obtain ⟨σ_1, r_2, e_3, hF⟩ := obi_of hF
  refine m_cSi (As := [.int a0, .int 0, .int 4]) (rest := []) C0 hG (mtM_within l e_3) (lw_S q1751 q1752 q102 q1753) yd_X2_within ⟨by omega, by omega⟩ rfl rfl hl.1 (Nat.le_of_ble_eq_true rfl) dX2_led_3 (fun H locs hG => ?_)
  refine lv_if_eq (tgt := 18) hx hb dX2_led_6 (by decide) (fun c_4 => ?_) (fun c_4 => ?_)
  · have hF := ifp hF c_4
    refine lv_iconst (v := (-1)) hx hb dX2_led_18 (by decide) ?_
    exact m_iret C0 hG dX2_led_19 hF
  · have hF := ifn hF c_4
    refine lv_aload_n hx hb dX2_led_9 rfl (lv_at hl 0 rfl) ?_
    refine m_geta C0 hG 28 (by decide) rfl q1606 dX2_led_10 ?_
    refine lv_iload_n hx hb dX2_led_13 rfl (lv_at hl 1 rfl) ?_
    refine m_ld C0 hG 28 ⟨by decide, rfl, by decide⟩ dX2_led_14 hF (fun x_5 hF => ?_)
    refine lv_goto (tgt := 19) hx hb dX2_led_15 (by decide) ?_
    exact m_iret C0 hG dX2_led_19 hF
theorem mtM_led (l : Launch) {N : Nat} {L : mL} {σ σ' : mS} {r : Int32} {a0 : Int32} (hF : fM_led N σ a0 = some (σ', r)) : mMet l yX2_led cX2_led 2 (some .int) (1) (22) [.ref L.1, .int a0] L σ (some (.int r)) σ' := by
  refine m_head (by decide) rfl ?_
  intro p e s m below meth c A C0 hG
  have hl := lv_entry ([.ref L.1, .int a0]) (n := 2) (Nat.le_of_ble_eq_true rfl)
  rw [lg_entry_eq]
  generalize (lg_sl ([.ref L.1, .int a0]) ++ List.replicate (2 - (lg_sl ([.ref L.1, .int a0])).length) Slot.unset).toArray = ls at hl ⊢
  have hl : lv_has ls 2 [(0, .ref L.1), (1, .int a0)] := hl
  exact bM_led_e C0 ⟨Nat.le_refl _, Nat.le_refl _⟩ _ _ _ [] ls hG hl hF
def fM_image_b53 (N : Nat) : Nat → mS → Int32 → Option (mS × Int32)
  | 0, _, _ => none
  | n + 1, σ, x1 =>
    if 5 ≤ x1 then (
      chk 0 5 <| nmv (σ.2.1 28 (0 : Int32).toNatClampNeg) fun x_11 =>
      some (σ, x_11))
    else (
      chk x1 5 <| nmv (σ.2.1 28 x1.toNatClampNeg) fun x_12 =>
      chk x1 5 <| nmv (mSj σ 33 x1.toNatClampNeg x_12) fun σ_13 =>
      nmv (x1 + 1) fun x_14 =>
      (fM_image_b53 N n) σ_13 x_14)
def fM_image_b15 (N : Nat) : Nat → mS → Int32 → Option (mS × Int32)
  | 0, _, _ => none
  | n + 1, σ, x1 =>
    if 8 ≤ x1 then (
      fM_image_b53 N N σ 0)
    else (
      chk x1 8 <| nmv (σ.2.1 8 x1.toNatClampNeg) fun x_5 =>
      chk x1 8 <| nmv (mSj σ 31 x1.toNatClampNeg x_5) fun σ_6 =>
      chk x1 8 <| nmv (σ_6.2.1 9 x1.toNatClampNeg) fun x_7 =>
      chk x1 8 <| nmv (mSj σ_6 32 x1.toNatClampNeg x_7) fun σ_8 =>
      nmv (x1 + 1) fun x_9 =>
      (fM_image_b15 N n) σ_8 x_9)
def fM_image (N : Nat) (σ : mS) : Option (mS × Int32) :=
  nmv (mSi σ 29 1) fun σ_1 =>
  nmv (σ_1.1 0) fun x_2 =>
  nmv (mSi σ_1 30 x_2) fun σ_3 =>
  fM_image_b15 N N σ_3 0
theorem bM_image_53 {N : Nat} (C0 : mCx p s m args meth c cX2_image 2 (some .int) L A) (hRo : 0 ≤ R.frames ∧ 0 ≤ R.locals) {σ' : mS} {r : Int32} : ∀ (n : Nat) (σ : mS) (x1 : Int32) (H : Heap) (locs : List Loc) (ls : Array Slot), mG A L s σ H locs → lv_has ls 2 [(0, .ref L.1), (1, .int x1)] → fM_image_b53 N n σ x1 = some (σ', r) → W p l e R s m args below meth c H locs 0 0 (mZ below L A s args σ' (some (.int r))) (F0 m 53 ls []) := by
  have hx := C0.1
  have hb := C0.2.1
  intro n
  induction n with
  | zero => intro σ x1 H locs ls hG hl hF; cases hF
  | succ n ih =>
    intro σ x1 H locs ls hG hl hF
    unfold fM_image_b53 at hF
    refine lv_iload_n hx hb dX2_image_53 rfl (lv_at hl 1 rfl) ?_
    refine lv_iconst (v := 5) hx hb dX2_image_54 (by decide) ?_
    refine lv_icmp_ge (tgt := 76) hx hb dX2_image_55 (by decide) (fun c_10 => ?_) (fun c_10 => ?_)
    · have hF := ifp hF c_10
      refine lv_aload_n hx hb dX2_image_76 rfl (lv_at hl 0 rfl) ?_
      refine m_geta C0 hG 28 (by decide) rfl q1606 dX2_image_77 ?_
      refine lv_iconst (v := 0) hx hb dX2_image_80 (by decide) ?_
      refine m_ld C0 hG 28 ⟨by decide, rfl, by decide⟩ dX2_image_81 hF (fun x_11 hF => ?_)
      exact m_iret C0 hG dX2_image_82 hF
    · have hF := ifn hF c_10
      refine lv_aload_n hx hb dX2_image_58 rfl (lv_at hl 0 rfl) ?_
      refine m_geta C0 hG 33 (by decide) rfl q1611 dX2_image_59 ?_
      refine lv_iload_n hx hb dX2_image_62 rfl (lv_at hl 1 rfl) ?_
      refine lv_aload_n hx hb dX2_image_63 rfl (lv_at hl 0 rfl) ?_
      refine m_geta C0 hG 28 (by decide) rfl q1606 dX2_image_64 ?_
      refine lv_iload_n hx hb dX2_image_67 rfl (lv_at hl 1 rfl) ?_
      refine m_ld C0 hG 28 ⟨by decide, rfl, by decide⟩ dX2_image_68 hF (fun x_12 hF => ?_)
      refine m_st C0 hG 33 ⟨by decide, rfl, by decide⟩ dX2_image_69 hF (fun σ_13 H locs hG hF => ?_)
      refine w_iinc hx hb dX2_image_70 hl 1 rfl (v := 1) (by decide) (by decide) hF (fun x_14 ls hl hF => ?_)
      have hl : lv_has ls 2 [(1, .int x_14), (0, .ref L.1)] := hl
      refine lv_goto (tgt := 53) hx hb dX2_image_73 (by decide) ?_
      exact ih _ _ H locs ls hG (lv_sub hl [1, 0] rfl) hF
theorem bM_image_15 {N : Nat} (C0 : mCx p s m args meth c cX2_image 2 (some .int) L A) (hRo : 0 ≤ R.frames ∧ 0 ≤ R.locals) {σ' : mS} {r : Int32} : ∀ (n : Nat) (σ : mS) (x1 : Int32) (H : Heap) (locs : List Loc) (ls : Array Slot), mG A L s σ H locs → lv_has ls 2 [(0, .ref L.1), (1, .int x1)] → fM_image_b15 N n σ x1 = some (σ', r) → W p l e R s m args below meth c H locs 0 0 (mZ below L A s args σ' (some (.int r))) (F0 m 15 ls []) := by
  have hx := C0.1
  have hb := C0.2.1
  intro n
  induction n with
  | zero => intro σ x1 H locs ls hG hl hF; cases hF
  | succ n ih =>
    intro σ x1 H locs ls hG hl hF
    unfold fM_image_b15 at hF
    refine lv_iload_n hx hb dX2_image_15 rfl (lv_at hl 1 rfl) ?_
    refine lv_bipush (v := 8) hx hb dX2_image_16 (by decide) ?_
    refine lv_icmp_ge (tgt := 51) hx hb dX2_image_18 (by decide) (fun c_4 => ?_) (fun c_4 => ?_)
    · have hF := ifp hF c_4
      refine lv_iconst (v := 0) hx hb dX2_image_51 (by decide) ?_
      refine lv_istore_n (lv' := [(1, .int 0), (0, .ref L.1)]) hx hb dX2_image_52 rfl hl (by decide) rfl (fun ls hl => ?_)
      exact bM_image_53 C0 hRo N _ _ H locs ls hG (lv_sub hl [1, 0] rfl) hF
    · have hF := ifn hF c_4
      refine lv_aload_n hx hb dX2_image_21 rfl (lv_at hl 0 rfl) ?_
      refine m_geta C0 hG 31 (by decide) rfl q1609 dX2_image_22 ?_
      refine lv_iload_n hx hb dX2_image_25 rfl (lv_at hl 1 rfl) ?_
      refine lv_aload_n hx hb dX2_image_26 rfl (lv_at hl 0 rfl) ?_
      refine m_geta C0 hG 8 (by decide) rfl q1586 dX2_image_27 ?_
      refine lv_iload_n hx hb dX2_image_30 rfl (lv_at hl 1 rfl) ?_
      refine m_ld C0 hG 8 ⟨by decide, rfl, by decide⟩ dX2_image_31 hF (fun x_5 hF => ?_)
      refine m_st C0 hG 31 ⟨by decide, rfl, by decide⟩ dX2_image_32 hF (fun σ_6 H locs hG hF => ?_)
      refine lv_aload_n hx hb dX2_image_33 rfl (lv_at hl 0 rfl) ?_
      refine m_geta C0 hG 32 (by decide) rfl q1610 dX2_image_34 ?_
      refine lv_iload_n hx hb dX2_image_37 rfl (lv_at hl 1 rfl) ?_
      refine lv_aload_n hx hb dX2_image_38 rfl (lv_at hl 0 rfl) ?_
      refine m_geta C0 hG 9 (by decide) rfl q1587 dX2_image_39 ?_
      refine lv_iload_n hx hb dX2_image_42 rfl (lv_at hl 1 rfl) ?_
      refine m_ld C0 hG 9 ⟨by decide, rfl, by decide⟩ dX2_image_43 hF (fun x_7 hF => ?_)
      refine m_st C0 hG 32 ⟨by decide, rfl, by decide⟩ dX2_image_44 hF (fun σ_8 H locs hG hF => ?_)
      refine w_iinc hx hb dX2_image_45 hl 1 rfl (v := 1) (by decide) (by decide) hF (fun x_9 ls hl hF => ?_)
      have hl : lv_has ls 2 [(1, .int x_9), (0, .ref L.1)] := hl
      refine lv_goto (tgt := 15) hx hb dX2_image_48 (by decide) ?_
      exact ih _ _ H locs ls hG (lv_sub hl [1, 0] rfl) hF
theorem bM_image_e {N : Nat} (C0 : mCx p s m args meth c cX2_image 2 (some .int) L A) (hRo : 0 ≤ R.frames ∧ 0 ≤ R.locals) {σ' : mS} {r : Int32} (σ : mS) (H : Heap) (locs : List Loc) (ls : Array Slot) (hG : mG A L s σ H locs) (hl : lv_has ls 2 [(0, .ref L.1)]) (hF : fM_image N σ = some (σ', r)) : W p l e R s m args below meth c H locs 0 0 (mZ below L A s args σ' (some (.int r))) (F0 m 0 ls []) := by
  have hx := C0.1
  have hb := C0.2.1
  unfold fM_image at hF
  refine lv_aload_n hx hb dX2_image_0 rfl (lv_at hl 0 rfl) ?_
  refine lv_iconst (v := 1) hx hb dX2_image_1 (by decide) ?_
  refine m_puti C0 hG 29 (by decide) rfl q1607 dX2_image_2 (Or.inr rfl) hF (fun σ_1 H locs hG hF => ?_)
  refine lv_aload_n hx hb dX2_image_5 rfl (lv_at hl 0 rfl) ?_
  refine lv_aload_n hx hb dX2_image_6 rfl (lv_at hl 0 rfl) ?_
  refine m_geti C0 hG 0 (by decide) rfl q1578 dX2_image_7 hF (fun x_2 hF => ?_)
  refine m_puti C0 hG 30 (by decide) rfl q1608 dX2_image_10 (Or.inl ⟨by decide, by decide⟩) hF (fun σ_3 H locs hG hF => ?_)
  refine lv_iconst (v := 0) hx hb dX2_image_13 (by decide) ?_
  refine lv_istore_n (lv' := [(1, .int 0), (0, .ref L.1)]) hx hb dX2_image_14 rfl hl (by decide) rfl (fun ls hl => ?_)
  exact bM_image_15 C0 hRo N _ _ H locs ls hG (lv_sub hl [1, 0] rfl) hF
theorem mtM_image (l : Launch) {N : Nat} {L : mL} {σ σ' : mS} {r : Int32} (hF : fM_image N σ = some (σ', r)) : mMet l yX2_image cX2_image 2 (some .int) (0) (0) [.ref L.1] L σ (some (.int r)) σ' := by
  refine m_head (by decide) rfl ?_
  intro p e s m below meth c A C0 hG
  have hl := lv_entry ([.ref L.1]) (n := 2) (Nat.le_of_ble_eq_true rfl)
  rw [lg_entry_eq]
  generalize (lg_sl ([.ref L.1]) ++ List.replicate (2 - (lg_sl ([.ref L.1])).length) Slot.unset).toArray = ls at hl ⊢
  have hl : lv_has ls 2 [(0, .ref L.1)] := hl
  exact bM_image_e C0 ⟨Nat.le_refl _, Nat.le_refl _⟩ _ _ [] ls hG hl hF
end MWALK11
