section MWALK8
variable {p : Program} {l : Launch} {e : Env} {R : Room} {s : State} {m : MethodId} {args : Array Value} {below : List Frame} {meth : Method} {c : Code} {A : Nat → Prop}
variable {L : mL}
def fM_whose_b103 (N : Nat) (k55 : mS → Int32 → Int32 → Int32 → Int32 → Int32 → Option (mS × Int32)) (σ : mS) (x2 : Int32) (x4 : Int32) (x5 : Int32) (x6 : Int32) (x7 : Int32) : Option (mS × Int32) :=
  nmv (x7 + 1) fun x_27 =>
  k55 σ x2 x4 x5 x6 x_27
def fM_whose_b95 (N : Nat) (k55 : mS → Int32 → Int32 → Int32 → Int32 → Int32 → Option (mS × Int32)) (σ : mS) (x2 : Int32) (x4 : Int32) (x7 : Int32) (x8 : Int32) : Option (mS × Int32) :=
  fM_whose_b103 N k55 σ x2 x4 x7 x8 x7
def fM_whose_b55 (N : Nat) : Nat → mS → Int32 → Int32 → Int32 → Int32 → Int32 → Option (mS × Int32)
  | 0, _, _, _, _, _, _ => none
  | n + 1, σ, x2, x4, x5, x6, x7 =>
    nmv (σ.1 0) fun x_17 =>
    if x_17 ≤ x7 then (
      chk 0 3 <| nmv (mSj σ 7 (0 : Int32).toNatClampNeg x4) fun σ_19 =>
      if x2 = 0 then (
        some (σ_19, x5))
      else (
        some (σ_19, x6)))
    else (
      chk 0 3 <| nmv (mSj σ 7 (0 : Int32).toNatClampNeg x7) fun σ_21 =>
      obi (fM_marksNow N σ_21) fun σ_22 r_23 =>
      if x5 = (-2) then (
        fM_whose_b95 N (fM_whose_b55 N n) σ_22 x2 x4 x7 r_23)
      else (
        if r_23 < x6 then (
          fM_whose_b95 N (fM_whose_b55 N n) σ_22 x2 x4 x7 r_23)
        else (
          fM_whose_b103 N (fM_whose_b55 N n) σ_22 x2 x4 x5 x6 x7)))
def fM_whose (N : Nat) (σ : mS) (a0 : Int32) (a1 : Int32) : Option (mS × Int32) :=
  obi (fM_isShelf N σ a0) fun σ_1 r_2 =>
  if r_2 = 0 then (
    some (σ_1, (-1)))
  else (
    obi (fM_within N σ_1 a1 0 1) fun σ_5 r_6 =>
    if r_6 = 0 then (
      some (σ_5, (-1)))
    else (
      obi (fM_noRow N σ_5 a0 0) fun σ_9 r_10 =>
      if 0 ≤ r_10 then (
        obi (fM_reads N σ_9 a0) fun σ_13 r_14 =>
        chk 0 3 <| nmv (σ_13.2.1 7 (0 : Int32).toNatClampNeg) fun x_16 =>
        fM_whose_b55 N N σ_13 a1 x_16 (-2) (-2) 0)
      else (
        some (σ_9, r_10))))
theorem bM_whose_103 {N : Nat} (C0 : mCx p s m args meth c cX2_whose 9 (some .int) L A) (hRo : 5 ≤ R.frames ∧ 117 ≤ R.locals) {σ' : mS} {r : Int32} {k55 : mS → Int32 → Int32 → Int32 → Int32 → Int32 → Option (mS × Int32)} (hk55 : ∀ (σ : mS) (x2 : Int32) (x4 : Int32) (x5 : Int32) (x6 : Int32) (x7 : Int32) (H : Heap) (locs : List Loc) (ls : Array Slot), mG A L s σ H locs → lv_has ls 9 [(0, .ref L.1), (2, .int x2), (4, .int x4), (5, .int x5), (6, .int x6), (7, .int x7)] → k55 σ x2 x4 x5 x6 x7 = some (σ', r) → W p l e R s m args below meth c H locs 0 0 (mZ below L A s args σ' (some (.int r))) (F0 m 55 ls [])) (σ : mS) (x2 : Int32) (x4 : Int32) (x5 : Int32) (x6 : Int32) (x7 : Int32) (H : Heap) (locs : List Loc) (ls : Array Slot) (hG : mG A L s σ H locs) (hl : lv_has ls 9 [(0, .ref L.1), (2, .int x2), (4, .int x4), (5, .int x5), (6, .int x6), (7, .int x7)]) (hF : fM_whose_b103 N k55 σ x2 x4 x5 x6 x7 = some (σ', r)) : W p l e R s m args below meth c H locs 0 0 (mZ below L A s args σ' (some (.int r))) (F0 m 103 ls []) := by
  have hx := C0.1
  have hb := C0.2.1
  unfold fM_whose_b103 at hF
  refine w_iinc hx hb dX2_whose_103 hl 5 rfl (v := 1) (by decide) (by decide) hF (fun x_27 ls hl hF => ?_)
  have hl : lv_has ls 9 [(7, .int x_27), (0, .ref L.1), (2, .int x2), (4, .int x4), (5, .int x5), (6, .int x6)] := hl
  refine lv_goto (tgt := 55) hx hb dX2_whose_106 (by decide) ?_
  exact hk55 _ _ _ _ _ _ H locs ls hG (lv_sub hl [1, 2, 3, 4, 5, 0] rfl) hF
theorem bM_whose_95 {N : Nat} (C0 : mCx p s m args meth c cX2_whose 9 (some .int) L A) (hRo : 5 ≤ R.frames ∧ 117 ≤ R.locals) {σ' : mS} {r : Int32} {k55 : mS → Int32 → Int32 → Int32 → Int32 → Int32 → Option (mS × Int32)} (hk55 : ∀ (σ : mS) (x2 : Int32) (x4 : Int32) (x5 : Int32) (x6 : Int32) (x7 : Int32) (H : Heap) (locs : List Loc) (ls : Array Slot), mG A L s σ H locs → lv_has ls 9 [(0, .ref L.1), (2, .int x2), (4, .int x4), (5, .int x5), (6, .int x6), (7, .int x7)] → k55 σ x2 x4 x5 x6 x7 = some (σ', r) → W p l e R s m args below meth c H locs 0 0 (mZ below L A s args σ' (some (.int r))) (F0 m 55 ls [])) (σ : mS) (x2 : Int32) (x4 : Int32) (x7 : Int32) (x8 : Int32) (H : Heap) (locs : List Loc) (ls : Array Slot) (hG : mG A L s σ H locs) (hl : lv_has ls 9 [(0, .ref L.1), (2, .int x2), (4, .int x4), (7, .int x7), (8, .int x8)]) (hF : fM_whose_b95 N k55 σ x2 x4 x7 x8 = some (σ', r)) : W p l e R s m args below meth c H locs 0 0 (mZ below L A s args σ' (some (.int r))) (F0 m 95 ls []) := by
  have hx := C0.1
  have hb := C0.2.1
  unfold fM_whose_b95 at hF
  refine lv_iload hx hb dX2_whose_95 (lv_at hl 4 rfl) ?_
  refine lv_istore (lv' := [(6, .int x8), (0, .ref L.1), (2, .int x2), (4, .int x4), (7, .int x7), (8, .int x8)]) hx hb dX2_whose_97 hl (by decide) rfl (fun ls hl => ?_)
  refine lv_iload hx hb dX2_whose_99 (lv_at hl 4 rfl) ?_
  refine lv_istore (lv' := [(5, .int x7), (6, .int x8), (0, .ref L.1), (2, .int x2), (4, .int x4), (7, .int x7), (8, .int x8)]) hx hb dX2_whose_101 hl (by decide) rfl (fun ls hl => ?_)
  exact bM_whose_103 C0 hRo hk55 _ _ _ _ _ _ H locs ls hG (lv_sub hl [2, 3, 4, 0, 1, 5] rfl) hF
theorem bM_whose_55 {N : Nat} (C0 : mCx p s m args meth c cX2_whose 9 (some .int) L A) (hRo : 5 ≤ R.frames ∧ 117 ≤ R.locals) {σ' : mS} {r : Int32} : ∀ (n : Nat) (σ : mS) (x2 : Int32) (x4 : Int32) (x5 : Int32) (x6 : Int32) (x7 : Int32) (H : Heap) (locs : List Loc) (ls : Array Slot), mG A L s σ H locs → lv_has ls 9 [(0, .ref L.1), (2, .int x2), (4, .int x4), (5, .int x5), (6, .int x6), (7, .int x7)] → fM_whose_b55 N n σ x2 x4 x5 x6 x7 = some (σ', r) → W p l e R s m args below meth c H locs 0 0 (mZ below L A s args σ' (some (.int r))) (F0 m 55 ls []) := by
  have hx := C0.1
  have hb := C0.2.1
  intro n
  induction n with
  | zero => intro σ x2 x4 x5 x6 x7 H locs ls hG hl hF; cases hF
  | succ n ih =>
    intro σ x2 x4 x5 x6 x7 H locs ls hG hl hF
    unfold fM_whose_b55 at hF
    refine lv_iload hx hb dX2_whose_55 (lv_at hl 5 rfl) ?_
    refine lv_aload_n hx hb dX2_whose_57 rfl (lv_at hl 0 rfl) ?_
    refine m_geti C0 hG 0 (by decide) rfl q1578 dX2_whose_58 hF (fun x_17 hF => ?_)
    refine lv_icmp_ge (tgt := 109) hx hb dX2_whose_61 (by decide) (fun c_18 => ?_) (fun c_18 => ?_)
    · have hF := ifp hF c_18
      refine lv_aload_n hx hb dX2_whose_109 rfl (lv_at hl 0 rfl) ?_
      refine m_geta C0 hG 7 (by decide) rfl q1585 dX2_whose_110 ?_
      refine lv_iconst (v := 0) hx hb dX2_whose_113 (by decide) ?_
      refine lv_iload hx hb dX2_whose_114 (lv_at hl 2 rfl) ?_
      refine m_st C0 hG 7 ⟨by decide, rfl, by decide⟩ dX2_whose_116 hF (fun σ_19 H locs hG hF => ?_)
      refine lv_iload_n hx hb dX2_whose_117 rfl (lv_at hl 1 rfl) ?_
      refine lv_if_ne (tgt := 126) hx hb dX2_whose_118 (by decide) (fun c_20 => ?_) (fun c_20 => ?_)
      · have hF := ifn hF c_20
        refine lv_iload hx hb dX2_whose_126 (lv_at hl 4 rfl) ?_
        exact m_iret C0 hG dX2_whose_128 hF
      · have hF := ifp hF c_20
        refine lv_iload hx hb dX2_whose_121 (lv_at hl 3 rfl) ?_
        refine lv_goto (tgt := 128) hx hb dX2_whose_123 (by decide) ?_
        exact m_iret C0 hG dX2_whose_128 hF
    · have hF := ifn hF c_18
      refine lv_aload_n hx hb dX2_whose_64 rfl (lv_at hl 0 rfl) ?_
      refine m_geta C0 hG 7 (by decide) rfl q1585 dX2_whose_65 ?_
      refine lv_iconst (v := 0) hx hb dX2_whose_68 (by decide) ?_
      refine lv_iload hx hb dX2_whose_69 (lv_at hl 5 rfl) ?_
      refine m_st C0 hG 7 ⟨by decide, rfl, by decide⟩ dX2_whose_71 hF (fun σ_21 H locs hG hF => ?_)
      refine lv_aload_n hx hb dX2_whose_72 rfl (lv_at hl 0 rfl) ?_
      obtain ⟨σ_22, r_23, e_24, hF⟩ := obi_of hF
      refine m_cVi (As := []) (rest := []) C0 hG (mtM_marksNow l e_24) (lw_V q1891 q1893 qs73 q102 q1894) yd_X2_marksNow ⟨by omega, by omega⟩ rfl rfl hl.1 (Nat.le_of_ble_eq_true rfl) dX2_whose_73 (fun H locs hG => ?_)
      refine lv_istore (lv' := [(8, .int r_23), (0, .ref L.1), (2, .int x2), (4, .int x4), (5, .int x5), (6, .int x6), (7, .int x7)]) hx hb dX2_whose_76 hl (by decide) rfl (fun ls hl => ?_)
      refine lv_iload hx hb dX2_whose_78 (lv_at hl 4 rfl) ?_
      refine lv_bipush (v := (-2)) hx hb dX2_whose_80 (by decide) ?_
      refine lv_icmp_eq (tgt := 95) hx hb dX2_whose_82 (by decide) (fun c_25 => ?_) (fun c_25 => ?_)
      · have hF := ifp hF c_25
        exact bM_whose_95 C0 hRo ih _ _ _ _ _ H locs ls hG (lv_sub hl [1, 2, 3, 6, 0] rfl) hF
      · have hF := ifn hF c_25
        refine lv_iload hx hb dX2_whose_85 (lv_at hl 0 rfl) ?_
        refine lv_iload hx hb dX2_whose_87 (lv_at hl 5 rfl) ?_
        refine lv_icmp_lt (tgt := 95) hx hb dX2_whose_89 (by decide) (fun c_26 => ?_) (fun c_26 => ?_)
        · have hF := ifp hF c_26
          exact bM_whose_95 C0 hRo ih _ _ _ _ _ H locs ls hG (lv_sub hl [1, 2, 3, 6, 0] rfl) hF
        · have hF := ifn hF c_26
          refine lv_goto (tgt := 103) hx hb dX2_whose_92 (by decide) ?_
          exact bM_whose_103 C0 hRo ih _ _ _ _ _ _ H locs ls hG (lv_sub hl [1, 2, 3, 4, 5, 6] rfl) hF
theorem bM_whose_e {N : Nat} (C0 : mCx p s m args meth c cX2_whose 9 (some .int) L A) (hRo : 5 ≤ R.frames ∧ 117 ≤ R.locals) {σ' : mS} {r : Int32} (σ : mS) (a0 : Int32) (a1 : Int32) (H : Heap) (locs : List Loc) (ls : Array Slot) (hG : mG A L s σ H locs) (hl : lv_has ls 9 [(0, .ref L.1), (1, .int a0), (2, .int a1)]) (hF : fM_whose N σ a0 a1 = some (σ', r)) : W p l e R s m args below meth c H locs 0 0 (mZ below L A s args σ' (some (.int r))) (F0 m 0 ls []) := by
  have hx := C0.1
  have hb := C0.2.1
  unfold fM_whose at hF
  refine lv_iload_n hx hb dX2_whose_0 rfl (lv_at hl 1 rfl) ?_
  obtain ⟨σ_1, r_2, e_3, hF⟩ := obi_of hF
  refine m_cSi (As := [.int a0]) (rest := []) C0 hG (mtM_isShelf l e_3) (lw_S q1762 q1763 q102 q1764) yd_X2_isShelf ⟨by omega, by omega⟩ rfl rfl hl.1 (Nat.le_of_ble_eq_true rfl) dX2_whose_1 (fun H locs hG => ?_)
  refine lv_if_eq (tgt := 16) hx hb dX2_whose_4 (by decide) (fun c_4 => ?_) (fun c_4 => ?_)
  · have hF := ifp hF c_4
    refine lv_iconst (v := (-1)) hx hb dX2_whose_16 (by decide) ?_
    exact m_iret C0 hG dX2_whose_17 hF
  · have hF := ifn hF c_4
    refine lv_iload_n hx hb dX2_whose_7 rfl (lv_at hl 2 rfl) ?_
    refine lv_iconst (v := 0) hx hb dX2_whose_8 (by decide) ?_
    refine lv_iconst (v := 1) hx hb dX2_whose_9 (by decide) ?_
    obtain ⟨σ_5, r_6, e_7, hF⟩ := obi_of hF
    refine m_cSi (As := [.int a1, .int 0, .int 1]) (rest := []) C0 hG (mtM_within l e_7) (lw_S q1751 q1752 q102 q1753) yd_X2_within ⟨by omega, by omega⟩ rfl rfl hl.1 (Nat.le_of_ble_eq_true rfl) dX2_whose_10 (fun H locs hG => ?_)
    refine lv_if_ne (tgt := 18) hx hb dX2_whose_13 (by decide) (fun c_8 => ?_) (fun c_8 => ?_)
    · have hF := ifn hF c_8
      refine lv_aload_n hx hb dX2_whose_18 rfl (lv_at hl 0 rfl) ?_
      refine lv_iload_n hx hb dX2_whose_19 rfl (lv_at hl 1 rfl) ?_
      refine lv_iconst (v := 0) hx hb dX2_whose_20 (by decide) ?_
      obtain ⟨σ_9, r_10, e_11, hF⟩ := obi_of hF
      refine m_cVi (As := [.int a0, .int 0]) (rest := []) C0 hG (mtM_noRow l e_11) (lw_V q1883 q1885 qs71 q102 q1886) yd_X2_noRow ⟨by omega, by omega⟩ rfl rfl hl.1 (Nat.le_of_ble_eq_true rfl) dX2_whose_21 (fun H locs hG => ?_)
      refine lv_istore_n (lv' := [(3, .int r_10), (0, .ref L.1), (1, .int a0), (2, .int a1)]) hx hb dX2_whose_24 rfl hl (by decide) rfl (fun ls hl => ?_)
      refine lv_iload_n hx hb dX2_whose_25 rfl (lv_at hl 0 rfl) ?_
      refine lv_if_ge (tgt := 31) hx hb dX2_whose_26 (by decide) (fun c_12 => ?_) (fun c_12 => ?_)
      · have hF := ifp hF c_12
        refine lv_aload_n hx hb dX2_whose_31 rfl (lv_at hl 1 rfl) ?_
        refine lv_iload_n hx hb dX2_whose_32 rfl (lv_at hl 2 rfl) ?_
        obtain ⟨σ_13, r_14, e_15, hF⟩ := obi_of hF
        refine m_cVv (As := [.int a0]) (rest := []) C0 hG (mtM_reads l e_15) (lw_V q1887 q1889 qs72 q102 q1890) yd_X2_reads ⟨by omega, by omega⟩ rfl rfl hl.1 (Nat.le_of_ble_eq_true rfl) dX2_whose_33 (fun H locs hG => ?_)
        refine lv_aload_n hx hb dX2_whose_36 rfl (lv_at hl 1 rfl) ?_
        refine m_geta C0 hG 7 (by decide) rfl q1585 dX2_whose_37 ?_
        refine lv_iconst (v := 0) hx hb dX2_whose_40 (by decide) ?_
        refine m_ld C0 hG 7 ⟨by decide, rfl, by decide⟩ dX2_whose_41 hF (fun x_16 hF => ?_)
        refine lv_istore (lv' := [(4, .int x_16), (3, .int r_10), (0, .ref L.1), (1, .int a0), (2, .int a1)]) hx hb dX2_whose_42 hl (by decide) rfl (fun ls hl => ?_)
        refine lv_bipush (v := (-2)) hx hb dX2_whose_44 (by decide) ?_
        refine lv_istore (lv' := [(5, .int (-2)), (4, .int x_16), (3, .int r_10), (0, .ref L.1), (1, .int a0), (2, .int a1)]) hx hb dX2_whose_46 hl (by decide) rfl (fun ls hl => ?_)
        refine lv_bipush (v := (-2)) hx hb dX2_whose_48 (by decide) ?_
        refine lv_istore (lv' := [(6, .int (-2)), (5, .int (-2)), (4, .int x_16), (3, .int r_10), (0, .ref L.1), (1, .int a0), (2, .int a1)]) hx hb dX2_whose_50 hl (by decide) rfl (fun ls hl => ?_)
        refine lv_iconst (v := 0) hx hb dX2_whose_52 (by decide) ?_
        refine lv_istore (lv' := [(7, .int 0), (6, .int (-2)), (5, .int (-2)), (4, .int x_16), (3, .int r_10), (0, .ref L.1), (1, .int a0), (2, .int a1)]) hx hb dX2_whose_53 hl (by decide) rfl (fun ls hl => ?_)
        exact bM_whose_55 C0 hRo N _ _ _ _ _ _ H locs ls hG (lv_sub hl [5, 7, 3, 2, 1, 0] rfl) hF
      · have hF := ifn hF c_12
        refine lv_iload_n hx hb dX2_whose_29 rfl (lv_at hl 0 rfl) ?_
        exact m_iret C0 hG dX2_whose_30 hF
    · have hF := ifp hF c_8
      refine lv_iconst (v := (-1)) hx hb dX2_whose_16 (by decide) ?_
      exact m_iret C0 hG dX2_whose_17 hF
theorem mtM_whose (l : Launch) {N : Nat} {L : mL} {σ σ' : mS} {r : Int32} {a0 : Int32} {a1 : Int32} (hF : fM_whose N σ a0 a1 = some (σ', r)) : mMet l yX2_whose cX2_whose 9 (some .int) (5) (117) [.ref L.1, .int a0, .int a1] L σ (some (.int r)) σ' := by
  refine m_head (by decide) rfl ?_
  intro p e s m below meth c A C0 hG
  have hl := lv_entry ([.ref L.1, .int a0, .int a1]) (n := 9) (Nat.le_of_ble_eq_true rfl)
  rw [lg_entry_eq]
  generalize (lg_sl ([.ref L.1, .int a0, .int a1]) ++ List.replicate (9 - (lg_sl ([.ref L.1, .int a0, .int a1])).length) Slot.unset).toArray = ls at hl ⊢
  have hl : lv_has ls 9 [(0, .ref L.1), (1, .int a0), (2, .int a1)] := hl
  exact bM_whose_e C0 ⟨Nat.le_refl _, Nat.le_refl _⟩ _ _ _ _ [] ls hG hl hF
def fM_first_b113 (N : Nat) (k47 : mS → Int32 → Int32 → Int32 → Int32 → Option (mS × Int32)) (σ : mS) (x2 : Int32) (x4 : Int32) (x5 : Int32) (x6 : Int32) : Option (mS × Int32) :=
  nmv (x6 + 1) fun x_27 =>
  k47 σ x2 x4 x5 x_27
def fM_first_b105 (N : Nat) (k47 : mS → Int32 → Int32 → Int32 → Int32 → Option (mS × Int32)) (σ : mS) (x2 : Int32) (x6 : Int32) (x8 : Int32) : Option (mS × Int32) :=
  fM_first_b113 N k47 σ x2 x6 x8 x6
def fM_first_b47 (N : Nat) : Nat → mS → Int32 → Int32 → Int32 → Int32 → Option (mS × Int32)
  | 0, _, _, _, _, _ => none
  | n + 1, σ, x2, x4, x5, x6 =>
    nmv (σ.1 0) fun x_16 =>
    if x_16 ≤ x6 then (
      if x2 = 0 then (
        some (σ, x4))
      else (
        some (σ, x5)))
    else (
      chk x6 8 <| nmv (σ.2.1 5 x6.toNatClampNeg) fun x_19 =>
      chk x6 8 <| nmv (mSj σ 5 x6.toNatClampNeg 0) fun σ_20 =>
      obi (fM_marksNow N σ_20) fun σ_21 r_22 =>
      chk x6 8 <| nmv (mSj σ_21 5 x6.toNatClampNeg x_19) fun σ_24 =>
      if x4 = (-2) then (
        fM_first_b105 N (fM_first_b47 N n) σ_24 x2 x6 r_22)
      else (
        if r_22 < x5 then (
          fM_first_b105 N (fM_first_b47 N n) σ_24 x2 x6 r_22)
        else (
          fM_first_b113 N (fM_first_b47 N n) σ_24 x2 x4 x5 x6)))
def fM_first (N : Nat) (σ : mS) (a0 : Int32) (a1 : Int32) : Option (mS × Int32) :=
  obi (fM_isShelf N σ a0) fun σ_1 r_2 =>
  if r_2 = 0 then (
    some (σ_1, (-1)))
  else (
    obi (fM_within N σ_1 a1 0 1) fun σ_5 r_6 =>
    if r_6 = 0 then (
      some (σ_5, (-1)))
    else (
      obi (fM_noRow N σ_5 a0 0) fun σ_9 r_10 =>
      if 0 ≤ r_10 then (
        obi (fM_reads N σ_9 a0) fun σ_13 r_14 =>
        fM_first_b47 N N σ_13 a1 (-2) (-2) 0)
      else (
        some (σ_9, r_10))))
theorem bM_first_113 {N : Nat} (C0 : mCx p s m args meth c cX2_first 9 (some .int) L A) (hRo : 5 ≤ R.frames ∧ 117 ≤ R.locals) {σ' : mS} {r : Int32} {k47 : mS → Int32 → Int32 → Int32 → Int32 → Option (mS × Int32)} (hk47 : ∀ (σ : mS) (x2 : Int32) (x4 : Int32) (x5 : Int32) (x6 : Int32) (H : Heap) (locs : List Loc) (ls : Array Slot), mG A L s σ H locs → lv_has ls 9 [(0, .ref L.1), (2, .int x2), (4, .int x4), (5, .int x5), (6, .int x6)] → k47 σ x2 x4 x5 x6 = some (σ', r) → W p l e R s m args below meth c H locs 0 0 (mZ below L A s args σ' (some (.int r))) (F0 m 47 ls [])) (σ : mS) (x2 : Int32) (x4 : Int32) (x5 : Int32) (x6 : Int32) (H : Heap) (locs : List Loc) (ls : Array Slot) (hG : mG A L s σ H locs) (hl : lv_has ls 9 [(0, .ref L.1), (2, .int x2), (4, .int x4), (5, .int x5), (6, .int x6)]) (hF : fM_first_b113 N k47 σ x2 x4 x5 x6 = some (σ', r)) : W p l e R s m args below meth c H locs 0 0 (mZ below L A s args σ' (some (.int r))) (F0 m 113 ls []) := by
  have hx := C0.1
  have hb := C0.2.1
  unfold fM_first_b113 at hF
  refine w_iinc hx hb dX2_first_113 hl 4 rfl (v := 1) (by decide) (by decide) hF (fun x_27 ls hl hF => ?_)
  have hl : lv_has ls 9 [(6, .int x_27), (0, .ref L.1), (2, .int x2), (4, .int x4), (5, .int x5)] := hl
  refine lv_goto (tgt := 47) hx hb dX2_first_116 (by decide) ?_
  exact hk47 _ _ _ _ _ H locs ls hG (lv_sub hl [1, 2, 3, 4, 0] rfl) hF
theorem bM_first_105 {N : Nat} (C0 : mCx p s m args meth c cX2_first 9 (some .int) L A) (hRo : 5 ≤ R.frames ∧ 117 ≤ R.locals) {σ' : mS} {r : Int32} {k47 : mS → Int32 → Int32 → Int32 → Int32 → Option (mS × Int32)} (hk47 : ∀ (σ : mS) (x2 : Int32) (x4 : Int32) (x5 : Int32) (x6 : Int32) (H : Heap) (locs : List Loc) (ls : Array Slot), mG A L s σ H locs → lv_has ls 9 [(0, .ref L.1), (2, .int x2), (4, .int x4), (5, .int x5), (6, .int x6)] → k47 σ x2 x4 x5 x6 = some (σ', r) → W p l e R s m args below meth c H locs 0 0 (mZ below L A s args σ' (some (.int r))) (F0 m 47 ls [])) (σ : mS) (x2 : Int32) (x6 : Int32) (x8 : Int32) (H : Heap) (locs : List Loc) (ls : Array Slot) (hG : mG A L s σ H locs) (hl : lv_has ls 9 [(0, .ref L.1), (2, .int x2), (6, .int x6), (8, .int x8)]) (hF : fM_first_b105 N k47 σ x2 x6 x8 = some (σ', r)) : W p l e R s m args below meth c H locs 0 0 (mZ below L A s args σ' (some (.int r))) (F0 m 105 ls []) := by
  have hx := C0.1
  have hb := C0.2.1
  unfold fM_first_b105 at hF
  refine lv_iload hx hb dX2_first_105 (lv_at hl 3 rfl) ?_
  refine lv_istore (lv' := [(5, .int x8), (0, .ref L.1), (2, .int x2), (6, .int x6), (8, .int x8)]) hx hb dX2_first_107 hl (by decide) rfl (fun ls hl => ?_)
  refine lv_iload hx hb dX2_first_109 (lv_at hl 3 rfl) ?_
  refine lv_istore (lv' := [(4, .int x6), (5, .int x8), (0, .ref L.1), (2, .int x2), (6, .int x6), (8, .int x8)]) hx hb dX2_first_111 hl (by decide) rfl (fun ls hl => ?_)
  exact bM_first_113 C0 hRo hk47 _ _ _ _ _ H locs ls hG (lv_sub hl [2, 3, 0, 1, 4] rfl) hF
theorem bM_first_47 {N : Nat} (C0 : mCx p s m args meth c cX2_first 9 (some .int) L A) (hRo : 5 ≤ R.frames ∧ 117 ≤ R.locals) {σ' : mS} {r : Int32} : ∀ (n : Nat) (σ : mS) (x2 : Int32) (x4 : Int32) (x5 : Int32) (x6 : Int32) (H : Heap) (locs : List Loc) (ls : Array Slot), mG A L s σ H locs → lv_has ls 9 [(0, .ref L.1), (2, .int x2), (4, .int x4), (5, .int x5), (6, .int x6)] → fM_first_b47 N n σ x2 x4 x5 x6 = some (σ', r) → W p l e R s m args below meth c H locs 0 0 (mZ below L A s args σ' (some (.int r))) (F0 m 47 ls []) := by
  have hx := C0.1
  have hb := C0.2.1
  intro n
  induction n with
  | zero => intro σ x2 x4 x5 x6 H locs ls hG hl hF; cases hF
  | succ n ih =>
    intro σ x2 x4 x5 x6 H locs ls hG hl hF
    unfold fM_first_b47 at hF
    refine lv_iload hx hb dX2_first_47 (lv_at hl 4 rfl) ?_
    refine lv_aload_n hx hb dX2_first_49 rfl (lv_at hl 0 rfl) ?_
    refine m_geti C0 hG 0 (by decide) rfl q1578 dX2_first_50 hF (fun x_16 hF => ?_)
    refine lv_icmp_ge (tgt := 119) hx hb dX2_first_53 (by decide) (fun c_17 => ?_) (fun c_17 => ?_)
    · have hF := ifp hF c_17
      refine lv_iload_n hx hb dX2_first_119 rfl (lv_at hl 1 rfl) ?_
      refine lv_if_ne (tgt := 128) hx hb dX2_first_120 (by decide) (fun c_18 => ?_) (fun c_18 => ?_)
      · have hF := ifn hF c_18
        refine lv_iload hx hb dX2_first_128 (lv_at hl 3 rfl) ?_
        exact m_iret C0 hG dX2_first_130 hF
      · have hF := ifp hF c_18
        refine lv_iload hx hb dX2_first_123 (lv_at hl 2 rfl) ?_
        refine lv_goto (tgt := 130) hx hb dX2_first_125 (by decide) ?_
        exact m_iret C0 hG dX2_first_130 hF
    · have hF := ifn hF c_17
      refine lv_aload_n hx hb dX2_first_56 rfl (lv_at hl 0 rfl) ?_
      refine m_geta C0 hG 5 (by decide) rfl q1583 dX2_first_57 ?_
      refine lv_iload hx hb dX2_first_60 (lv_at hl 4 rfl) ?_
      refine m_ld C0 hG 5 ⟨by decide, rfl, by decide⟩ dX2_first_62 hF (fun x_19 hF => ?_)
      refine lv_istore (lv' := [(7, .int x_19), (0, .ref L.1), (2, .int x2), (4, .int x4), (5, .int x5), (6, .int x6)]) hx hb dX2_first_63 hl (by decide) rfl (fun ls hl => ?_)
      refine lv_aload_n hx hb dX2_first_65 rfl (lv_at hl 1 rfl) ?_
      refine m_geta C0 hG 5 (by decide) rfl q1583 dX2_first_66 ?_
      refine lv_iload hx hb dX2_first_69 (lv_at hl 5 rfl) ?_
      refine lv_iconst (v := 0) hx hb dX2_first_71 (by decide) ?_
      refine m_st C0 hG 5 ⟨by decide, rfl, by decide⟩ dX2_first_72 hF (fun σ_20 H locs hG hF => ?_)
      refine lv_aload_n hx hb dX2_first_73 rfl (lv_at hl 1 rfl) ?_
      obtain ⟨σ_21, r_22, e_23, hF⟩ := obi_of hF
      refine m_cVi (As := []) (rest := []) C0 hG (mtM_marksNow l e_23) (lw_V q1891 q1893 qs73 q102 q1894) yd_X2_marksNow ⟨by omega, by omega⟩ rfl rfl hl.1 (Nat.le_of_ble_eq_true rfl) dX2_first_74 (fun H locs hG => ?_)
      refine lv_istore (lv' := [(8, .int r_22), (7, .int x_19), (0, .ref L.1), (2, .int x2), (4, .int x4), (5, .int x5), (6, .int x6)]) hx hb dX2_first_77 hl (by decide) rfl (fun ls hl => ?_)
      refine lv_aload_n hx hb dX2_first_79 rfl (lv_at hl 2 rfl) ?_
      refine m_geta C0 hG 5 (by decide) rfl q1583 dX2_first_80 ?_
      refine lv_iload hx hb dX2_first_83 (lv_at hl 6 rfl) ?_
      refine lv_iload hx hb dX2_first_85 (lv_at hl 1 rfl) ?_
      refine m_st C0 hG 5 ⟨by decide, rfl, by decide⟩ dX2_first_87 hF (fun σ_24 H locs hG hF => ?_)
      refine lv_iload hx hb dX2_first_88 (lv_at hl 4 rfl) ?_
      refine lv_bipush (v := (-2)) hx hb dX2_first_90 (by decide) ?_
      refine lv_icmp_eq (tgt := 105) hx hb dX2_first_92 (by decide) (fun c_25 => ?_) (fun c_25 => ?_)
      · have hF := ifp hF c_25
        exact bM_first_105 C0 hRo ih _ _ _ _ H locs ls hG (lv_sub hl [2, 3, 6, 0] rfl) hF
      · have hF := ifn hF c_25
        refine lv_iload hx hb dX2_first_95 (lv_at hl 0 rfl) ?_
        refine lv_iload hx hb dX2_first_97 (lv_at hl 5 rfl) ?_
        refine lv_icmp_lt (tgt := 105) hx hb dX2_first_99 (by decide) (fun c_26 => ?_) (fun c_26 => ?_)
        · have hF := ifp hF c_26
          exact bM_first_105 C0 hRo ih _ _ _ _ H locs ls hG (lv_sub hl [2, 3, 6, 0] rfl) hF
        · have hF := ifn hF c_26
          refine lv_goto (tgt := 113) hx hb dX2_first_102 (by decide) ?_
          exact bM_first_113 C0 hRo ih _ _ _ _ _ H locs ls hG (lv_sub hl [2, 3, 4, 5, 6] rfl) hF
theorem bM_first_e {N : Nat} (C0 : mCx p s m args meth c cX2_first 9 (some .int) L A) (hRo : 5 ≤ R.frames ∧ 117 ≤ R.locals) {σ' : mS} {r : Int32} (σ : mS) (a0 : Int32) (a1 : Int32) (H : Heap) (locs : List Loc) (ls : Array Slot) (hG : mG A L s σ H locs) (hl : lv_has ls 9 [(0, .ref L.1), (1, .int a0), (2, .int a1)]) (hF : fM_first N σ a0 a1 = some (σ', r)) : W p l e R s m args below meth c H locs 0 0 (mZ below L A s args σ' (some (.int r))) (F0 m 0 ls []) := by
  have hx := C0.1
  have hb := C0.2.1
  unfold fM_first at hF
  refine lv_iload_n hx hb dX2_first_0 rfl (lv_at hl 1 rfl) ?_
  obtain ⟨σ_1, r_2, e_3, hF⟩ := obi_of hF
  refine m_cSi (As := [.int a0]) (rest := []) C0 hG (mtM_isShelf l e_3) (lw_S q1762 q1763 q102 q1764) yd_X2_isShelf ⟨by omega, by omega⟩ rfl rfl hl.1 (Nat.le_of_ble_eq_true rfl) dX2_first_1 (fun H locs hG => ?_)
  refine lv_if_eq (tgt := 16) hx hb dX2_first_4 (by decide) (fun c_4 => ?_) (fun c_4 => ?_)
  · have hF := ifp hF c_4
    refine lv_iconst (v := (-1)) hx hb dX2_first_16 (by decide) ?_
    exact m_iret C0 hG dX2_first_17 hF
  · have hF := ifn hF c_4
    refine lv_iload_n hx hb dX2_first_7 rfl (lv_at hl 2 rfl) ?_
    refine lv_iconst (v := 0) hx hb dX2_first_8 (by decide) ?_
    refine lv_iconst (v := 1) hx hb dX2_first_9 (by decide) ?_
    obtain ⟨σ_5, r_6, e_7, hF⟩ := obi_of hF
    refine m_cSi (As := [.int a1, .int 0, .int 1]) (rest := []) C0 hG (mtM_within l e_7) (lw_S q1751 q1752 q102 q1753) yd_X2_within ⟨by omega, by omega⟩ rfl rfl hl.1 (Nat.le_of_ble_eq_true rfl) dX2_first_10 (fun H locs hG => ?_)
    refine lv_if_ne (tgt := 18) hx hb dX2_first_13 (by decide) (fun c_8 => ?_) (fun c_8 => ?_)
    · have hF := ifn hF c_8
      refine lv_aload_n hx hb dX2_first_18 rfl (lv_at hl 0 rfl) ?_
      refine lv_iload_n hx hb dX2_first_19 rfl (lv_at hl 1 rfl) ?_
      refine lv_iconst (v := 0) hx hb dX2_first_20 (by decide) ?_
      obtain ⟨σ_9, r_10, e_11, hF⟩ := obi_of hF
      refine m_cVi (As := [.int a0, .int 0]) (rest := []) C0 hG (mtM_noRow l e_11) (lw_V q1883 q1885 qs71 q102 q1886) yd_X2_noRow ⟨by omega, by omega⟩ rfl rfl hl.1 (Nat.le_of_ble_eq_true rfl) dX2_first_21 (fun H locs hG => ?_)
      refine lv_istore_n (lv' := [(3, .int r_10), (0, .ref L.1), (1, .int a0), (2, .int a1)]) hx hb dX2_first_24 rfl hl (by decide) rfl (fun ls hl => ?_)
      refine lv_iload_n hx hb dX2_first_25 rfl (lv_at hl 0 rfl) ?_
      refine lv_if_ge (tgt := 31) hx hb dX2_first_26 (by decide) (fun c_12 => ?_) (fun c_12 => ?_)
      · have hF := ifp hF c_12
        refine lv_aload_n hx hb dX2_first_31 rfl (lv_at hl 1 rfl) ?_
        refine lv_iload_n hx hb dX2_first_32 rfl (lv_at hl 2 rfl) ?_
        obtain ⟨σ_13, r_14, e_15, hF⟩ := obi_of hF
        refine m_cVv (As := [.int a0]) (rest := []) C0 hG (mtM_reads l e_15) (lw_V q1887 q1889 qs72 q102 q1890) yd_X2_reads ⟨by omega, by omega⟩ rfl rfl hl.1 (Nat.le_of_ble_eq_true rfl) dX2_first_33 (fun H locs hG => ?_)
        refine lv_bipush (v := (-2)) hx hb dX2_first_36 (by decide) ?_
        refine lv_istore (lv' := [(4, .int (-2)), (3, .int r_10), (0, .ref L.1), (1, .int a0), (2, .int a1)]) hx hb dX2_first_38 hl (by decide) rfl (fun ls hl => ?_)
        refine lv_bipush (v := (-2)) hx hb dX2_first_40 (by decide) ?_
        refine lv_istore (lv' := [(5, .int (-2)), (4, .int (-2)), (3, .int r_10), (0, .ref L.1), (1, .int a0), (2, .int a1)]) hx hb dX2_first_42 hl (by decide) rfl (fun ls hl => ?_)
        refine lv_iconst (v := 0) hx hb dX2_first_44 (by decide) ?_
        refine lv_istore (lv' := [(6, .int 0), (5, .int (-2)), (4, .int (-2)), (3, .int r_10), (0, .ref L.1), (1, .int a0), (2, .int a1)]) hx hb dX2_first_45 hl (by decide) rfl (fun ls hl => ?_)
        exact bM_first_47 C0 hRo N _ _ _ _ _ H locs ls hG (lv_sub hl [4, 6, 2, 1, 0] rfl) hF
      · have hF := ifn hF c_12
        refine lv_iload_n hx hb dX2_first_29 rfl (lv_at hl 0 rfl) ?_
        exact m_iret C0 hG dX2_first_30 hF
    · have hF := ifp hF c_8
      refine lv_iconst (v := (-1)) hx hb dX2_first_16 (by decide) ?_
      exact m_iret C0 hG dX2_first_17 hF
theorem mtM_first (l : Launch) {N : Nat} {L : mL} {σ σ' : mS} {r : Int32} {a0 : Int32} {a1 : Int32} (hF : fM_first N σ a0 a1 = some (σ', r)) : mMet l yX2_first cX2_first 9 (some .int) (5) (117) [.ref L.1, .int a0, .int a1] L σ (some (.int r)) σ' := by
  refine m_head (by decide) rfl ?_
  intro p e s m below meth c A C0 hG
  have hl := lv_entry ([.ref L.1, .int a0, .int a1]) (n := 9) (Nat.le_of_ble_eq_true rfl)
  rw [lg_entry_eq]
  generalize (lg_sl ([.ref L.1, .int a0, .int a1]) ++ List.replicate (9 - (lg_sl ([.ref L.1, .int a0, .int a1])).length) Slot.unset).toArray = ls at hl ⊢
  have hl : lv_has ls 9 [(0, .ref L.1), (1, .int a0), (2, .int a1)] := hl
  exact bM_first_e C0 ⟨Nat.le_refl _, Nat.le_refl _⟩ _ _ _ _ [] ls hG hl hF
def fM_slip (N : Nat) (σ : mS) (a0 : Int32) (a1 : Int32) (a2 : Int32) : Option (mS × Int32) :=
  obi (fM_isShelf N σ a0) fun σ_1 r_2 =>
  if r_2 = 0 then (
    some (σ_1, (-1)))
  else (
    if a1 < 0 then (
      some (σ_1, (-1)))
    else (
      chz 100 <|
      obi (fM_isOne N σ_1 (a1 / 100)) fun σ_7 r_8 =>
      if r_8 = 0 then (
        some (σ_7, (-1)))
      else (
        chz 100 <|
        if 59 < (a1 - a1 / 100 * 100) then (
          some (σ_7, (-1)))
        else (
          obi (fM_within N σ_7 a2 (-99) 99) fun σ_13 r_14 =>
          if r_14 = 0 then (
            some (σ_13, (-1)))
          else (
            obi (fM_noRow N σ_13 a0 0) fun σ_17 r_18 =>
            if 0 ≤ r_18 then (
              obi (fM_reads N σ_17 a0) fun σ_21 r_22 =>
              chz 100 <|
              nmv (mSi σ_21 48 (a1 / 100)) fun σ_25 =>
              chz 100 <|
              nmv (mSi σ_25 49 (a1 - a1 / 100 * 100)) fun σ_27 =>
              nmv (mSi σ_27 50 a2) fun σ_28 =>
              obi (fM_marksNow N σ_28) fun σ_29 r_30 =>
              nmv (mSi σ_29 48 (-2)) fun σ_32 =>
              some (σ_32, r_30))
            else (
              some (σ_17, r_18)))))))
theorem bM_slip_e {N : Nat} (C0 : mCx p s m args meth c cX2_slip 6 (some .int) L A) (hRo : 5 ≤ R.frames ∧ 117 ≤ R.locals) {σ' : mS} {r : Int32} (σ : mS) (a0 : Int32) (a1 : Int32) (a2 : Int32) (H : Heap) (locs : List Loc) (ls : Array Slot) (hG : mG A L s σ H locs) (hl : lv_has ls 6 [(0, .ref L.1), (1, .int a0), (2, .int a1), (3, .int a2)]) (hF : fM_slip N σ a0 a1 a2 = some (σ', r)) : W p l e R s m args below meth c H locs 0 0 (mZ below L A s args σ' (some (.int r))) (F0 m 0 ls []) := by
  have hx := C0.1
  have hb := C0.2.1
  unfold fM_slip at hF
  refine lv_iload_n hx hb dX2_slip_0 rfl (lv_at hl 1 rfl) ?_
  obtain ⟨σ_1, r_2, e_3, hF⟩ := obi_of hF
  refine m_cSi (As := [.int a0]) (rest := []) C0 hG (mtM_isShelf l e_3) (lw_S q1762 q1763 q102 q1764) yd_X2_isShelf ⟨by omega, by omega⟩ rfl rfl hl.1 (Nat.le_of_ble_eq_true rfl) dX2_slip_1 (fun H locs hG => ?_)
  refine lv_if_eq (tgt := 42) hx hb dX2_slip_4 (by decide) (fun c_4 => ?_) (fun c_4 => ?_)
  · have hF := ifp hF c_4
    refine lv_iconst (v := (-1)) hx hb dX2_slip_42 (by decide) ?_
    exact m_iret C0 hG dX2_slip_43 hF
  · have hF := ifn hF c_4
    refine lv_iload_n hx hb dX2_slip_7 rfl (lv_at hl 2 rfl) ?_
    refine lv_if_lt (tgt := 42) hx hb dX2_slip_8 (by decide) (fun c_5 => ?_) (fun c_5 => ?_)
    · have hF := ifp hF c_5
      refine lv_iconst (v := (-1)) hx hb dX2_slip_42 (by decide) ?_
      exact m_iret C0 hG dX2_slip_43 hF
    · have hF := ifn hF c_5
      refine lv_aload_n hx hb dX2_slip_11 rfl (lv_at hl 0 rfl) ?_
      refine lv_iload_n hx hb dX2_slip_12 rfl (lv_at hl 2 rfl) ?_
      refine lv_bipush (v := 100) hx hb dX2_slip_13 (by decide) ?_
      obtain ⟨h_6, hF⟩ := chz_of hF
      refine lv_idiv hx hb dX2_slip_15 h_6 ?_
      obtain ⟨σ_7, r_8, e_9, hF⟩ := obi_of hF
      refine m_cVi (As := [.int (a1 / 100)]) (rest := []) C0 hG (mtM_isOne l e_9) (lw_V q1774 q1776 qs54 q102 q1777) yd_X2_isOne ⟨by omega, by omega⟩ rfl rfl hl.1 (Nat.le_of_ble_eq_true rfl) dX2_slip_16 (fun H locs hG => ?_)
      refine lv_if_eq (tgt := 42) hx hb dX2_slip_19 (by decide) (fun c_10 => ?_) (fun c_10 => ?_)
      · have hF := ifp hF c_10
        refine lv_iconst (v := (-1)) hx hb dX2_slip_42 (by decide) ?_
        exact m_iret C0 hG dX2_slip_43 hF
      · have hF := ifn hF c_10
        refine lv_iload_n hx hb dX2_slip_22 rfl (lv_at hl 2 rfl) ?_
        refine lv_bipush (v := 100) hx hb dX2_slip_23 (by decide) ?_
        obtain ⟨h_11, hF⟩ := chz_of hF
        refine lv_irem hx hb dX2_slip_25 h_11 ?_
        refine lv_bipush (v := 59) hx hb dX2_slip_26 (by decide) ?_
        refine lv_icmp_gt (tgt := 42) hx hb dX2_slip_28 (by decide) (fun c_12 => ?_) (fun c_12 => ?_)
        · have hF := ifp hF c_12
          refine lv_iconst (v := (-1)) hx hb dX2_slip_42 (by decide) ?_
          exact m_iret C0 hG dX2_slip_43 hF
        · have hF := ifn hF c_12
          refine lv_iload_n hx hb dX2_slip_31 rfl (lv_at hl 3 rfl) ?_
          refine lv_bipush (v := (-99)) hx hb dX2_slip_32 (by decide) ?_
          refine lv_bipush (v := 99) hx hb dX2_slip_34 (by decide) ?_
          obtain ⟨σ_13, r_14, e_15, hF⟩ := obi_of hF
          refine m_cSi (As := [.int a2, .int (-99), .int 99]) (rest := []) C0 hG (mtM_within l e_15) (lw_S q1751 q1752 q102 q1753) yd_X2_within ⟨by omega, by omega⟩ rfl rfl hl.1 (Nat.le_of_ble_eq_true rfl) dX2_slip_36 (fun H locs hG => ?_)
          refine lv_if_ne (tgt := 44) hx hb dX2_slip_39 (by decide) (fun c_16 => ?_) (fun c_16 => ?_)
          · have hF := ifn hF c_16
            refine lv_aload_n hx hb dX2_slip_44 rfl (lv_at hl 0 rfl) ?_
            refine lv_iload_n hx hb dX2_slip_45 rfl (lv_at hl 1 rfl) ?_
            refine lv_iconst (v := 0) hx hb dX2_slip_46 (by decide) ?_
            obtain ⟨σ_17, r_18, e_19, hF⟩ := obi_of hF
            refine m_cVi (As := [.int a0, .int 0]) (rest := []) C0 hG (mtM_noRow l e_19) (lw_V q1883 q1885 qs71 q102 q1886) yd_X2_noRow ⟨by omega, by omega⟩ rfl rfl hl.1 (Nat.le_of_ble_eq_true rfl) dX2_slip_47 (fun H locs hG => ?_)
            refine lv_istore (lv' := [(4, .int r_18), (0, .ref L.1), (1, .int a0), (2, .int a1), (3, .int a2)]) hx hb dX2_slip_50 hl (by decide) rfl (fun ls hl => ?_)
            refine lv_iload hx hb dX2_slip_52 (lv_at hl 0 rfl) ?_
            refine lv_if_ge (tgt := 60) hx hb dX2_slip_54 (by decide) (fun c_20 => ?_) (fun c_20 => ?_)
            · have hF := ifp hF c_20
              refine lv_aload_n hx hb dX2_slip_60 rfl (lv_at hl 1 rfl) ?_
              refine lv_iload_n hx hb dX2_slip_61 rfl (lv_at hl 2 rfl) ?_
              obtain ⟨σ_21, r_22, e_23, hF⟩ := obi_of hF
              refine m_cVv (As := [.int a0]) (rest := []) C0 hG (mtM_reads l e_23) (lw_V q1887 q1889 qs72 q102 q1890) yd_X2_reads ⟨by omega, by omega⟩ rfl rfl hl.1 (Nat.le_of_ble_eq_true rfl) dX2_slip_62 (fun H locs hG => ?_)
              refine lv_aload_n hx hb dX2_slip_65 rfl (lv_at hl 1 rfl) ?_
              refine lv_iload_n hx hb dX2_slip_66 rfl (lv_at hl 3 rfl) ?_
              refine lv_bipush (v := 100) hx hb dX2_slip_67 (by decide) ?_
              obtain ⟨h_24, hF⟩ := chz_of hF
              refine lv_idiv hx hb dX2_slip_69 h_24 ?_
              refine m_puti C0 hG 48 (by decide) rfl q1626 dX2_slip_70 (Or.inl ⟨by decide, by decide⟩) hF (fun σ_25 H locs hG hF => ?_)
              refine lv_aload_n hx hb dX2_slip_73 rfl (lv_at hl 1 rfl) ?_
              refine lv_iload_n hx hb dX2_slip_74 rfl (lv_at hl 3 rfl) ?_
              refine lv_bipush (v := 100) hx hb dX2_slip_75 (by decide) ?_
              obtain ⟨h_26, hF⟩ := chz_of hF
              refine lv_irem hx hb dX2_slip_77 h_26 ?_
              refine m_puti C0 hG 49 (by decide) rfl q1627 dX2_slip_78 (Or.inl ⟨by decide, by decide⟩) hF (fun σ_27 H locs hG hF => ?_)
              refine lv_aload_n hx hb dX2_slip_81 rfl (lv_at hl 1 rfl) ?_
              refine lv_iload_n hx hb dX2_slip_82 rfl (lv_at hl 4 rfl) ?_
              refine m_puti C0 hG 50 (by decide) rfl q1628 dX2_slip_83 (Or.inl ⟨by decide, by decide⟩) hF (fun σ_28 H locs hG hF => ?_)
              refine lv_aload_n hx hb dX2_slip_86 rfl (lv_at hl 1 rfl) ?_
              obtain ⟨σ_29, r_30, e_31, hF⟩ := obi_of hF
              refine m_cVi (As := []) (rest := []) C0 hG (mtM_marksNow l e_31) (lw_V q1891 q1893 qs73 q102 q1894) yd_X2_marksNow ⟨by omega, by omega⟩ rfl rfl hl.1 (Nat.le_of_ble_eq_true rfl) dX2_slip_87 (fun H locs hG => ?_)
              refine lv_istore (lv' := [(5, .int r_30), (4, .int r_18), (0, .ref L.1), (1, .int a0), (2, .int a1), (3, .int a2)]) hx hb dX2_slip_90 hl (by decide) rfl (fun ls hl => ?_)
              refine lv_aload_n hx hb dX2_slip_92 rfl (lv_at hl 2 rfl) ?_
              refine lv_bipush (v := (-2)) hx hb dX2_slip_93 (by decide) ?_
              refine m_puti C0 hG 48 (by decide) rfl q1626 dX2_slip_95 (Or.inl ⟨by decide, by decide⟩) hF (fun σ_32 H locs hG hF => ?_)
              refine lv_iload hx hb dX2_slip_98 (lv_at hl 0 rfl) ?_
              exact m_iret C0 hG dX2_slip_100 hF
            · have hF := ifn hF c_20
              refine lv_iload hx hb dX2_slip_57 (lv_at hl 0 rfl) ?_
              exact m_iret C0 hG dX2_slip_59 hF
          · have hF := ifp hF c_16
            refine lv_iconst (v := (-1)) hx hb dX2_slip_42 (by decide) ?_
            exact m_iret C0 hG dX2_slip_43 hF
theorem mtM_slip (l : Launch) {N : Nat} {L : mL} {σ σ' : mS} {r : Int32} {a0 : Int32} {a1 : Int32} {a2 : Int32} (hF : fM_slip N σ a0 a1 a2 = some (σ', r)) : mMet l yX2_slip cX2_slip 6 (some .int) (5) (117) [.ref L.1, .int a0, .int a1, .int a2] L σ (some (.int r)) σ' := by
  refine m_head (by decide) rfl ?_
  intro p e s m below meth c A C0 hG
  have hl := lv_entry ([.ref L.1, .int a0, .int a1, .int a2]) (n := 6) (Nat.le_of_ble_eq_true rfl)
  rw [lg_entry_eq]
  generalize (lg_sl ([.ref L.1, .int a0, .int a1, .int a2]) ++ List.replicate (6 - (lg_sl ([.ref L.1, .int a0, .int a1, .int a2])).length) Slot.unset).toArray = ls at hl ⊢
  have hl : lv_has ls 6 [(0, .ref L.1), (1, .int a0), (2, .int a1), (3, .int a2)] := hl
  exact bM_slip_e C0 ⟨Nat.le_refl _, Nat.le_refl _⟩ _ _ _ _ _ [] ls hG hl hF
def fM_unlike_b63 (N : Nat) (k7 : mS → Int32 → Int32 → Int32 → Int32 → Option (mS × Int32)) (σ : mS) (x1 : Int32) (x2 : Int32) (x3 : Int32) (x4 : Int32) : Option (mS × Int32) :=
  nmv (x4 + 1) fun x_10 =>
  k7 σ x1 x2 x3 x_10
def fM_unlike_b60 (N : Nat) (k7 : mS → Int32 → Int32 → Int32 → Int32 → Option (mS × Int32)) (σ : mS) (x1 : Int32) (x2 : Int32) (x4 : Int32) (x5 : Int32) : Option (mS × Int32) :=
  fM_unlike_b63 N k7 σ x1 x2 x5 x4
def fM_unlike_b49 (N : Nat) (k7 : mS → Int32 → Int32 → Int32 → Int32 → Option (mS × Int32)) (σ : mS) (x1 : Int32) (x2 : Int32) (x3 : Int32) (x4 : Int32) (x5 : Int32) : Option (mS × Int32) :=
  if x4 = 0 then (
    fM_unlike_b60 N k7 σ x1 x2 x4 x5)
  else (
    if x3 ≤ x5 then (
      fM_unlike_b63 N k7 σ x1 x2 x3 x4)
    else (
      fM_unlike_b60 N k7 σ x1 x2 x4 x5))
def fM_unlike_b46 (N : Nat) (k7 : mS → Int32 → Int32 → Int32 → Int32 → Option (mS × Int32)) (σ : mS) (x1 : Int32) (x3 : Int32) (x4 : Int32) (x5 : Int32) : Option (mS × Int32) :=
  fM_unlike_b49 N k7 σ x1 x5 x3 x4 x5
def fM_unlike_b7 (N : Nat) : Nat → mS → Int32 → Int32 → Int32 → Int32 → Option (mS × Int32)
  | 0, _, _, _, _, _ => none
  | n + 1, σ, x1, x2, x3, x4 =>
    nmv (σ.1 0) fun x_1 =>
    if x_1 ≤ x4 then (
      some (σ, x2 - x3))
    else (
      chk x4 6 <| nmv (σ.2.1 54 x4.toNatClampNeg) fun x_3 =>
      chk x_3 8 <| nmv (σ.2.1 3 x_3.toNatClampNeg) fun x_4 =>
      nmv (x_4 - (x1 * x4)) fun x_5 =>
      if x4 = 0 then (
        fM_unlike_b46 N (fM_unlike_b7 N n) σ x1 x3 x4 x_5)
      else (
        if x_5 ≤ x2 then (
          fM_unlike_b49 N (fM_unlike_b7 N n) σ x1 x2 x3 x4 x_5)
        else (
          fM_unlike_b46 N (fM_unlike_b7 N n) σ x1 x3 x4 x_5)))
def fM_unlike (N : Nat) (σ : mS) (a0 : Int32) : Option (mS × Int32) :=
  fM_unlike_b7 N N σ a0 0 0 0
theorem bM_unlike_63 {N : Nat} (C0 : mCx p s m args meth c cX2_unlike 6 (some .int) L A) (hRo : 0 ≤ R.frames ∧ 0 ≤ R.locals) {σ' : mS} {r : Int32} {k7 : mS → Int32 → Int32 → Int32 → Int32 → Option (mS × Int32)} (hk7 : ∀ (σ : mS) (x1 : Int32) (x2 : Int32) (x3 : Int32) (x4 : Int32) (H : Heap) (locs : List Loc) (ls : Array Slot), mG A L s σ H locs → lv_has ls 6 [(0, .ref L.1), (1, .int x1), (2, .int x2), (3, .int x3), (4, .int x4)] → k7 σ x1 x2 x3 x4 = some (σ', r) → W p l e R s m args below meth c H locs 0 0 (mZ below L A s args σ' (some (.int r))) (F0 m 7 ls [])) (σ : mS) (x1 : Int32) (x2 : Int32) (x3 : Int32) (x4 : Int32) (H : Heap) (locs : List Loc) (ls : Array Slot) (hG : mG A L s σ H locs) (hl : lv_has ls 6 [(0, .ref L.1), (1, .int x1), (2, .int x2), (3, .int x3), (4, .int x4)]) (hF : fM_unlike_b63 N k7 σ x1 x2 x3 x4 = some (σ', r)) : W p l e R s m args below meth c H locs 0 0 (mZ below L A s args σ' (some (.int r))) (F0 m 63 ls []) := by
  have hx := C0.1
  have hb := C0.2.1
  unfold fM_unlike_b63 at hF
  refine w_iinc hx hb dX2_unlike_63 hl 4 rfl (v := 1) (by decide) (by decide) hF (fun x_10 ls hl hF => ?_)
  have hl : lv_has ls 6 [(4, .int x_10), (0, .ref L.1), (1, .int x1), (2, .int x2), (3, .int x3)] := hl
  refine lv_goto (tgt := 7) hx hb dX2_unlike_66 (by decide) ?_
  exact hk7 _ _ _ _ _ H locs ls hG (lv_sub hl [1, 2, 3, 4, 0] rfl) hF
theorem bM_unlike_60 {N : Nat} (C0 : mCx p s m args meth c cX2_unlike 6 (some .int) L A) (hRo : 0 ≤ R.frames ∧ 0 ≤ R.locals) {σ' : mS} {r : Int32} {k7 : mS → Int32 → Int32 → Int32 → Int32 → Option (mS × Int32)} (hk7 : ∀ (σ : mS) (x1 : Int32) (x2 : Int32) (x3 : Int32) (x4 : Int32) (H : Heap) (locs : List Loc) (ls : Array Slot), mG A L s σ H locs → lv_has ls 6 [(0, .ref L.1), (1, .int x1), (2, .int x2), (3, .int x3), (4, .int x4)] → k7 σ x1 x2 x3 x4 = some (σ', r) → W p l e R s m args below meth c H locs 0 0 (mZ below L A s args σ' (some (.int r))) (F0 m 7 ls [])) (σ : mS) (x1 : Int32) (x2 : Int32) (x4 : Int32) (x5 : Int32) (H : Heap) (locs : List Loc) (ls : Array Slot) (hG : mG A L s σ H locs) (hl : lv_has ls 6 [(0, .ref L.1), (1, .int x1), (2, .int x2), (4, .int x4), (5, .int x5)]) (hF : fM_unlike_b60 N k7 σ x1 x2 x4 x5 = some (σ', r)) : W p l e R s m args below meth c H locs 0 0 (mZ below L A s args σ' (some (.int r))) (F0 m 60 ls []) := by
  have hx := C0.1
  have hb := C0.2.1
  unfold fM_unlike_b60 at hF
  refine lv_iload hx hb dX2_unlike_60 (lv_at hl 4 rfl) ?_
  refine lv_istore_n (lv' := [(3, .int x5), (0, .ref L.1), (1, .int x1), (2, .int x2), (4, .int x4), (5, .int x5)]) hx hb dX2_unlike_62 rfl hl (by decide) rfl (fun ls hl => ?_)
  exact bM_unlike_63 C0 hRo hk7 _ _ _ _ _ H locs ls hG (lv_sub hl [1, 2, 3, 0, 4] rfl) hF
theorem bM_unlike_49 {N : Nat} (C0 : mCx p s m args meth c cX2_unlike 6 (some .int) L A) (hRo : 0 ≤ R.frames ∧ 0 ≤ R.locals) {σ' : mS} {r : Int32} {k7 : mS → Int32 → Int32 → Int32 → Int32 → Option (mS × Int32)} (hk7 : ∀ (σ : mS) (x1 : Int32) (x2 : Int32) (x3 : Int32) (x4 : Int32) (H : Heap) (locs : List Loc) (ls : Array Slot), mG A L s σ H locs → lv_has ls 6 [(0, .ref L.1), (1, .int x1), (2, .int x2), (3, .int x3), (4, .int x4)] → k7 σ x1 x2 x3 x4 = some (σ', r) → W p l e R s m args below meth c H locs 0 0 (mZ below L A s args σ' (some (.int r))) (F0 m 7 ls [])) (σ : mS) (x1 : Int32) (x2 : Int32) (x3 : Int32) (x4 : Int32) (x5 : Int32) (H : Heap) (locs : List Loc) (ls : Array Slot) (hG : mG A L s σ H locs) (hl : lv_has ls 6 [(0, .ref L.1), (1, .int x1), (2, .int x2), (3, .int x3), (4, .int x4), (5, .int x5)]) (hF : fM_unlike_b49 N k7 σ x1 x2 x3 x4 x5 = some (σ', r)) : W p l e R s m args below meth c H locs 0 0 (mZ below L A s args σ' (some (.int r))) (F0 m 49 ls []) := by
  have hx := C0.1
  have hb := C0.2.1
  unfold fM_unlike_b49 at hF
  refine lv_iload hx hb dX2_unlike_49 (lv_at hl 4 rfl) ?_
  refine lv_if_eq (tgt := 60) hx hb dX2_unlike_51 (by decide) (fun c_8 => ?_) (fun c_8 => ?_)
  · have hF := ifp hF c_8
    exact bM_unlike_60 C0 hRo hk7 _ _ _ _ _ H locs ls hG (lv_sub hl [0, 1, 2, 4, 5] rfl) hF
  · have hF := ifn hF c_8
    refine lv_iload hx hb dX2_unlike_54 (lv_at hl 5 rfl) ?_
    refine lv_iload_n hx hb dX2_unlike_56 rfl (lv_at hl 3 rfl) ?_
    refine lv_icmp_ge (tgt := 63) hx hb dX2_unlike_57 (by decide) (fun c_9 => ?_) (fun c_9 => ?_)
    · have hF := ifp hF c_9
      exact bM_unlike_63 C0 hRo hk7 _ _ _ _ _ H locs ls hG (lv_sub hl [0, 1, 2, 3, 4] rfl) hF
    · have hF := ifn hF c_9
      exact bM_unlike_60 C0 hRo hk7 _ _ _ _ _ H locs ls hG (lv_sub hl [0, 1, 2, 4, 5] rfl) hF
theorem bM_unlike_46 {N : Nat} (C0 : mCx p s m args meth c cX2_unlike 6 (some .int) L A) (hRo : 0 ≤ R.frames ∧ 0 ≤ R.locals) {σ' : mS} {r : Int32} {k7 : mS → Int32 → Int32 → Int32 → Int32 → Option (mS × Int32)} (hk7 : ∀ (σ : mS) (x1 : Int32) (x2 : Int32) (x3 : Int32) (x4 : Int32) (H : Heap) (locs : List Loc) (ls : Array Slot), mG A L s σ H locs → lv_has ls 6 [(0, .ref L.1), (1, .int x1), (2, .int x2), (3, .int x3), (4, .int x4)] → k7 σ x1 x2 x3 x4 = some (σ', r) → W p l e R s m args below meth c H locs 0 0 (mZ below L A s args σ' (some (.int r))) (F0 m 7 ls [])) (σ : mS) (x1 : Int32) (x3 : Int32) (x4 : Int32) (x5 : Int32) (H : Heap) (locs : List Loc) (ls : Array Slot) (hG : mG A L s σ H locs) (hl : lv_has ls 6 [(0, .ref L.1), (1, .int x1), (3, .int x3), (4, .int x4), (5, .int x5)]) (hF : fM_unlike_b46 N k7 σ x1 x3 x4 x5 = some (σ', r)) : W p l e R s m args below meth c H locs 0 0 (mZ below L A s args σ' (some (.int r))) (F0 m 46 ls []) := by
  have hx := C0.1
  have hb := C0.2.1
  unfold fM_unlike_b46 at hF
  refine lv_iload hx hb dX2_unlike_46 (lv_at hl 4 rfl) ?_
  refine lv_istore_n (lv' := [(2, .int x5), (0, .ref L.1), (1, .int x1), (3, .int x3), (4, .int x4), (5, .int x5)]) hx hb dX2_unlike_48 rfl hl (by decide) rfl (fun ls hl => ?_)
  exact bM_unlike_49 C0 hRo hk7 _ _ _ _ _ _ H locs ls hG (lv_sub hl [1, 2, 0, 3, 4, 5] rfl) hF
theorem bM_unlike_7 {N : Nat} (C0 : mCx p s m args meth c cX2_unlike 6 (some .int) L A) (hRo : 0 ≤ R.frames ∧ 0 ≤ R.locals) {σ' : mS} {r : Int32} : ∀ (n : Nat) (σ : mS) (x1 : Int32) (x2 : Int32) (x3 : Int32) (x4 : Int32) (H : Heap) (locs : List Loc) (ls : Array Slot), mG A L s σ H locs → lv_has ls 6 [(0, .ref L.1), (1, .int x1), (2, .int x2), (3, .int x3), (4, .int x4)] → fM_unlike_b7 N n σ x1 x2 x3 x4 = some (σ', r) → W p l e R s m args below meth c H locs 0 0 (mZ below L A s args σ' (some (.int r))) (F0 m 7 ls []) := by
  have hx := C0.1
  have hb := C0.2.1
  intro n
  induction n with
  | zero => intro σ x1 x2 x3 x4 H locs ls hG hl hF; cases hF
  | succ n ih =>
    intro σ x1 x2 x3 x4 H locs ls hG hl hF
    unfold fM_unlike_b7 at hF
    refine lv_iload hx hb dX2_unlike_7 (lv_at hl 4 rfl) ?_
    refine lv_aload_n hx hb dX2_unlike_9 rfl (lv_at hl 0 rfl) ?_
    refine m_geti C0 hG 0 (by decide) rfl q1578 dX2_unlike_10 hF (fun x_1 hF => ?_)
    refine lv_icmp_ge (tgt := 69) hx hb dX2_unlike_13 (by decide) (fun c_2 => ?_) (fun c_2 => ?_)
    · have hF := ifp hF c_2
      refine lv_iload_n hx hb dX2_unlike_69 rfl (lv_at hl 2 rfl) ?_
      refine lv_iload_n hx hb dX2_unlike_70 rfl (lv_at hl 3 rfl) ?_
      refine lv_isub hx hb dX2_unlike_71 ?_
      exact m_iret C0 hG dX2_unlike_72 hF
    · have hF := ifn hF c_2
      refine lv_aload_n hx hb dX2_unlike_16 rfl (lv_at hl 0 rfl) ?_
      refine m_geta C0 hG 3 (by decide) rfl q1581 dX2_unlike_17 ?_
      refine lv_aload_n hx hb dX2_unlike_20 rfl (lv_at hl 0 rfl) ?_
      refine m_geta C0 hG 54 (by decide) rfl q1632 dX2_unlike_21 ?_
      refine lv_iload hx hb dX2_unlike_24 (lv_at hl 4 rfl) ?_
      refine m_ld C0 hG 54 ⟨by decide, rfl, by decide⟩ dX2_unlike_26 hF (fun x_3 hF => ?_)
      refine m_ld C0 hG 3 ⟨by decide, rfl, by decide⟩ dX2_unlike_27 hF (fun x_4 hF => ?_)
      refine lv_iload_n hx hb dX2_unlike_28 rfl (lv_at hl 1 rfl) ?_
      refine lv_iload hx hb dX2_unlike_29 (lv_at hl 4 rfl) ?_
      refine lv_imul hx hb dX2_unlike_31 ?_
      refine lv_isub hx hb dX2_unlike_32 ?_
      refine w_nm hF (fun x_5 hF => ?_)
      refine lv_istore (lv' := [(5, .int x_5), (0, .ref L.1), (1, .int x1), (2, .int x2), (3, .int x3), (4, .int x4)]) hx hb dX2_unlike_33 hl (by decide) rfl (fun ls hl => ?_)
      refine lv_iload hx hb dX2_unlike_35 (lv_at hl 5 rfl) ?_
      refine lv_if_eq (tgt := 46) hx hb dX2_unlike_37 (by decide) (fun c_6 => ?_) (fun c_6 => ?_)
      · have hF := ifp hF c_6
        exact bM_unlike_46 C0 hRo ih _ _ _ _ _ H locs ls hG (lv_sub hl [1, 2, 4, 5, 0] rfl) hF
      · have hF := ifn hF c_6
        refine lv_iload hx hb dX2_unlike_40 (lv_at hl 0 rfl) ?_
        refine lv_iload_n hx hb dX2_unlike_42 rfl (lv_at hl 3 rfl) ?_
        refine lv_icmp_le (tgt := 49) hx hb dX2_unlike_43 (by decide) (fun c_7 => ?_) (fun c_7 => ?_)
        · have hF := ifp hF c_7
          exact bM_unlike_49 C0 hRo ih _ _ _ _ _ _ H locs ls hG (lv_sub hl [1, 2, 3, 4, 5, 0] rfl) hF
        · have hF := ifn hF c_7
          exact bM_unlike_46 C0 hRo ih _ _ _ _ _ H locs ls hG (lv_sub hl [1, 2, 4, 5, 0] rfl) hF
theorem bM_unlike_e {N : Nat} (C0 : mCx p s m args meth c cX2_unlike 6 (some .int) L A) (hRo : 0 ≤ R.frames ∧ 0 ≤ R.locals) {σ' : mS} {r : Int32} (σ : mS) (a0 : Int32) (H : Heap) (locs : List Loc) (ls : Array Slot) (hG : mG A L s σ H locs) (hl : lv_has ls 6 [(0, .ref L.1), (1, .int a0)]) (hF : fM_unlike N σ a0 = some (σ', r)) : W p l e R s m args below meth c H locs 0 0 (mZ below L A s args σ' (some (.int r))) (F0 m 0 ls []) := by
  have hx := C0.1
  have hb := C0.2.1
  unfold fM_unlike at hF
  refine lv_iconst (v := 0) hx hb dX2_unlike_0 (by decide) ?_
  refine lv_istore_n (lv' := [(2, .int 0), (0, .ref L.1), (1, .int a0)]) hx hb dX2_unlike_1 rfl hl (by decide) rfl (fun ls hl => ?_)
  refine lv_iconst (v := 0) hx hb dX2_unlike_2 (by decide) ?_
  refine lv_istore_n (lv' := [(3, .int 0), (2, .int 0), (0, .ref L.1), (1, .int a0)]) hx hb dX2_unlike_3 rfl hl (by decide) rfl (fun ls hl => ?_)
  refine lv_iconst (v := 0) hx hb dX2_unlike_4 (by decide) ?_
  refine lv_istore (lv' := [(4, .int 0), (3, .int 0), (2, .int 0), (0, .ref L.1), (1, .int a0)]) hx hb dX2_unlike_5 hl (by decide) rfl (fun ls hl => ?_)
  exact bM_unlike_7 C0 hRo N _ _ _ _ _ H locs ls hG (lv_sub hl [3, 4, 2, 1, 0] rfl) hF
theorem mtM_unlike (l : Launch) {N : Nat} {L : mL} {σ σ' : mS} {r : Int32} {a0 : Int32} (hF : fM_unlike N σ a0 = some (σ', r)) : mMet l yX2_unlike cX2_unlike 6 (some .int) (0) (0) [.ref L.1, .int a0] L σ (some (.int r)) σ' := by
  refine m_head (by decide) rfl ?_
  intro p e s m below meth c A C0 hG
  have hl := lv_entry ([.ref L.1, .int a0]) (n := 6) (Nat.le_of_ble_eq_true rfl)
  rw [lg_entry_eq]
  generalize (lg_sl ([.ref L.1, .int a0]) ++ List.replicate (6 - (lg_sl ([.ref L.1, .int a0])).length) Slot.unset).toArray = ls at hl ⊢
  have hl : lv_has ls 6 [(0, .ref L.1), (1, .int a0)] := hl
  exact bM_unlike_e C0 ⟨Nat.le_refl _, Nat.le_refl _⟩ _ _ _ [] ls hG hl hF
def fM_exchange (N : Nat) (σ : mS) (a0 : Int32) (a1 : Int32) : Option (mS × Unit) :=
  chk a0 6 <| nmv (σ.2.1 54 a0.toNatClampNeg) fun x_1 =>
  chk a1 6 <| nmv (σ.2.1 54 a1.toNatClampNeg) fun x_2 =>
  chk a0 6 <| nmv (mSj σ 54 a0.toNatClampNeg x_2) fun σ_3 =>
  chk a1 6 <| nmv (mSj σ_3 54 a1.toNatClampNeg x_1) fun σ_4 =>
  some (σ_4, ())
theorem bM_exchange_e {N : Nat} (C0 : mCx p s m args meth c cX2_exchange 4 none L A) (hRo : 0 ≤ R.frames ∧ 0 ≤ R.locals) {σ' : mS} {r : Unit} (σ : mS) (a0 : Int32) (a1 : Int32) (H : Heap) (locs : List Loc) (ls : Array Slot) (hG : mG A L s σ H locs) (hl : lv_has ls 4 [(0, .ref L.1), (1, .int a0), (2, .int a1)]) (hF : fM_exchange N σ a0 a1 = some (σ', r)) : W p l e R s m args below meth c H locs 0 0 (mZ below L A s args σ' none) (F0 m 0 ls []) := by
  have hx := C0.1
  have hb := C0.2.1
  unfold fM_exchange at hF
  refine lv_aload_n hx hb dX2_exchange_0 rfl (lv_at hl 0 rfl) ?_
  refine m_geta C0 hG 54 (by decide) rfl q1632 dX2_exchange_1 ?_
  refine lv_iload_n hx hb dX2_exchange_4 rfl (lv_at hl 1 rfl) ?_
  refine m_ld C0 hG 54 ⟨by decide, rfl, by decide⟩ dX2_exchange_5 hF (fun x_1 hF => ?_)
  refine lv_istore_n (lv' := [(3, .int x_1), (0, .ref L.1), (1, .int a0), (2, .int a1)]) hx hb dX2_exchange_6 rfl hl (by decide) rfl (fun ls hl => ?_)
  refine lv_aload_n hx hb dX2_exchange_7 rfl (lv_at hl 1 rfl) ?_
  refine m_geta C0 hG 54 (by decide) rfl q1632 dX2_exchange_8 ?_
  refine lv_iload_n hx hb dX2_exchange_11 rfl (lv_at hl 2 rfl) ?_
  refine lv_aload_n hx hb dX2_exchange_12 rfl (lv_at hl 1 rfl) ?_
  refine m_geta C0 hG 54 (by decide) rfl q1632 dX2_exchange_13 ?_
  refine lv_iload_n hx hb dX2_exchange_16 rfl (lv_at hl 3 rfl) ?_
  refine m_ld C0 hG 54 ⟨by decide, rfl, by decide⟩ dX2_exchange_17 hF (fun x_2 hF => ?_)
  refine m_st C0 hG 54 ⟨by decide, rfl, by decide⟩ dX2_exchange_18 hF (fun σ_3 H locs hG hF => ?_)
  refine lv_aload_n hx hb dX2_exchange_19 rfl (lv_at hl 1 rfl) ?_
  refine m_geta C0 hG 54 (by decide) rfl q1632 dX2_exchange_20 ?_
  refine lv_iload_n hx hb dX2_exchange_23 rfl (lv_at hl 3 rfl) ?_
  refine lv_iload_n hx hb dX2_exchange_24 rfl (lv_at hl 0 rfl) ?_
  refine m_st C0 hG 54 ⟨by decide, rfl, by decide⟩ dX2_exchange_25 hF (fun σ_4 H locs hG hF => ?_)
  exact m_vret C0 hG dX2_exchange_26 hF
theorem mtM_exchange (l : Launch) {N : Nat} {L : mL} {σ σ' : mS} {r : Unit} {a0 : Int32} {a1 : Int32} (hF : fM_exchange N σ a0 a1 = some (σ', r)) : mMet l yX2_exchange cX2_exchange 4 none (0) (0) [.ref L.1, .int a0, .int a1] L σ none σ' := by
  refine m_head (by decide) rfl ?_
  intro p e s m below meth c A C0 hG
  have hl := lv_entry ([.ref L.1, .int a0, .int a1]) (n := 4) (Nat.le_of_ble_eq_true rfl)
  rw [lg_entry_eq]
  generalize (lg_sl ([.ref L.1, .int a0, .int a1]) ++ List.replicate (4 - (lg_sl ([.ref L.1, .int a0, .int a1])).length) Slot.unset).toArray = ls at hl ⊢
  have hl : lv_has ls 4 [(0, .ref L.1), (1, .int a0), (2, .int a1)] := hl
  exact bM_exchange_e C0 ⟨Nat.le_refl _, Nat.le_refl _⟩ _ _ _ _ [] ls hG hl hF
def fM_nextOrder_b86 (N : Nat) : Nat → mS → Int32 → Int32 → Option (mS × Int32)
  | 0, _, _, _ => none
  | n + 1, σ, x3, x4 =>
    if x4 ≤ x3 then (
      chb 1 (some (σ, 1)))
    else (
      obi (fM_exchange N σ x3 x4) fun σ_23 r_24 =>
      nmv (x3 + 1) fun x_26 =>
      nmv (x4 + (-1)) fun x_27 =>
      (fM_nextOrder_b86 N n) σ_23 x_26 x_27)
def fM_nextOrder_b47 (N : Nat) : Nat → mS → Int32 → Int32 → Option (mS × Int32)
  | 0, _, _, _ => none
  | n + 1, σ, x1, x2 =>
    chk x2 6 <| nmv (σ.2.1 54 x2.toNatClampNeg) fun x_12 =>
    chk x1 6 <| nmv (σ.2.1 54 x1.toNatClampNeg) fun x_13 =>
    if x_13 ≤ x_12 then (
      obi (fM_exchange N σ x1 x2) fun σ_15 r_16 =>
      nmv (x1 + 1) fun x_18 =>
      nmv (σ_15.1 0) fun x_19 =>
      nmv (x_19 - 1) fun x_20 =>
      fM_nextOrder_b86 N N σ_15 x_18 x_20)
    else (
      nmv (x2 + (-1)) fun x_21 =>
      (fM_nextOrder_b47 N n) σ x1 x_21)
def fM_nextOrder_b34 (N : Nat) (σ : mS) (x1 : Int32) : Option (mS × Int32) :=
  if 0 ≤ x1 then (
    nmv (σ.1 0) fun x_10 =>
    nmv (x_10 - 1) fun x_11 =>
    fM_nextOrder_b47 N N σ x1 x_11)
  else (
    chb 0 (some (σ, 0)))
def fM_nextOrder_b7 (N : Nat) : Nat → mS → Int32 → Option (mS × Int32)
  | 0, _, _ => none
  | n + 1, σ, x1 =>
    if x1 < 0 then (
      fM_nextOrder_b34 N σ x1)
    else (
      chk x1 6 <| nmv (σ.2.1 54 x1.toNatClampNeg) fun x_4 =>
      nmv (x1 + 1) fun x_5 =>
      chk x_5 6 <| nmv (σ.2.1 54 x_5.toNatClampNeg) fun x_6 =>
      if x_4 ≤ x_6 then (
        fM_nextOrder_b34 N σ x1)
      else (
        nmv (x1 + (-1)) fun x_8 =>
        (fM_nextOrder_b7 N n) σ x_8))
def fM_nextOrder (N : Nat) (σ : mS) : Option (mS × Int32) :=
  nmv (σ.1 0) fun x_1 =>
  nmv (x_1 - 2) fun x_2 =>
  fM_nextOrder_b7 N N σ x_2
theorem bM_nextOrder_86 {N : Nat} (C0 : mCx p s m args meth c cX2_nextOrder 5 (some .boolean) L A) (hRo : 1 ≤ R.frames ∧ 23 ≤ R.locals) {σ' : mS} {r : Int32} : ∀ (n : Nat) (σ : mS) (x3 : Int32) (x4 : Int32) (H : Heap) (locs : List Loc) (ls : Array Slot), mG A L s σ H locs → lv_has ls 5 [(0, .ref L.1), (3, .int x3), (4, .int x4)] → fM_nextOrder_b86 N n σ x3 x4 = some (σ', r) → W p l e R s m args below meth c H locs 0 0 (mZ below L A s args σ' (some (.int r))) (F0 m 86 ls []) := by
  have hx := C0.1
  have hb := C0.2.1
  intro n
  induction n with
  | zero => intro σ x3 x4 H locs ls hG hl hF; cases hF
  | succ n ih =>
    intro σ x3 x4 H locs ls hG hl hF
    unfold fM_nextOrder_b86 at hF
    refine lv_iload_n hx hb dX2_nextOrder_86 rfl (lv_at hl 1 rfl) ?_
    refine lv_iload hx hb dX2_nextOrder_87 (lv_at hl 2 rfl) ?_
    refine lv_icmp_ge (tgt := 108) hx hb dX2_nextOrder_89 (by decide) (fun c_22 => ?_) (fun c_22 => ?_)
    · have hF := ifp hF c_22
      refine lv_iconst (v := 1) hx hb dX2_nextOrder_108 (by decide) ?_
      exact m_zret C0 hG dX2_nextOrder_109 hF
    · have hF := ifn hF c_22
      refine lv_aload_n hx hb dX2_nextOrder_92 rfl (lv_at hl 0 rfl) ?_
      refine lv_iload_n hx hb dX2_nextOrder_93 rfl (lv_at hl 1 rfl) ?_
      refine lv_iload hx hb dX2_nextOrder_94 (lv_at hl 2 rfl) ?_
      obtain ⟨σ_23, r_24, e_25, hF⟩ := obi_of hF
      refine m_cVv (As := [.int x3, .int x4]) (rest := []) C0 hG (mtM_exchange l e_25) (lw_V q1999 q2001 qs89 q102 q2002) yd_X2_exchange ⟨by omega, by omega⟩ rfl rfl hl.1 (Nat.le_of_ble_eq_true rfl) dX2_nextOrder_96 (fun H locs hG => ?_)
      refine w_iinc hx hb dX2_nextOrder_99 hl 1 rfl (v := 1) (by decide) (by decide) hF (fun x_26 ls hl hF => ?_)
      have hl : lv_has ls 5 [(3, .int x_26), (0, .ref L.1), (4, .int x4)] := hl
      refine w_iinc hx hb dX2_nextOrder_102 hl 2 rfl (v := (-1)) (by decide) (by decide) hF (fun x_27 ls hl hF => ?_)
      have hl : lv_has ls 5 [(4, .int x_27), (3, .int x_26), (0, .ref L.1)] := hl
      refine lv_goto (tgt := 86) hx hb dX2_nextOrder_105 (by decide) ?_
      exact ih _ _ _ H locs ls hG (lv_sub hl [2, 1, 0] rfl) hF
theorem bM_nextOrder_47 {N : Nat} (C0 : mCx p s m args meth c cX2_nextOrder 5 (some .boolean) L A) (hRo : 1 ≤ R.frames ∧ 23 ≤ R.locals) {σ' : mS} {r : Int32} : ∀ (n : Nat) (σ : mS) (x1 : Int32) (x2 : Int32) (H : Heap) (locs : List Loc) (ls : Array Slot), mG A L s σ H locs → lv_has ls 5 [(0, .ref L.1), (1, .int x1), (2, .int x2)] → fM_nextOrder_b47 N n σ x1 x2 = some (σ', r) → W p l e R s m args below meth c H locs 0 0 (mZ below L A s args σ' (some (.int r))) (F0 m 47 ls []) := by
  have hx := C0.1
  have hb := C0.2.1
  intro n
  induction n with
  | zero => intro σ x1 x2 H locs ls hG hl hF; cases hF
  | succ n ih =>
    intro σ x1 x2 H locs ls hG hl hF
    unfold fM_nextOrder_b47 at hF
    refine lv_aload_n hx hb dX2_nextOrder_47 rfl (lv_at hl 0 rfl) ?_
    refine m_geta C0 hG 54 (by decide) rfl q1632 dX2_nextOrder_48 ?_
    refine lv_iload_n hx hb dX2_nextOrder_51 rfl (lv_at hl 2 rfl) ?_
    refine m_ld C0 hG 54 ⟨by decide, rfl, by decide⟩ dX2_nextOrder_52 hF (fun x_12 hF => ?_)
    refine lv_aload_n hx hb dX2_nextOrder_53 rfl (lv_at hl 0 rfl) ?_
    refine m_geta C0 hG 54 (by decide) rfl q1632 dX2_nextOrder_54 ?_
    refine lv_iload_n hx hb dX2_nextOrder_57 rfl (lv_at hl 1 rfl) ?_
    refine m_ld C0 hG 54 ⟨by decide, rfl, by decide⟩ dX2_nextOrder_58 hF (fun x_13 hF => ?_)
    refine lv_icmp_ge (tgt := 68) hx hb dX2_nextOrder_59 (by decide) (fun c_14 => ?_) (fun c_14 => ?_)
    · have hF := ifp hF c_14
      refine lv_aload_n hx hb dX2_nextOrder_68 rfl (lv_at hl 0 rfl) ?_
      refine lv_iload_n hx hb dX2_nextOrder_69 rfl (lv_at hl 1 rfl) ?_
      refine lv_iload_n hx hb dX2_nextOrder_70 rfl (lv_at hl 2 rfl) ?_
      obtain ⟨σ_15, r_16, e_17, hF⟩ := obi_of hF
      refine m_cVv (As := [.int x1, .int x2]) (rest := []) C0 hG (mtM_exchange l e_17) (lw_V q1999 q2001 qs89 q102 q2002) yd_X2_exchange ⟨by omega, by omega⟩ rfl rfl hl.1 (Nat.le_of_ble_eq_true rfl) dX2_nextOrder_71 (fun H locs hG => ?_)
      refine lv_iload_n hx hb dX2_nextOrder_74 rfl (lv_at hl 1 rfl) ?_
      refine lv_iconst (v := 1) hx hb dX2_nextOrder_75 (by decide) ?_
      refine lv_iadd hx hb dX2_nextOrder_76 ?_
      refine w_nm hF (fun x_18 hF => ?_)
      refine lv_istore_n (lv' := [(3, .int x_18), (0, .ref L.1), (1, .int x1), (2, .int x2)]) hx hb dX2_nextOrder_77 rfl hl (by decide) rfl (fun ls hl => ?_)
      refine lv_aload_n hx hb dX2_nextOrder_78 rfl (lv_at hl 1 rfl) ?_
      refine m_geti C0 hG 0 (by decide) rfl q1578 dX2_nextOrder_79 hF (fun x_19 hF => ?_)
      refine lv_iconst (v := 1) hx hb dX2_nextOrder_82 (by decide) ?_
      refine lv_isub hx hb dX2_nextOrder_83 ?_
      refine w_nm hF (fun x_20 hF => ?_)
      refine lv_istore (lv' := [(4, .int x_20), (3, .int x_18), (0, .ref L.1), (1, .int x1), (2, .int x2)]) hx hb dX2_nextOrder_84 hl (by decide) rfl (fun ls hl => ?_)
      exact bM_nextOrder_86 C0 hRo N _ _ _ H locs ls hG (lv_sub hl [2, 1, 0] rfl) hF
    · have hF := ifn hF c_14
      refine w_iinc hx hb dX2_nextOrder_62 hl 2 rfl (v := (-1)) (by decide) (by decide) hF (fun x_21 ls hl hF => ?_)
      have hl : lv_has ls 5 [(2, .int x_21), (0, .ref L.1), (1, .int x1)] := hl
      refine lv_goto (tgt := 47) hx hb dX2_nextOrder_65 (by decide) ?_
      exact ih _ _ _ H locs ls hG (lv_sub hl [1, 2, 0] rfl) hF
theorem bM_nextOrder_34 {N : Nat} (C0 : mCx p s m args meth c cX2_nextOrder 5 (some .boolean) L A) (hRo : 1 ≤ R.frames ∧ 23 ≤ R.locals) {σ' : mS} {r : Int32} (σ : mS) (x1 : Int32) (H : Heap) (locs : List Loc) (ls : Array Slot) (hG : mG A L s σ H locs) (hl : lv_has ls 5 [(0, .ref L.1), (1, .int x1)]) (hF : fM_nextOrder_b34 N σ x1 = some (σ', r)) : W p l e R s m args below meth c H locs 0 0 (mZ below L A s args σ' (some (.int r))) (F0 m 34 ls []) := by
  have hx := C0.1
  have hb := C0.2.1
  unfold fM_nextOrder_b34 at hF
  refine lv_iload_n hx hb dX2_nextOrder_34 rfl (lv_at hl 1 rfl) ?_
  refine lv_if_ge (tgt := 40) hx hb dX2_nextOrder_35 (by decide) (fun c_9 => ?_) (fun c_9 => ?_)
  · have hF := ifp hF c_9
    refine lv_aload_n hx hb dX2_nextOrder_40 rfl (lv_at hl 0 rfl) ?_
    refine m_geti C0 hG 0 (by decide) rfl q1578 dX2_nextOrder_41 hF (fun x_10 hF => ?_)
    refine lv_iconst (v := 1) hx hb dX2_nextOrder_44 (by decide) ?_
    refine lv_isub hx hb dX2_nextOrder_45 ?_
    refine w_nm hF (fun x_11 hF => ?_)
    refine lv_istore_n (lv' := [(2, .int x_11), (0, .ref L.1), (1, .int x1)]) hx hb dX2_nextOrder_46 rfl hl (by decide) rfl (fun ls hl => ?_)
    exact bM_nextOrder_47 C0 hRo N _ _ _ H locs ls hG (lv_sub hl [1, 2, 0] rfl) hF
  · have hF := ifn hF c_9
    refine lv_iconst (v := 0) hx hb dX2_nextOrder_38 (by decide) ?_
    exact m_zret C0 hG dX2_nextOrder_39 hF
theorem bM_nextOrder_7 {N : Nat} (C0 : mCx p s m args meth c cX2_nextOrder 5 (some .boolean) L A) (hRo : 1 ≤ R.frames ∧ 23 ≤ R.locals) {σ' : mS} {r : Int32} : ∀ (n : Nat) (σ : mS) (x1 : Int32) (H : Heap) (locs : List Loc) (ls : Array Slot), mG A L s σ H locs → lv_has ls 5 [(0, .ref L.1), (1, .int x1)] → fM_nextOrder_b7 N n σ x1 = some (σ', r) → W p l e R s m args below meth c H locs 0 0 (mZ below L A s args σ' (some (.int r))) (F0 m 7 ls []) := by
  have hx := C0.1
  have hb := C0.2.1
  intro n
  induction n with
  | zero => intro σ x1 H locs ls hG hl hF; cases hF
  | succ n ih =>
    intro σ x1 H locs ls hG hl hF
    unfold fM_nextOrder_b7 at hF
    refine lv_iload_n hx hb dX2_nextOrder_7 rfl (lv_at hl 1 rfl) ?_
    refine lv_if_lt (tgt := 34) hx hb dX2_nextOrder_8 (by decide) (fun c_3 => ?_) (fun c_3 => ?_)
    · have hF := ifp hF c_3
      exact bM_nextOrder_34 C0 hRo _ _ H locs ls hG (lv_sub hl [0, 1] rfl) hF
    · have hF := ifn hF c_3
      refine lv_aload_n hx hb dX2_nextOrder_11 rfl (lv_at hl 0 rfl) ?_
      refine m_geta C0 hG 54 (by decide) rfl q1632 dX2_nextOrder_12 ?_
      refine lv_iload_n hx hb dX2_nextOrder_15 rfl (lv_at hl 1 rfl) ?_
      refine m_ld C0 hG 54 ⟨by decide, rfl, by decide⟩ dX2_nextOrder_16 hF (fun x_4 hF => ?_)
      refine lv_aload_n hx hb dX2_nextOrder_17 rfl (lv_at hl 0 rfl) ?_
      refine m_geta C0 hG 54 (by decide) rfl q1632 dX2_nextOrder_18 ?_
      refine lv_iload_n hx hb dX2_nextOrder_21 rfl (lv_at hl 1 rfl) ?_
      refine lv_iconst (v := 1) hx hb dX2_nextOrder_22 (by decide) ?_
      refine lv_iadd hx hb dX2_nextOrder_23 ?_
      refine w_nm hF (fun x_5 hF => ?_)
      refine m_ld C0 hG 54 ⟨by decide, rfl, by decide⟩ dX2_nextOrder_24 hF (fun x_6 hF => ?_)
      refine lv_icmp_le (tgt := 34) hx hb dX2_nextOrder_25 (by decide) (fun c_7 => ?_) (fun c_7 => ?_)
      · have hF := ifp hF c_7
        exact bM_nextOrder_34 C0 hRo _ _ H locs ls hG (lv_sub hl [0, 1] rfl) hF
      · have hF := ifn hF c_7
        refine w_iinc hx hb dX2_nextOrder_28 hl 1 rfl (v := (-1)) (by decide) (by decide) hF (fun x_8 ls hl hF => ?_)
        have hl : lv_has ls 5 [(1, .int x_8), (0, .ref L.1)] := hl
        refine lv_goto (tgt := 7) hx hb dX2_nextOrder_31 (by decide) ?_
        exact ih _ _ H locs ls hG (lv_sub hl [1, 0] rfl) hF
theorem bM_nextOrder_e {N : Nat} (C0 : mCx p s m args meth c cX2_nextOrder 5 (some .boolean) L A) (hRo : 1 ≤ R.frames ∧ 23 ≤ R.locals) {σ' : mS} {r : Int32} (σ : mS) (H : Heap) (locs : List Loc) (ls : Array Slot) (hG : mG A L s σ H locs) (hl : lv_has ls 5 [(0, .ref L.1)]) (hF : fM_nextOrder N σ = some (σ', r)) : W p l e R s m args below meth c H locs 0 0 (mZ below L A s args σ' (some (.int r))) (F0 m 0 ls []) := by
  have hx := C0.1
  have hb := C0.2.1
  unfold fM_nextOrder at hF
  refine lv_aload_n hx hb dX2_nextOrder_0 rfl (lv_at hl 0 rfl) ?_
  refine m_geti C0 hG 0 (by decide) rfl q1578 dX2_nextOrder_1 hF (fun x_1 hF => ?_)
  refine lv_iconst (v := 2) hx hb dX2_nextOrder_4 (by decide) ?_
  refine lv_isub hx hb dX2_nextOrder_5 ?_
  refine w_nm hF (fun x_2 hF => ?_)
  refine lv_istore_n (lv' := [(1, .int x_2), (0, .ref L.1)]) hx hb dX2_nextOrder_6 rfl hl (by decide) rfl (fun ls hl => ?_)
  exact bM_nextOrder_7 C0 hRo N _ _ H locs ls hG (lv_sub hl [1, 0] rfl) hF
theorem mtM_nextOrder (l : Launch) {N : Nat} {L : mL} {σ σ' : mS} {r : Int32} (hF : fM_nextOrder N σ = some (σ', r)) : mMet l yX2_nextOrder cX2_nextOrder 5 (some .boolean) (1) (23) [.ref L.1] L σ (some (.int r)) σ' := by
  refine m_head (by decide) rfl ?_
  intro p e s m below meth c A C0 hG
  have hl := lv_entry ([.ref L.1]) (n := 5) (Nat.le_of_ble_eq_true rfl)
  rw [lg_entry_eq]
  generalize (lg_sl ([.ref L.1]) ++ List.replicate (5 - (lg_sl ([.ref L.1])).length) Slot.unset).toArray = ls at hl ⊢
  have hl : lv_has ls 5 [(0, .ref L.1)] := hl
  exact bM_nextOrder_e C0 ⟨Nat.le_refl _, Nat.le_refl _⟩ _ _ [] ls hG hl hF
end MWALK8
