section MWALK9
variable {p : Program} {l : Launch} {e : Env} {R : Room} {s : State} {m : MethodId} {args : Array Value} {below : List Frame} {meth : Method} {c : Code} {A : Nat → Prop}
variable {L : mL}
def fM_line_b121 (N : Nat) (k66 : mS → Int32 → Int32 → Int32 → Int32 → Option (mS × Int32)) (σ : mS) (x1 : Int32) (x2 : Int32) (x3 : Int32) : Option (mS × Int32) :=
  obi (fM_nextOrder N σ) fun σ_21 r_22 =>
  k66 σ_21 x1 x2 x3 r_22
def fM_line_b94 (N : Nat) (k66 : mS → Int32 → Int32 → Int32 → Int32 → Option (mS × Int32)) : Nat → mS → Int32 → Int32 → Int32 → Int32 → Option (mS × Int32)
  | 0, _, _, _, _, _ => none
  | n + 1, σ, x1, x2, x3, x6 =>
    if 6 ≤ x6 then (
      fM_line_b121 N k66 σ x1 x2 x3)
    else (
      chk x6 6 <| nmv (σ.2.1 54 x6.toNatClampNeg) fun x_25 =>
      chk x6 6 <| nmv (mSj σ 55 x6.toNatClampNeg x_25) fun σ_26 =>
      nmv (x6 + 1) fun x_27 =>
      (fM_line_b94 N k66 n) σ_26 x1 x2 x3 x_27)
def fM_line_b88 (N : Nat) (k66 : mS → Int32 → Int32 → Int32 → Int32 → Option (mS × Int32)) (σ : mS) (x1 : Int32) (x2 : Int32) (x5 : Int32) : Option (mS × Int32) :=
  fM_line_b94 N k66 N σ x1 x2 x5 0
def fM_line_b66 (N : Nat) : Nat → mS → Int32 → Int32 → Int32 → Int32 → Option (mS × Int32)
  | 0, _, _, _, _, _ => none
  | n + 1, σ, x1, x2, x3, x4 =>
    if x4 = 0 then (
      if x2 = (-1) then (
        some (σ, x3))
      else (
        chk x2 6 <| nmv (σ.2.1 55 x2.toNatClampNeg) fun x_15 =>
        some (σ, x_15)))
    else (
      obi (fM_unlike N σ x1) fun σ_16 r_17 =>
      if x3 < 0 then (
        fM_line_b88 N (fM_line_b66 N n) σ_16 x1 x2 r_17)
      else (
        if x3 ≤ r_17 then (
          fM_line_b121 N (fM_line_b66 N n) σ_16 x1 x2 x3)
        else (
          fM_line_b88 N (fM_line_b66 N n) σ_16 x1 x2 r_17)))
def fM_line_b42 (N : Nat) : Nat → mS → Int32 → Int32 → Int32 → Option (mS × Int32)
  | 0, _, _, _, _ => none
  | n + 1, σ, x1, x2, x3 =>
    if 6 ≤ x3 then (
      fM_line_b66 N N σ x1 x2 (-1) 1)
    else (
      chk x3 6 <| nmv (mSj σ 54 x3.toNatClampNeg x3) fun σ_11 =>
      nmv (x3 + 1) fun x_12 =>
      (fM_line_b42 N n) σ_11 x1 x2 x_12)
def fM_line (N : Nat) (σ : mS) (a0 : Int32) (a1 : Int32) : Option (mS × Int32) :=
  obi (fM_within N σ a0 0 9) fun σ_1 r_2 =>
  if r_2 = 0 then (
    some (σ_1, (-1)))
  else (
    if (-1) ≤ a1 then (
      nmv (σ_1.1 0) fun x_6 =>
      if x_6 ≤ 6 then (
        nmv (σ_1.1 0) fun x_8 =>
        if a1 < x_8 then (
          fM_line_b42 N N σ_1 a0 a1 0)
        else (
          some (σ_1, (-2))))
      else (
        some (σ_1, (-5))))
    else (
      some (σ_1, (-1))))
theorem bM_line_121 {N : Nat} (C0 : mCx p s m args meth c cX2_line 7 (some .int) L A) (hRo : 2 ≤ R.frames ∧ 47 ≤ R.locals) {σ' : mS} {r : Int32} {k66 : mS → Int32 → Int32 → Int32 → Int32 → Option (mS × Int32)} (hk66 : ∀ (σ : mS) (x1 : Int32) (x2 : Int32) (x3 : Int32) (x4 : Int32) (H : Heap) (locs : List Loc) (ls : Array Slot), mG A L s σ H locs → lv_has ls 7 [(0, .ref L.1), (1, .int x1), (2, .int x2), (3, .int x3), (4, .int x4)] → k66 σ x1 x2 x3 x4 = some (σ', r) → W p l e R s m args below meth c H locs 0 0 (mZ below L A s args σ' (some (.int r))) (F0 m 66 ls [])) (σ : mS) (x1 : Int32) (x2 : Int32) (x3 : Int32) (H : Heap) (locs : List Loc) (ls : Array Slot) (hG : mG A L s σ H locs) (hl : lv_has ls 7 [(0, .ref L.1), (1, .int x1), (2, .int x2), (3, .int x3)]) (hF : fM_line_b121 N k66 σ x1 x2 x3 = some (σ', r)) : W p l e R s m args below meth c H locs 0 0 (mZ below L A s args σ' (some (.int r))) (F0 m 121 ls []) := by
  have hx := C0.1
  have hb := C0.2.1
  unfold fM_line_b121 at hF
  refine lv_aload_n hx hb dX2_line_121 rfl (lv_at hl 0 rfl) ?_
  obtain ⟨σ_21, r_22, e_23, hF⟩ := obi_of hF
  refine m_cVi (As := []) (rest := []) C0 hG (mtM_nextOrder l e_23) (lw_V q1995 q1997 qs88 q102 q1998) yd_X2_nextOrder ⟨by omega, by omega⟩ rfl rfl hl.1 (Nat.le_of_ble_eq_true rfl) dX2_line_122 (fun H locs hG => ?_)
  refine lv_istore (lv' := [(4, .int r_22), (0, .ref L.1), (1, .int x1), (2, .int x2), (3, .int x3)]) hx hb dX2_line_125 hl (by decide) rfl (fun ls hl => ?_)
  refine lv_goto (tgt := 66) hx hb dX2_line_127 (by decide) ?_
  exact hk66 _ _ _ _ _ H locs ls hG (lv_sub hl [1, 2, 3, 4, 0] rfl) hF
theorem bM_line_94 {N : Nat} (C0 : mCx p s m args meth c cX2_line 7 (some .int) L A) (hRo : 2 ≤ R.frames ∧ 47 ≤ R.locals) {σ' : mS} {r : Int32} {k66 : mS → Int32 → Int32 → Int32 → Int32 → Option (mS × Int32)} (hk66 : ∀ (σ : mS) (x1 : Int32) (x2 : Int32) (x3 : Int32) (x4 : Int32) (H : Heap) (locs : List Loc) (ls : Array Slot), mG A L s σ H locs → lv_has ls 7 [(0, .ref L.1), (1, .int x1), (2, .int x2), (3, .int x3), (4, .int x4)] → k66 σ x1 x2 x3 x4 = some (σ', r) → W p l e R s m args below meth c H locs 0 0 (mZ below L A s args σ' (some (.int r))) (F0 m 66 ls [])) : ∀ (n : Nat) (σ : mS) (x1 : Int32) (x2 : Int32) (x3 : Int32) (x6 : Int32) (H : Heap) (locs : List Loc) (ls : Array Slot), mG A L s σ H locs → lv_has ls 7 [(0, .ref L.1), (1, .int x1), (2, .int x2), (3, .int x3), (6, .int x6)] → fM_line_b94 N k66 n σ x1 x2 x3 x6 = some (σ', r) → W p l e R s m args below meth c H locs 0 0 (mZ below L A s args σ' (some (.int r))) (F0 m 94 ls []) := by
  have hx := C0.1
  have hb := C0.2.1
  intro n
  induction n with
  | zero => intro σ x1 x2 x3 x6 H locs ls hG hl hF; cases hF
  | succ n ih =>
    intro σ x1 x2 x3 x6 H locs ls hG hl hF
    unfold fM_line_b94 at hF
    refine lv_iload hx hb dX2_line_94 (lv_at hl 4 rfl) ?_
    refine lv_bipush (v := 6) hx hb dX2_line_96 (by decide) ?_
    refine lv_icmp_ge (tgt := 121) hx hb dX2_line_98 (by decide) (fun c_24 => ?_) (fun c_24 => ?_)
    · have hF := ifp hF c_24
      exact bM_line_121 C0 hRo hk66 _ _ _ _ H locs ls hG (lv_sub hl [0, 1, 2, 3] rfl) hF
    · have hF := ifn hF c_24
      refine lv_aload_n hx hb dX2_line_101 rfl (lv_at hl 0 rfl) ?_
      refine m_geta C0 hG 55 (by decide) rfl q1633 dX2_line_102 ?_
      refine lv_iload hx hb dX2_line_105 (lv_at hl 4 rfl) ?_
      refine lv_aload_n hx hb dX2_line_107 rfl (lv_at hl 0 rfl) ?_
      refine m_geta C0 hG 54 (by decide) rfl q1632 dX2_line_108 ?_
      refine lv_iload hx hb dX2_line_111 (lv_at hl 4 rfl) ?_
      refine m_ld C0 hG 54 ⟨by decide, rfl, by decide⟩ dX2_line_113 hF (fun x_25 hF => ?_)
      refine m_st C0 hG 55 ⟨by decide, rfl, by decide⟩ dX2_line_114 hF (fun σ_26 H locs hG hF => ?_)
      refine w_iinc hx hb dX2_line_115 hl 4 rfl (v := 1) (by decide) (by decide) hF (fun x_27 ls hl hF => ?_)
      have hl : lv_has ls 7 [(6, .int x_27), (0, .ref L.1), (1, .int x1), (2, .int x2), (3, .int x3)] := hl
      refine lv_goto (tgt := 94) hx hb dX2_line_118 (by decide) ?_
      exact ih _ _ _ _ _ H locs ls hG (lv_sub hl [1, 2, 3, 4, 0] rfl) hF
theorem bM_line_88 {N : Nat} (C0 : mCx p s m args meth c cX2_line 7 (some .int) L A) (hRo : 2 ≤ R.frames ∧ 47 ≤ R.locals) {σ' : mS} {r : Int32} {k66 : mS → Int32 → Int32 → Int32 → Int32 → Option (mS × Int32)} (hk66 : ∀ (σ : mS) (x1 : Int32) (x2 : Int32) (x3 : Int32) (x4 : Int32) (H : Heap) (locs : List Loc) (ls : Array Slot), mG A L s σ H locs → lv_has ls 7 [(0, .ref L.1), (1, .int x1), (2, .int x2), (3, .int x3), (4, .int x4)] → k66 σ x1 x2 x3 x4 = some (σ', r) → W p l e R s m args below meth c H locs 0 0 (mZ below L A s args σ' (some (.int r))) (F0 m 66 ls [])) (σ : mS) (x1 : Int32) (x2 : Int32) (x5 : Int32) (H : Heap) (locs : List Loc) (ls : Array Slot) (hG : mG A L s σ H locs) (hl : lv_has ls 7 [(0, .ref L.1), (1, .int x1), (2, .int x2), (5, .int x5)]) (hF : fM_line_b88 N k66 σ x1 x2 x5 = some (σ', r)) : W p l e R s m args below meth c H locs 0 0 (mZ below L A s args σ' (some (.int r))) (F0 m 88 ls []) := by
  have hx := C0.1
  have hb := C0.2.1
  unfold fM_line_b88 at hF
  refine lv_iload hx hb dX2_line_88 (lv_at hl 3 rfl) ?_
  refine lv_istore_n (lv' := [(3, .int x5), (0, .ref L.1), (1, .int x1), (2, .int x2), (5, .int x5)]) hx hb dX2_line_90 rfl hl (by decide) rfl (fun ls hl => ?_)
  refine lv_iconst (v := 0) hx hb dX2_line_91 (by decide) ?_
  refine lv_istore (lv' := [(6, .int 0), (3, .int x5), (0, .ref L.1), (1, .int x1), (2, .int x2), (5, .int x5)]) hx hb dX2_line_92 hl (by decide) rfl (fun ls hl => ?_)
  exact bM_line_94 C0 hRo hk66 N _ _ _ _ _ H locs ls hG (lv_sub hl [2, 3, 4, 1, 0] rfl) hF
theorem bM_line_66 {N : Nat} (C0 : mCx p s m args meth c cX2_line 7 (some .int) L A) (hRo : 2 ≤ R.frames ∧ 47 ≤ R.locals) {σ' : mS} {r : Int32} : ∀ (n : Nat) (σ : mS) (x1 : Int32) (x2 : Int32) (x3 : Int32) (x4 : Int32) (H : Heap) (locs : List Loc) (ls : Array Slot), mG A L s σ H locs → lv_has ls 7 [(0, .ref L.1), (1, .int x1), (2, .int x2), (3, .int x3), (4, .int x4)] → fM_line_b66 N n σ x1 x2 x3 x4 = some (σ', r) → W p l e R s m args below meth c H locs 0 0 (mZ below L A s args σ' (some (.int r))) (F0 m 66 ls []) := by
  have hx := C0.1
  have hb := C0.2.1
  intro n
  induction n with
  | zero => intro σ x1 x2 x3 x4 H locs ls hG hl hF; cases hF
  | succ n ih =>
    intro σ x1 x2 x3 x4 H locs ls hG hl hF
    unfold fM_line_b66 at hF
    refine lv_iload hx hb dX2_line_66 (lv_at hl 4 rfl) ?_
    refine lv_if_eq (tgt := 130) hx hb dX2_line_68 (by decide) (fun c_13 => ?_) (fun c_13 => ?_)
    · have hF := ifp hF c_13
      refine lv_iload_n hx hb dX2_line_130 rfl (lv_at hl 2 rfl) ?_
      refine lv_iconst (v := (-1)) hx hb dX2_line_131 (by decide) ?_
      refine lv_icmp_ne (tgt := 139) hx hb dX2_line_132 (by decide) (fun c_14 => ?_) (fun c_14 => ?_)
      · have hF := ifn hF c_14
        refine lv_aload_n hx hb dX2_line_139 rfl (lv_at hl 0 rfl) ?_
        refine m_geta C0 hG 55 (by decide) rfl q1633 dX2_line_140 ?_
        refine lv_iload_n hx hb dX2_line_143 rfl (lv_at hl 2 rfl) ?_
        refine m_ld C0 hG 55 ⟨by decide, rfl, by decide⟩ dX2_line_144 hF (fun x_15 hF => ?_)
        exact m_iret C0 hG dX2_line_145 hF
      · have hF := ifp hF c_14
        refine lv_iload_n hx hb dX2_line_135 rfl (lv_at hl 3 rfl) ?_
        refine lv_goto (tgt := 145) hx hb dX2_line_136 (by decide) ?_
        exact m_iret C0 hG dX2_line_145 hF
    · have hF := ifn hF c_13
      refine lv_aload_n hx hb dX2_line_71 rfl (lv_at hl 0 rfl) ?_
      refine lv_iload_n hx hb dX2_line_72 rfl (lv_at hl 1 rfl) ?_
      obtain ⟨σ_16, r_17, e_18, hF⟩ := obi_of hF
      refine m_cVi (As := [.int x1]) (rest := []) C0 hG (mtM_unlike l e_18) (lw_V q1991 q1993 qs87 q102 q1994) yd_X2_unlike ⟨by omega, by omega⟩ rfl rfl hl.1 (Nat.le_of_ble_eq_true rfl) dX2_line_73 (fun H locs hG => ?_)
      refine lv_istore (lv' := [(5, .int r_17), (0, .ref L.1), (1, .int x1), (2, .int x2), (3, .int x3), (4, .int x4)]) hx hb dX2_line_76 hl (by decide) rfl (fun ls hl => ?_)
      refine lv_iload_n hx hb dX2_line_78 rfl (lv_at hl 4 rfl) ?_
      refine lv_if_lt (tgt := 88) hx hb dX2_line_79 (by decide) (fun c_19 => ?_) (fun c_19 => ?_)
      · have hF := ifp hF c_19
        exact bM_line_88 C0 hRo ih _ _ _ _ H locs ls hG (lv_sub hl [1, 2, 3, 0] rfl) hF
      · have hF := ifn hF c_19
        refine lv_iload hx hb dX2_line_82 (lv_at hl 0 rfl) ?_
        refine lv_iload_n hx hb dX2_line_84 rfl (lv_at hl 4 rfl) ?_
        refine lv_icmp_ge (tgt := 121) hx hb dX2_line_85 (by decide) (fun c_20 => ?_) (fun c_20 => ?_)
        · have hF := ifp hF c_20
          exact bM_line_121 C0 hRo ih _ _ _ _ H locs ls hG (lv_sub hl [1, 2, 3, 4] rfl) hF
        · have hF := ifn hF c_20
          exact bM_line_88 C0 hRo ih _ _ _ _ H locs ls hG (lv_sub hl [1, 2, 3, 0] rfl) hF
theorem bM_line_42 {N : Nat} (C0 : mCx p s m args meth c cX2_line 7 (some .int) L A) (hRo : 2 ≤ R.frames ∧ 47 ≤ R.locals) {σ' : mS} {r : Int32} : ∀ (n : Nat) (σ : mS) (x1 : Int32) (x2 : Int32) (x3 : Int32) (H : Heap) (locs : List Loc) (ls : Array Slot), mG A L s σ H locs → lv_has ls 7 [(0, .ref L.1), (1, .int x1), (2, .int x2), (3, .int x3)] → fM_line_b42 N n σ x1 x2 x3 = some (σ', r) → W p l e R s m args below meth c H locs 0 0 (mZ below L A s args σ' (some (.int r))) (F0 m 42 ls []) := by
  have hx := C0.1
  have hb := C0.2.1
  intro n
  induction n with
  | zero => intro σ x1 x2 x3 H locs ls hG hl hF; cases hF
  | succ n ih =>
    intro σ x1 x2 x3 H locs ls hG hl hF
    unfold fM_line_b42 at hF
    refine lv_iload_n hx hb dX2_line_42 rfl (lv_at hl 3 rfl) ?_
    refine lv_bipush (v := 6) hx hb dX2_line_43 (by decide) ?_
    refine lv_icmp_ge (tgt := 61) hx hb dX2_line_45 (by decide) (fun c_10 => ?_) (fun c_10 => ?_)
    · have hF := ifp hF c_10
      refine lv_iconst (v := (-1)) hx hb dX2_line_61 (by decide) ?_
      refine lv_istore_n (lv' := [(3, .int (-1)), (0, .ref L.1), (1, .int x1), (2, .int x2)]) hx hb dX2_line_62 rfl hl (by decide) rfl (fun ls hl => ?_)
      refine lv_iconst (v := 1) hx hb dX2_line_63 (by decide) ?_
      refine lv_istore (lv' := [(4, .int 1), (3, .int (-1)), (0, .ref L.1), (1, .int x1), (2, .int x2)]) hx hb dX2_line_64 hl (by decide) rfl (fun ls hl => ?_)
      exact bM_line_66 C0 hRo N _ _ _ _ _ H locs ls hG (lv_sub hl [2, 3, 4, 1, 0] rfl) hF
    · have hF := ifn hF c_10
      refine lv_aload_n hx hb dX2_line_48 rfl (lv_at hl 0 rfl) ?_
      refine m_geta C0 hG 54 (by decide) rfl q1632 dX2_line_49 ?_
      refine lv_iload_n hx hb dX2_line_52 rfl (lv_at hl 3 rfl) ?_
      refine lv_iload_n hx hb dX2_line_53 rfl (lv_at hl 3 rfl) ?_
      refine m_st C0 hG 54 ⟨by decide, rfl, by decide⟩ dX2_line_54 hF (fun σ_11 H locs hG hF => ?_)
      refine w_iinc hx hb dX2_line_55 hl 3 rfl (v := 1) (by decide) (by decide) hF (fun x_12 ls hl hF => ?_)
      have hl : lv_has ls 7 [(3, .int x_12), (0, .ref L.1), (1, .int x1), (2, .int x2)] := hl
      refine lv_goto (tgt := 42) hx hb dX2_line_58 (by decide) ?_
      exact ih _ _ _ _ H locs ls hG (lv_sub hl [1, 2, 3, 0] rfl) hF
theorem bM_line_e {N : Nat} (C0 : mCx p s m args meth c cX2_line 7 (some .int) L A) (hRo : 2 ≤ R.frames ∧ 47 ≤ R.locals) {σ' : mS} {r : Int32} (σ : mS) (a0 : Int32) (a1 : Int32) (H : Heap) (locs : List Loc) (ls : Array Slot) (hG : mG A L s σ H locs) (hl : lv_has ls 7 [(0, .ref L.1), (1, .int a0), (2, .int a1)]) (hF : fM_line N σ a0 a1 = some (σ', r)) : W p l e R s m args below meth c H locs 0 0 (mZ below L A s args σ' (some (.int r))) (F0 m 0 ls []) := by
  have hx := C0.1
  have hb := C0.2.1
  unfold fM_line at hF
  refine lv_iload_n hx hb dX2_line_0 rfl (lv_at hl 1 rfl) ?_
  refine lv_iconst (v := 0) hx hb dX2_line_1 (by decide) ?_
  refine lv_bipush (v := 9) hx hb dX2_line_2 (by decide) ?_
  obtain ⟨σ_1, r_2, e_3, hF⟩ := obi_of hF
  refine m_cSi (As := [.int a0, .int 0, .int 9]) (rest := []) C0 hG (mtM_within l e_3) (lw_S q1751 q1752 q102 q1753) yd_X2_within ⟨by omega, by omega⟩ rfl rfl hl.1 (Nat.le_of_ble_eq_true rfl) dX2_line_4 (fun H locs hG => ?_)
  refine lv_if_eq (tgt := 15) hx hb dX2_line_7 (by decide) (fun c_4 => ?_) (fun c_4 => ?_)
  · have hF := ifp hF c_4
    refine lv_iconst (v := (-1)) hx hb dX2_line_15 (by decide) ?_
    exact m_iret C0 hG dX2_line_16 hF
  · have hF := ifn hF c_4
    refine lv_iload_n hx hb dX2_line_10 rfl (lv_at hl 2 rfl) ?_
    refine lv_iconst (v := (-1)) hx hb dX2_line_11 (by decide) ?_
    refine lv_icmp_ge (tgt := 17) hx hb dX2_line_12 (by decide) (fun c_5 => ?_) (fun c_5 => ?_)
    · have hF := ifp hF c_5
      refine lv_aload_n hx hb dX2_line_17 rfl (lv_at hl 0 rfl) ?_
      refine m_geti C0 hG 0 (by decide) rfl q1578 dX2_line_18 hF (fun x_6 hF => ?_)
      refine lv_bipush (v := 6) hx hb dX2_line_21 (by decide) ?_
      refine lv_icmp_le (tgt := 29) hx hb dX2_line_23 (by decide) (fun c_7 => ?_) (fun c_7 => ?_)
      · have hF := ifp hF c_7
        refine lv_iload_n hx hb dX2_line_29 rfl (lv_at hl 2 rfl) ?_
        refine lv_aload_n hx hb dX2_line_30 rfl (lv_at hl 0 rfl) ?_
        refine m_geti C0 hG 0 (by decide) rfl q1578 dX2_line_31 hF (fun x_8 hF => ?_)
        refine lv_icmp_lt (tgt := 40) hx hb dX2_line_34 (by decide) (fun c_9 => ?_) (fun c_9 => ?_)
        · have hF := ifp hF c_9
          refine lv_iconst (v := 0) hx hb dX2_line_40 (by decide) ?_
          refine lv_istore_n (lv' := [(3, .int 0), (0, .ref L.1), (1, .int a0), (2, .int a1)]) hx hb dX2_line_41 rfl hl (by decide) rfl (fun ls hl => ?_)
          exact bM_line_42 C0 hRo N _ _ _ _ H locs ls hG (lv_sub hl [1, 2, 3, 0] rfl) hF
        · have hF := ifn hF c_9
          refine lv_bipush (v := (-2)) hx hb dX2_line_37 (by decide) ?_
          exact m_iret C0 hG dX2_line_39 hF
      · have hF := ifn hF c_7
        refine lv_bipush (v := (-5)) hx hb dX2_line_26 (by decide) ?_
        exact m_iret C0 hG dX2_line_28 hF
    · have hF := ifn hF c_5
      refine lv_iconst (v := (-1)) hx hb dX2_line_15 (by decide) ?_
      exact m_iret C0 hG dX2_line_16 hF
theorem mtM_line (l : Launch) {N : Nat} {L : mL} {σ σ' : mS} {r : Int32} {a0 : Int32} {a1 : Int32} (hF : fM_line N σ a0 a1 = some (σ', r)) : mMet l yX2_line cX2_line 7 (some .int) (2) (47) [.ref L.1, .int a0, .int a1] L σ (some (.int r)) σ' := by
  refine m_head (by decide) rfl ?_
  intro p e s m below meth c A C0 hG
  have hl := lv_entry ([.ref L.1, .int a0, .int a1]) (n := 7) (Nat.le_of_ble_eq_true rfl)
  rw [lg_entry_eq]
  generalize (lg_sl ([.ref L.1, .int a0, .int a1]) ++ List.replicate (7 - (lg_sl ([.ref L.1, .int a0, .int a1])).length) Slot.unset).toArray = ls at hl ⊢
  have hl : lv_has ls 7 [(0, .ref L.1), (1, .int a0), (2, .int a1)] := hl
  exact bM_line_e C0 ⟨Nat.le_refl _, Nat.le_refl _⟩ _ _ _ _ [] ls hG hl hF
def fM_lift_b153 (N : Nat) (k35 : mS → Int32 → Int32 → Int32 → Int32 → Int32 → Int32 → Option (mS × Int32)) (σ : mS) (x1 : Int32) (x2 : Int32) (x3 : Int32) (x4 : Int32) (x5 : Int32) (x6 : Int32) : Option (mS × Int32) :=
  nmv (x6 + 1) fun x_16 =>
  k35 σ x1 x2 x3 x4 x5 x_16
def fM_lift_b143 (N : Nat) (k35 : mS → Int32 → Int32 → Int32 → Int32 → Int32 → Int32 → Option (mS × Int32)) (σ : mS) (x1 : Int32) (x5 : Int32) (x6 : Int32) (x7 : Int32) : Option (mS × Int32) :=
  fM_lift_b153 N k35 σ x1 x5 x6 x7 x5 x6
def fM_lift_b116 (N : Nat) (k84 : mS → Int32 → Int32 → Int32 → Int32 → Int32 → Int32 → Int32 → Int32 → Option (mS × Int32)) (σ : mS) (x1 : Int32) (x2 : Int32) (x3 : Int32) (x4 : Int32) (x5 : Int32) (x6 : Int32) (x7 : Int32) (x8 : Int32) : Option (mS × Int32) :=
  nmv (x8 + 1) fun x_25 =>
  k84 σ x1 x2 x3 x4 x5 x6 x7 x_25
def fM_lift_b84 (N : Nat) (k35 : mS → Int32 → Int32 → Int32 → Int32 → Int32 → Int32 → Option (mS × Int32)) : Nat → mS → Int32 → Int32 → Int32 → Int32 → Int32 → Int32 → Int32 → Int32 → Option (mS × Int32)
  | 0, _, _, _, _, _, _, _, _, _ => none
  | n + 1, σ, x1, x2, x3, x4, x5, x6, x7, x8 =>
    nmv (σ.1 0) fun x_17 =>
    if x_17 ≤ x8 then (
      if x7 < 0 then (
        fM_lift_b153 N k35 σ x1 x2 x3 x4 x5 x6)
      else (
        if x2 = (-2) then (
          fM_lift_b143 N k35 σ x1 x5 x6 x7)
        else (
          if x7 < x4 then (
            fM_lift_b143 N k35 σ x1 x5 x6 x7)
          else (
            fM_lift_b153 N k35 σ x1 x2 x3 x4 x5 x6))))
    else (
      if ((x6 >>> (x8 &&& 31)) &&& 1) = 1 then (
        chk x8 8 <| nmv (σ.2.1 3 x8.toNatClampNeg) fun x_23 =>
        nmv (x7 + x_23) fun x_24 =>
        fM_lift_b116 N (fM_lift_b84 N k35 n) σ x1 x2 x3 x4 x5 x6 x_24 x8)
      else (
        fM_lift_b116 N (fM_lift_b84 N k35 n) σ x1 x2 x3 x4 x5 x6 x7 x8))
def fM_lift_b35 (N : Nat) (k23 : mS → Int32 → Int32 → Int32 → Int32 → Int32 → Option (mS × Int32)) : Nat → mS → Int32 → Int32 → Int32 → Int32 → Int32 → Int32 → Option (mS × Int32)
  | 0, _, _, _, _, _, _, _ => none
  | n + 1, σ, x1, x2, x3, x4, x5, x6 =>
    nmv (σ.1 0) fun x_8 =>
    if (1 <<< (x_8 &&& 31)) ≤ x6 then (
      nmv (x5 + 1) fun x_10 =>
      k23 σ x1 x2 x3 x4 x_10)
    else (
      nmv (bitC x6) fun x_11 =>
      if x_11 = 3 then (
        if ((x6 >>> (x5 &&& 31)) &&& 1) = 1 then (
          fM_lift_b153 N (fM_lift_b35 N k23 n) σ x1 x2 x3 x4 x5 x6)
        else (
          chk x5 8 <| nmv (σ.2.1 3 x5.toNatClampNeg) fun x_14 =>
          nmv (((-3) : Int32) * x_14) fun x_15 =>
          fM_lift_b84 N (fM_lift_b35 N k23 n) N σ x1 x2 x3 x4 x5 x6 x_15 0))
      else (
        fM_lift_b153 N (fM_lift_b35 N k23 n) σ x1 x2 x3 x4 x5 x6))
def fM_lift_b23 (N : Nat) : Nat → mS → Int32 → Int32 → Int32 → Int32 → Int32 → Option (mS × Int32)
  | 0, _, _, _, _, _, _ => none
  | n + 1, σ, x1, x2, x3, x4, x5 =>
    nmv (σ.1 0) fun x_5 =>
    if x_5 ≤ x5 then (
      if x1 = 0 then (
        some (σ, x2))
      else (
        some (σ, x3)))
    else (
      fM_lift_b35 N (fM_lift_b23 N n) N σ x1 x2 x3 x4 x5 0)
def fM_lift (N : Nat) (σ : mS) (a0 : Int32) : Option (mS × Int32) :=
  obi (fM_within N σ a0 0 1) fun σ_1 r_2 =>
  if r_2 = 0 then (
    some (σ_1, (-1)))
  else (
    fM_lift_b23 N N σ_1 a0 (-2) (-2) 0 0)
theorem bM_lift_153 {N : Nat} (C0 : mCx p s m args meth c cX2_lift 9 (some .int) L A) (hRo : 1 ≤ R.frames ∧ 22 ≤ R.locals) {σ' : mS} {r : Int32} {k35 : mS → Int32 → Int32 → Int32 → Int32 → Int32 → Int32 → Option (mS × Int32)} (hk35 : ∀ (σ : mS) (x1 : Int32) (x2 : Int32) (x3 : Int32) (x4 : Int32) (x5 : Int32) (x6 : Int32) (H : Heap) (locs : List Loc) (ls : Array Slot), mG A L s σ H locs → lv_has ls 9 [(0, .ref L.1), (1, .int x1), (2, .int x2), (3, .int x3), (4, .int x4), (5, .int x5), (6, .int x6)] → k35 σ x1 x2 x3 x4 x5 x6 = some (σ', r) → W p l e R s m args below meth c H locs 0 0 (mZ below L A s args σ' (some (.int r))) (F0 m 35 ls [])) (σ : mS) (x1 : Int32) (x2 : Int32) (x3 : Int32) (x4 : Int32) (x5 : Int32) (x6 : Int32) (H : Heap) (locs : List Loc) (ls : Array Slot) (hG : mG A L s σ H locs) (hl : lv_has ls 9 [(0, .ref L.1), (1, .int x1), (2, .int x2), (3, .int x3), (4, .int x4), (5, .int x5), (6, .int x6)]) (hF : fM_lift_b153 N k35 σ x1 x2 x3 x4 x5 x6 = some (σ', r)) : W p l e R s m args below meth c H locs 0 0 (mZ below L A s args σ' (some (.int r))) (F0 m 153 ls []) := by
  have hx := C0.1
  have hb := C0.2.1
  unfold fM_lift_b153 at hF
  refine w_iinc hx hb dX2_lift_153 hl 6 rfl (v := 1) (by decide) (by decide) hF (fun x_16 ls hl hF => ?_)
  have hl : lv_has ls 9 [(6, .int x_16), (0, .ref L.1), (1, .int x1), (2, .int x2), (3, .int x3), (4, .int x4), (5, .int x5)] := hl
  refine lv_goto (tgt := 35) hx hb dX2_lift_156 (by decide) ?_
  exact hk35 _ _ _ _ _ _ _ H locs ls hG (lv_sub hl [1, 2, 3, 4, 5, 6, 0] rfl) hF
theorem bM_lift_143 {N : Nat} (C0 : mCx p s m args meth c cX2_lift 9 (some .int) L A) (hRo : 1 ≤ R.frames ∧ 22 ≤ R.locals) {σ' : mS} {r : Int32} {k35 : mS → Int32 → Int32 → Int32 → Int32 → Int32 → Int32 → Option (mS × Int32)} (hk35 : ∀ (σ : mS) (x1 : Int32) (x2 : Int32) (x3 : Int32) (x4 : Int32) (x5 : Int32) (x6 : Int32) (H : Heap) (locs : List Loc) (ls : Array Slot), mG A L s σ H locs → lv_has ls 9 [(0, .ref L.1), (1, .int x1), (2, .int x2), (3, .int x3), (4, .int x4), (5, .int x5), (6, .int x6)] → k35 σ x1 x2 x3 x4 x5 x6 = some (σ', r) → W p l e R s m args below meth c H locs 0 0 (mZ below L A s args σ' (some (.int r))) (F0 m 35 ls [])) (σ : mS) (x1 : Int32) (x5 : Int32) (x6 : Int32) (x7 : Int32) (H : Heap) (locs : List Loc) (ls : Array Slot) (hG : mG A L s σ H locs) (hl : lv_has ls 9 [(0, .ref L.1), (1, .int x1), (5, .int x5), (6, .int x6), (7, .int x7)]) (hF : fM_lift_b143 N k35 σ x1 x5 x6 x7 = some (σ', r)) : W p l e R s m args below meth c H locs 0 0 (mZ below L A s args σ' (some (.int r))) (F0 m 143 ls []) := by
  have hx := C0.1
  have hb := C0.2.1
  unfold fM_lift_b143 at hF
  refine lv_iload hx hb dX2_lift_143 (lv_at hl 4 rfl) ?_
  refine lv_istore (lv' := [(4, .int x7), (0, .ref L.1), (1, .int x1), (5, .int x5), (6, .int x6), (7, .int x7)]) hx hb dX2_lift_145 hl (by decide) rfl (fun ls hl => ?_)
  refine lv_iload hx hb dX2_lift_147 (lv_at hl 3 rfl) ?_
  refine lv_istore_n (lv' := [(2, .int x5), (4, .int x7), (0, .ref L.1), (1, .int x1), (5, .int x5), (6, .int x6), (7, .int x7)]) hx hb dX2_lift_149 rfl hl (by decide) rfl (fun ls hl => ?_)
  refine lv_iload hx hb dX2_lift_150 (lv_at hl 5 rfl) ?_
  refine lv_istore_n (lv' := [(3, .int x6), (2, .int x5), (4, .int x7), (0, .ref L.1), (1, .int x1), (5, .int x5), (6, .int x6), (7, .int x7)]) hx hb dX2_lift_152 rfl hl (by decide) rfl (fun ls hl => ?_)
  exact bM_lift_153 C0 hRo hk35 _ _ _ _ _ _ _ H locs ls hG (lv_sub hl [3, 4, 1, 0, 2, 5, 6] rfl) hF
theorem bM_lift_116 {N : Nat} (C0 : mCx p s m args meth c cX2_lift 9 (some .int) L A) (hRo : 1 ≤ R.frames ∧ 22 ≤ R.locals) {σ' : mS} {r : Int32} {k84 : mS → Int32 → Int32 → Int32 → Int32 → Int32 → Int32 → Int32 → Int32 → Option (mS × Int32)} (hk84 : ∀ (σ : mS) (x1 : Int32) (x2 : Int32) (x3 : Int32) (x4 : Int32) (x5 : Int32) (x6 : Int32) (x7 : Int32) (x8 : Int32) (H : Heap) (locs : List Loc) (ls : Array Slot), mG A L s σ H locs → lv_has ls 9 [(0, .ref L.1), (1, .int x1), (2, .int x2), (3, .int x3), (4, .int x4), (5, .int x5), (6, .int x6), (7, .int x7), (8, .int x8)] → k84 σ x1 x2 x3 x4 x5 x6 x7 x8 = some (σ', r) → W p l e R s m args below meth c H locs 0 0 (mZ below L A s args σ' (some (.int r))) (F0 m 84 ls [])) (σ : mS) (x1 : Int32) (x2 : Int32) (x3 : Int32) (x4 : Int32) (x5 : Int32) (x6 : Int32) (x7 : Int32) (x8 : Int32) (H : Heap) (locs : List Loc) (ls : Array Slot) (hG : mG A L s σ H locs) (hl : lv_has ls 9 [(0, .ref L.1), (1, .int x1), (2, .int x2), (3, .int x3), (4, .int x4), (5, .int x5), (6, .int x6), (7, .int x7), (8, .int x8)]) (hF : fM_lift_b116 N k84 σ x1 x2 x3 x4 x5 x6 x7 x8 = some (σ', r)) : W p l e R s m args below meth c H locs 0 0 (mZ below L A s args σ' (some (.int r))) (F0 m 116 ls []) := by
  have hx := C0.1
  have hb := C0.2.1
  unfold fM_lift_b116 at hF
  refine w_iinc hx hb dX2_lift_116 hl 8 rfl (v := 1) (by decide) (by decide) hF (fun x_25 ls hl hF => ?_)
  have hl : lv_has ls 9 [(8, .int x_25), (0, .ref L.1), (1, .int x1), (2, .int x2), (3, .int x3), (4, .int x4), (5, .int x5), (6, .int x6), (7, .int x7)] := hl
  refine lv_goto (tgt := 84) hx hb dX2_lift_119 (by decide) ?_
  exact hk84 _ _ _ _ _ _ _ _ _ H locs ls hG (lv_sub hl [1, 2, 3, 4, 5, 6, 7, 8, 0] rfl) hF
theorem bM_lift_84 {N : Nat} (C0 : mCx p s m args meth c cX2_lift 9 (some .int) L A) (hRo : 1 ≤ R.frames ∧ 22 ≤ R.locals) {σ' : mS} {r : Int32} {k35 : mS → Int32 → Int32 → Int32 → Int32 → Int32 → Int32 → Option (mS × Int32)} (hk35 : ∀ (σ : mS) (x1 : Int32) (x2 : Int32) (x3 : Int32) (x4 : Int32) (x5 : Int32) (x6 : Int32) (H : Heap) (locs : List Loc) (ls : Array Slot), mG A L s σ H locs → lv_has ls 9 [(0, .ref L.1), (1, .int x1), (2, .int x2), (3, .int x3), (4, .int x4), (5, .int x5), (6, .int x6)] → k35 σ x1 x2 x3 x4 x5 x6 = some (σ', r) → W p l e R s m args below meth c H locs 0 0 (mZ below L A s args σ' (some (.int r))) (F0 m 35 ls [])) : ∀ (n : Nat) (σ : mS) (x1 : Int32) (x2 : Int32) (x3 : Int32) (x4 : Int32) (x5 : Int32) (x6 : Int32) (x7 : Int32) (x8 : Int32) (H : Heap) (locs : List Loc) (ls : Array Slot), mG A L s σ H locs → lv_has ls 9 [(0, .ref L.1), (1, .int x1), (2, .int x2), (3, .int x3), (4, .int x4), (5, .int x5), (6, .int x6), (7, .int x7), (8, .int x8)] → fM_lift_b84 N k35 n σ x1 x2 x3 x4 x5 x6 x7 x8 = some (σ', r) → W p l e R s m args below meth c H locs 0 0 (mZ below L A s args σ' (some (.int r))) (F0 m 84 ls []) := by
  have hx := C0.1
  have hb := C0.2.1
  intro n
  induction n with
  | zero => intro σ x1 x2 x3 x4 x5 x6 x7 x8 H locs ls hG hl hF; cases hF
  | succ n ih =>
    intro σ x1 x2 x3 x4 x5 x6 x7 x8 H locs ls hG hl hF
    unfold fM_lift_b84 at hF
    refine lv_iload hx hb dX2_lift_84 (lv_at hl 8 rfl) ?_
    refine lv_aload_n hx hb dX2_lift_86 rfl (lv_at hl 0 rfl) ?_
    refine m_geti C0 hG 0 (by decide) rfl q1578 dX2_lift_87 hF (fun x_17 hF => ?_)
    refine lv_icmp_ge (tgt := 122) hx hb dX2_lift_90 (by decide) (fun c_18 => ?_) (fun c_18 => ?_)
    · have hF := ifp hF c_18
      refine lv_iload hx hb dX2_lift_122 (lv_at hl 7 rfl) ?_
      refine lv_if_lt (tgt := 153) hx hb dX2_lift_124 (by decide) (fun c_19 => ?_) (fun c_19 => ?_)
      · have hF := ifp hF c_19
        exact bM_lift_153 C0 hRo hk35 _ _ _ _ _ _ _ H locs ls hG (lv_sub hl [0, 1, 2, 3, 4, 5, 6] rfl) hF
      · have hF := ifn hF c_19
        refine lv_iload_n hx hb dX2_lift_127 rfl (lv_at hl 2 rfl) ?_
        refine lv_bipush (v := (-2)) hx hb dX2_lift_128 (by decide) ?_
        refine lv_icmp_eq (tgt := 143) hx hb dX2_lift_130 (by decide) (fun c_20 => ?_) (fun c_20 => ?_)
        · have hF := ifp hF c_20
          exact bM_lift_143 C0 hRo hk35 _ _ _ _ _ H locs ls hG (lv_sub hl [0, 1, 5, 6, 7] rfl) hF
        · have hF := ifn hF c_20
          refine lv_iload hx hb dX2_lift_133 (lv_at hl 7 rfl) ?_
          refine lv_iload hx hb dX2_lift_135 (lv_at hl 4 rfl) ?_
          refine lv_icmp_lt (tgt := 143) hx hb dX2_lift_137 (by decide) (fun c_21 => ?_) (fun c_21 => ?_)
          · have hF := ifp hF c_21
            exact bM_lift_143 C0 hRo hk35 _ _ _ _ _ H locs ls hG (lv_sub hl [0, 1, 5, 6, 7] rfl) hF
          · have hF := ifn hF c_21
            refine lv_goto (tgt := 153) hx hb dX2_lift_140 (by decide) ?_
            exact bM_lift_153 C0 hRo hk35 _ _ _ _ _ _ _ H locs ls hG (lv_sub hl [0, 1, 2, 3, 4, 5, 6] rfl) hF
    · have hF := ifn hF c_18
      refine lv_iload hx hb dX2_lift_93 (lv_at hl 6 rfl) ?_
      refine lv_iload hx hb dX2_lift_95 (lv_at hl 8 rfl) ?_
      refine lv_ishr hx hb dX2_lift_97 ?_
      refine lv_iconst (v := 1) hx hb dX2_lift_98 (by decide) ?_
      refine lv_iand hx hb dX2_lift_99 ?_
      refine lv_iconst (v := 1) hx hb dX2_lift_100 (by decide) ?_
      refine lv_icmp_ne (tgt := 116) hx hb dX2_lift_101 (by decide) (fun c_22 => ?_) (fun c_22 => ?_)
      · have hF := ifn hF c_22
        exact bM_lift_116 C0 hRo ih _ _ _ _ _ _ _ _ _ H locs ls hG (lv_sub hl [0, 1, 2, 3, 4, 5, 6, 7, 8] rfl) hF
      · have hF := ifp hF c_22
        refine lv_iload hx hb dX2_lift_104 (lv_at hl 7 rfl) ?_
        refine lv_aload_n hx hb dX2_lift_106 rfl (lv_at hl 0 rfl) ?_
        refine m_geta C0 hG 3 (by decide) rfl q1581 dX2_lift_107 ?_
        refine lv_iload hx hb dX2_lift_110 (lv_at hl 8 rfl) ?_
        refine m_ld C0 hG 3 ⟨by decide, rfl, by decide⟩ dX2_lift_112 hF (fun x_23 hF => ?_)
        refine lv_iadd hx hb dX2_lift_113 ?_
        refine w_nm hF (fun x_24 hF => ?_)
        refine lv_istore (lv' := [(7, .int x_24), (0, .ref L.1), (1, .int x1), (2, .int x2), (3, .int x3), (4, .int x4), (5, .int x5), (6, .int x6), (8, .int x8)]) hx hb dX2_lift_114 hl (by decide) rfl (fun ls hl => ?_)
        exact bM_lift_116 C0 hRo ih _ _ _ _ _ _ _ _ _ H locs ls hG (lv_sub hl [1, 2, 3, 4, 5, 6, 7, 0, 8] rfl) hF
theorem bM_lift_35 {N : Nat} (C0 : mCx p s m args meth c cX2_lift 9 (some .int) L A) (hRo : 1 ≤ R.frames ∧ 22 ≤ R.locals) {σ' : mS} {r : Int32} {k23 : mS → Int32 → Int32 → Int32 → Int32 → Int32 → Option (mS × Int32)} (hk23 : ∀ (σ : mS) (x1 : Int32) (x2 : Int32) (x3 : Int32) (x4 : Int32) (x5 : Int32) (H : Heap) (locs : List Loc) (ls : Array Slot), mG A L s σ H locs → lv_has ls 9 [(0, .ref L.1), (1, .int x1), (2, .int x2), (3, .int x3), (4, .int x4), (5, .int x5)] → k23 σ x1 x2 x3 x4 x5 = some (σ', r) → W p l e R s m args below meth c H locs 0 0 (mZ below L A s args σ' (some (.int r))) (F0 m 23 ls [])) : ∀ (n : Nat) (σ : mS) (x1 : Int32) (x2 : Int32) (x3 : Int32) (x4 : Int32) (x5 : Int32) (x6 : Int32) (H : Heap) (locs : List Loc) (ls : Array Slot), mG A L s σ H locs → lv_has ls 9 [(0, .ref L.1), (1, .int x1), (2, .int x2), (3, .int x3), (4, .int x4), (5, .int x5), (6, .int x6)] → fM_lift_b35 N k23 n σ x1 x2 x3 x4 x5 x6 = some (σ', r) → W p l e R s m args below meth c H locs 0 0 (mZ below L A s args σ' (some (.int r))) (F0 m 35 ls []) := by
  have hx := C0.1
  have hb := C0.2.1
  intro n
  induction n with
  | zero => intro σ x1 x2 x3 x4 x5 x6 H locs ls hG hl hF; cases hF
  | succ n ih =>
    intro σ x1 x2 x3 x4 x5 x6 H locs ls hG hl hF
    unfold fM_lift_b35 at hF
    refine lv_iload hx hb dX2_lift_35 (lv_at hl 6 rfl) ?_
    refine lv_iconst (v := 1) hx hb dX2_lift_37 (by decide) ?_
    refine lv_aload_n hx hb dX2_lift_38 rfl (lv_at hl 0 rfl) ?_
    refine m_geti C0 hG 0 (by decide) rfl q1578 dX2_lift_39 hF (fun x_8 hF => ?_)
    refine lv_ishl hx hb dX2_lift_42 ?_
    refine lv_icmp_ge (tgt := 159) hx hb dX2_lift_43 (by decide) (fun c_9 => ?_) (fun c_9 => ?_)
    · have hF := ifp hF c_9
      refine w_iinc hx hb dX2_lift_159 hl 5 rfl (v := 1) (by decide) (by decide) hF (fun x_10 ls hl hF => ?_)
      have hl : lv_has ls 9 [(5, .int x_10), (0, .ref L.1), (1, .int x1), (2, .int x2), (3, .int x3), (4, .int x4), (6, .int x6)] := hl
      refine lv_goto (tgt := 23) hx hb dX2_lift_162 (by decide) ?_
      exact hk23 _ _ _ _ _ _ H locs ls hG (lv_sub hl [1, 2, 3, 4, 5, 0] rfl) hF
    · have hF := ifn hF c_9
      refine lv_iload hx hb dX2_lift_46 (lv_at hl 6 rfl) ?_
      refine m_cP (As := [.int x6]) (rest := []) C0 hG (mtP_bitC l _) (lw_S q2007 q1000 q126 q1001) yd_J13_bitCount ⟨by omega, by omega⟩ rfl rfl hl.1 (Nat.le_of_ble_eq_true rfl) dX2_lift_48 hF (fun x_11 hF => ?_)
      refine lv_iconst (v := 3) hx hb dX2_lift_51 (by decide) ?_
      refine lv_icmp_ne (tgt := 153) hx hb dX2_lift_52 (by decide) (fun c_12 => ?_) (fun c_12 => ?_)
      · have hF := ifn hF c_12
        exact bM_lift_153 C0 hRo ih _ _ _ _ _ _ _ H locs ls hG (lv_sub hl [0, 1, 2, 3, 4, 5, 6] rfl) hF
      · have hF := ifp hF c_12
        refine lv_iload hx hb dX2_lift_55 (lv_at hl 6 rfl) ?_
        refine lv_iload hx hb dX2_lift_57 (lv_at hl 5 rfl) ?_
        refine lv_ishr hx hb dX2_lift_59 ?_
        refine lv_iconst (v := 1) hx hb dX2_lift_60 (by decide) ?_
        refine lv_iand hx hb dX2_lift_61 ?_
        refine lv_iconst (v := 1) hx hb dX2_lift_62 (by decide) ?_
        refine lv_icmp_ne (tgt := 69) hx hb dX2_lift_63 (by decide) (fun c_13 => ?_) (fun c_13 => ?_)
        · have hF := ifn hF c_13
          refine lv_bipush (v := (-3)) hx hb dX2_lift_69 (by decide) ?_
          refine lv_aload_n hx hb dX2_lift_71 rfl (lv_at hl 0 rfl) ?_
          refine m_geta C0 hG 3 (by decide) rfl q1581 dX2_lift_72 ?_
          refine lv_iload hx hb dX2_lift_75 (lv_at hl 5 rfl) ?_
          refine m_ld C0 hG 3 ⟨by decide, rfl, by decide⟩ dX2_lift_77 hF (fun x_14 hF => ?_)
          refine lv_imul hx hb dX2_lift_78 ?_
          refine w_nm hF (fun x_15 hF => ?_)
          refine lv_istore (lv' := [(7, .int x_15), (0, .ref L.1), (1, .int x1), (2, .int x2), (3, .int x3), (4, .int x4), (5, .int x5), (6, .int x6)]) hx hb dX2_lift_79 hl (by decide) rfl (fun ls hl => ?_)
          refine lv_iconst (v := 0) hx hb dX2_lift_81 (by decide) ?_
          refine lv_istore (lv' := [(8, .int 0), (7, .int x_15), (0, .ref L.1), (1, .int x1), (2, .int x2), (3, .int x3), (4, .int x4), (5, .int x5), (6, .int x6)]) hx hb dX2_lift_82 hl (by decide) rfl (fun ls hl => ?_)
          exact bM_lift_84 C0 hRo ih N _ _ _ _ _ _ _ _ _ H locs ls hG (lv_sub hl [2, 3, 4, 5, 6, 7, 8, 1, 0] rfl) hF
        · have hF := ifp hF c_13
          refine lv_goto (tgt := 153) hx hb dX2_lift_66 (by decide) ?_
          exact bM_lift_153 C0 hRo ih _ _ _ _ _ _ _ H locs ls hG (lv_sub hl [0, 1, 2, 3, 4, 5, 6] rfl) hF
theorem bM_lift_23 {N : Nat} (C0 : mCx p s m args meth c cX2_lift 9 (some .int) L A) (hRo : 1 ≤ R.frames ∧ 22 ≤ R.locals) {σ' : mS} {r : Int32} : ∀ (n : Nat) (σ : mS) (x1 : Int32) (x2 : Int32) (x3 : Int32) (x4 : Int32) (x5 : Int32) (H : Heap) (locs : List Loc) (ls : Array Slot), mG A L s σ H locs → lv_has ls 9 [(0, .ref L.1), (1, .int x1), (2, .int x2), (3, .int x3), (4, .int x4), (5, .int x5)] → fM_lift_b23 N n σ x1 x2 x3 x4 x5 = some (σ', r) → W p l e R s m args below meth c H locs 0 0 (mZ below L A s args σ' (some (.int r))) (F0 m 23 ls []) := by
  have hx := C0.1
  have hb := C0.2.1
  intro n
  induction n with
  | zero => intro σ x1 x2 x3 x4 x5 H locs ls hG hl hF; cases hF
  | succ n ih =>
    intro σ x1 x2 x3 x4 x5 H locs ls hG hl hF
    unfold fM_lift_b23 at hF
    refine lv_iload hx hb dX2_lift_23 (lv_at hl 5 rfl) ?_
    refine lv_aload_n hx hb dX2_lift_25 rfl (lv_at hl 0 rfl) ?_
    refine m_geti C0 hG 0 (by decide) rfl q1578 dX2_lift_26 hF (fun x_5 hF => ?_)
    refine lv_icmp_ge (tgt := 165) hx hb dX2_lift_29 (by decide) (fun c_6 => ?_) (fun c_6 => ?_)
    · have hF := ifp hF c_6
      refine lv_iload_n hx hb dX2_lift_165 rfl (lv_at hl 1 rfl) ?_
      refine lv_if_ne (tgt := 173) hx hb dX2_lift_166 (by decide) (fun c_7 => ?_) (fun c_7 => ?_)
      · have hF := ifn hF c_7
        refine lv_iload_n hx hb dX2_lift_173 rfl (lv_at hl 3 rfl) ?_
        exact m_iret C0 hG dX2_lift_174 hF
      · have hF := ifp hF c_7
        refine lv_iload_n hx hb dX2_lift_169 rfl (lv_at hl 2 rfl) ?_
        refine lv_goto (tgt := 174) hx hb dX2_lift_170 (by decide) ?_
        exact m_iret C0 hG dX2_lift_174 hF
    · have hF := ifn hF c_6
      refine lv_iconst (v := 0) hx hb dX2_lift_32 (by decide) ?_
      refine lv_istore (lv' := [(6, .int 0), (0, .ref L.1), (1, .int x1), (2, .int x2), (3, .int x3), (4, .int x4), (5, .int x5)]) hx hb dX2_lift_33 hl (by decide) rfl (fun ls hl => ?_)
      exact bM_lift_35 C0 hRo ih N _ _ _ _ _ _ _ H locs ls hG (lv_sub hl [1, 2, 3, 4, 5, 6, 0] rfl) hF
theorem bM_lift_e {N : Nat} (C0 : mCx p s m args meth c cX2_lift 9 (some .int) L A) (hRo : 1 ≤ R.frames ∧ 22 ≤ R.locals) {σ' : mS} {r : Int32} (σ : mS) (a0 : Int32) (H : Heap) (locs : List Loc) (ls : Array Slot) (hG : mG A L s σ H locs) (hl : lv_has ls 9 [(0, .ref L.1), (1, .int a0)]) (hF : fM_lift N σ a0 = some (σ', r)) : W p l e R s m args below meth c H locs 0 0 (mZ below L A s args σ' (some (.int r))) (F0 m 0 ls []) := by
  have hx := C0.1
  have hb := C0.2.1
  unfold fM_lift at hF
  refine lv_iload_n hx hb dX2_lift_0 rfl (lv_at hl 1 rfl) ?_
  refine lv_iconst (v := 0) hx hb dX2_lift_1 (by decide) ?_
  refine lv_iconst (v := 1) hx hb dX2_lift_2 (by decide) ?_
  obtain ⟨σ_1, r_2, e_3, hF⟩ := obi_of hF
  refine m_cSi (As := [.int a0, .int 0, .int 1]) (rest := []) C0 hG (mtM_within l e_3) (lw_S q1751 q1752 q102 q1753) yd_X2_within ⟨by omega, by omega⟩ rfl rfl hl.1 (Nat.le_of_ble_eq_true rfl) dX2_lift_3 (fun H locs hG => ?_)
  refine lv_if_ne (tgt := 11) hx hb dX2_lift_6 (by decide) (fun c_4 => ?_) (fun c_4 => ?_)
  · have hF := ifn hF c_4
    refine lv_bipush (v := (-2)) hx hb dX2_lift_11 (by decide) ?_
    refine lv_istore_n (lv' := [(2, .int (-2)), (0, .ref L.1), (1, .int a0)]) hx hb dX2_lift_13 rfl hl (by decide) rfl (fun ls hl => ?_)
    refine lv_bipush (v := (-2)) hx hb dX2_lift_14 (by decide) ?_
    refine lv_istore_n (lv' := [(3, .int (-2)), (2, .int (-2)), (0, .ref L.1), (1, .int a0)]) hx hb dX2_lift_16 rfl hl (by decide) rfl (fun ls hl => ?_)
    refine lv_iconst (v := 0) hx hb dX2_lift_17 (by decide) ?_
    refine lv_istore (lv' := [(4, .int 0), (3, .int (-2)), (2, .int (-2)), (0, .ref L.1), (1, .int a0)]) hx hb dX2_lift_18 hl (by decide) rfl (fun ls hl => ?_)
    refine lv_iconst (v := 0) hx hb dX2_lift_20 (by decide) ?_
    refine lv_istore (lv' := [(5, .int 0), (4, .int 0), (3, .int (-2)), (2, .int (-2)), (0, .ref L.1), (1, .int a0)]) hx hb dX2_lift_21 hl (by decide) rfl (fun ls hl => ?_)
    exact bM_lift_23 C0 hRo N _ _ _ _ _ _ H locs ls hG (lv_sub hl [4, 5, 3, 2, 1, 0] rfl) hF
  · have hF := ifp hF c_4
    refine lv_iconst (v := (-1)) hx hb dX2_lift_9 (by decide) ?_
    exact m_iret C0 hG dX2_lift_10 hF
theorem mtM_lift (l : Launch) {N : Nat} {L : mL} {σ σ' : mS} {r : Int32} {a0 : Int32} (hF : fM_lift N σ a0 = some (σ', r)) : mMet l yX2_lift cX2_lift 9 (some .int) (1) (22) [.ref L.1, .int a0] L σ (some (.int r)) σ' := by
  refine m_head (by decide) rfl ?_
  intro p e s m below meth c A C0 hG
  have hl := lv_entry ([.ref L.1, .int a0]) (n := 9) (Nat.le_of_ble_eq_true rfl)
  rw [lg_entry_eq]
  generalize (lg_sl ([.ref L.1, .int a0]) ++ List.replicate (9 - (lg_sl ([.ref L.1, .int a0])).length) Slot.unset).toArray = ls at hl ⊢
  have hl : lv_has ls 9 [(0, .ref L.1), (1, .int a0)] := hl
  exact bM_lift_e C0 ⟨Nat.le_refl _, Nat.le_refl _⟩ _ _ _ [] ls hG hl hF
def fM_span1_b11 (N : Nat) : Nat → mS → Int32 → Int32 → Int32 → Int32 → Option (mS × Int32)
  | 0, _, _, _, _, _ => none
  | n + 1, σ, x1, x2, x3, x4 =>
    if x1 ≤ x4 then (
      some (σ, (x3 - x2) + 1))
    else (
      chk x4 8 <| nmv (σ.2.1 1 x4.toNatClampNeg) fun x_4 =>
      nmv (if x_4 < x2 then x_4 else x2) fun x_5 =>
      chk x4 8 <| nmv (σ.2.1 1 x4.toNatClampNeg) fun x_6 =>
      nmv (if x3 < x_6 then x_6 else x3) fun x_7 =>
      nmv (x4 + 1) fun x_8 =>
      (fM_span1_b11 N n) σ x1 x_5 x_7 x_8)
def fM_span1 (N : Nat) (σ : mS) (a1 : Int32) : Option (mS × Int32) :=
  chk 0 8 <| nmv (σ.2.1 1 (0 : Int32).toNatClampNeg) fun x_1 =>
  chk 0 8 <| nmv (σ.2.1 1 (0 : Int32).toNatClampNeg) fun x_2 =>
  fM_span1_b11 N N σ a1 x_1 x_2 1
theorem bM_span1_11 {N : Nat} (C0 : mCx p s m args meth c cX2_span 5 (some .int) L A) (hRo : 1 ≤ R.frames ∧ 21 ≤ R.locals) {σ' : mS} {r : Int32} : ∀ (n : Nat) (σ : mS) (x1 : Int32) (x2 : Int32) (x3 : Int32) (x4 : Int32) (H : Heap) (locs : List Loc) (ls : Array Slot), mG A L s σ H locs → lv_has ls 5 [(0, .ref (L.2.1 1)), (1, .int x1), (2, .int x2), (3, .int x3), (4, .int x4)] → fM_span1_b11 N n σ x1 x2 x3 x4 = some (σ', r) → W p l e R s m args below meth c H locs 0 0 (mZ below L A s args σ' (some (.int r))) (F0 m 11 ls []) := by
  have hx := C0.1
  have hb := C0.2.1
  intro n
  induction n with
  | zero => intro σ x1 x2 x3 x4 H locs ls hG hl hF; cases hF
  | succ n ih =>
    intro σ x1 x2 x3 x4 H locs ls hG hl hF
    unfold fM_span1_b11 at hF
    refine lv_iload hx hb dX2_span_11 (lv_at hl 4 rfl) ?_
    refine lv_iload_n hx hb dX2_span_13 rfl (lv_at hl 1 rfl) ?_
    refine lv_icmp_ge (tgt := 41) hx hb dX2_span_14 (by decide) (fun c_3 => ?_) (fun c_3 => ?_)
    · have hF := ifp hF c_3
      refine lv_iload_n hx hb dX2_span_41 rfl (lv_at hl 3 rfl) ?_
      refine lv_iload_n hx hb dX2_span_42 rfl (lv_at hl 2 rfl) ?_
      refine lv_isub hx hb dX2_span_43 ?_
      refine lv_iconst (v := 1) hx hb dX2_span_44 (by decide) ?_
      refine lv_iadd hx hb dX2_span_45 ?_
      exact m_iret C0 hG dX2_span_46 hF
    · have hF := ifn hF c_3
      refine lv_iload_n hx hb dX2_span_17 rfl (lv_at hl 2 rfl) ?_
      refine lv_aload_n hx hb dX2_span_18 rfl (lv_at hl 0 rfl) ?_
      refine lv_iload hx hb dX2_span_19 (lv_at hl 4 rfl) ?_
      refine m_ld C0 hG 1 ⟨by decide, rfl, by decide⟩ dX2_span_21 hF (fun x_4 hF => ?_)
      refine m_min C0 hl.1 q1869 q679 q116 q680 ⟨by omega, by omega⟩ (Nat.le_of_ble_eq_true rfl) dX2_span_22 hF (fun x_5 hF => ?_)
      refine lv_istore_n (lv' := [(2, .int x_5), (0, .ref (L.2.1 1)), (1, .int x1), (3, .int x3), (4, .int x4)]) hx hb dX2_span_25 rfl hl (by decide) rfl (fun ls hl => ?_)
      refine lv_iload_n hx hb dX2_span_26 rfl (lv_at hl 3 rfl) ?_
      refine lv_aload_n hx hb dX2_span_27 rfl (lv_at hl 1 rfl) ?_
      refine lv_iload hx hb dX2_span_28 (lv_at hl 4 rfl) ?_
      refine m_ld C0 hG 1 ⟨by decide, rfl, by decide⟩ dX2_span_30 hF (fun x_6 hF => ?_)
      refine m_max C0 hl.1 q1878 q676 q116 q677 ⟨by omega, by omega⟩ (Nat.le_of_ble_eq_true rfl) dX2_span_31 hF (fun x_7 hF => ?_)
      refine lv_istore_n (lv' := [(3, .int x_7), (2, .int x_5), (0, .ref (L.2.1 1)), (1, .int x1), (4, .int x4)]) hx hb dX2_span_34 rfl hl (by decide) rfl (fun ls hl => ?_)
      refine w_iinc hx hb dX2_span_35 hl 4 rfl (v := 1) (by decide) (by decide) hF (fun x_8 ls hl hF => ?_)
      have hl : lv_has ls 5 [(4, .int x_8), (3, .int x_7), (2, .int x_5), (0, .ref (L.2.1 1)), (1, .int x1)] := hl
      refine lv_goto (tgt := 11) hx hb dX2_span_38 (by decide) ?_
      exact ih _ _ _ _ _ H locs ls hG (lv_sub hl [3, 4, 2, 1, 0] rfl) hF
theorem bM_span1_e {N : Nat} (C0 : mCx p s m args meth c cX2_span 5 (some .int) L A) (hRo : 1 ≤ R.frames ∧ 21 ≤ R.locals) {σ' : mS} {r : Int32} (σ : mS) (a1 : Int32) (H : Heap) (locs : List Loc) (ls : Array Slot) (hG : mG A L s σ H locs) (hl : lv_has ls 5 [(0, .ref (L.2.1 1)), (1, .int a1)]) (hF : fM_span1 N σ a1 = some (σ', r)) : W p l e R s m args below meth c H locs 0 0 (mZ below L A s args σ' (some (.int r))) (F0 m 0 ls []) := by
  have hx := C0.1
  have hb := C0.2.1
  unfold fM_span1 at hF
  refine lv_aload_n hx hb dX2_span_0 rfl (lv_at hl 0 rfl) ?_
  refine lv_iconst (v := 0) hx hb dX2_span_1 (by decide) ?_
  refine m_ld C0 hG 1 ⟨by decide, rfl, by decide⟩ dX2_span_2 hF (fun x_1 hF => ?_)
  refine lv_istore_n (lv' := [(2, .int x_1), (0, .ref (L.2.1 1)), (1, .int a1)]) hx hb dX2_span_3 rfl hl (by decide) rfl (fun ls hl => ?_)
  refine lv_aload_n hx hb dX2_span_4 rfl (lv_at hl 1 rfl) ?_
  refine lv_iconst (v := 0) hx hb dX2_span_5 (by decide) ?_
  refine m_ld C0 hG 1 ⟨by decide, rfl, by decide⟩ dX2_span_6 hF (fun x_2 hF => ?_)
  refine lv_istore_n (lv' := [(3, .int x_2), (2, .int x_1), (0, .ref (L.2.1 1)), (1, .int a1)]) hx hb dX2_span_7 rfl hl (by decide) rfl (fun ls hl => ?_)
  refine lv_iconst (v := 1) hx hb dX2_span_8 (by decide) ?_
  refine lv_istore (lv' := [(4, .int 1), (3, .int x_2), (2, .int x_1), (0, .ref (L.2.1 1)), (1, .int a1)]) hx hb dX2_span_9 hl (by decide) rfl (fun ls hl => ?_)
  exact bM_span1_11 C0 hRo N _ _ _ _ _ H locs ls hG (lv_sub hl [3, 4, 2, 1, 0] rfl) hF
theorem mtM_span1 (l : Launch) {N : Nat} {L : mL} {σ σ' : mS} {r : Int32} {a1 : Int32} (hF : fM_span1 N σ a1 = some (σ', r)) : mMet l yX2_span cX2_span 5 (some .int) (1) (21) [.ref (L.2.1 1), .int a1] L σ (some (.int r)) σ' := by
  refine m_head (by decide) rfl ?_
  intro p e s m below meth c A C0 hG
  have hl := lv_entry ([.ref (L.2.1 1), .int a1]) (n := 5) (Nat.le_of_ble_eq_true rfl)
  rw [lg_entry_eq]
  generalize (lg_sl ([.ref (L.2.1 1), .int a1]) ++ List.replicate (5 - (lg_sl ([.ref (L.2.1 1), .int a1])).length) Slot.unset).toArray = ls at hl ⊢
  have hl : lv_has ls 5 [(0, .ref (L.2.1 1)), (1, .int a1)] := hl
  exact bM_span1_e C0 ⟨Nat.le_refl _, Nat.le_refl _⟩ _ _ _ [] ls hG hl hF
def fM_span2_b11 (N : Nat) : Nat → mS → Int32 → Int32 → Int32 → Int32 → Option (mS × Int32)
  | 0, _, _, _, _, _ => none
  | n + 1, σ, x1, x2, x3, x4 =>
    if x1 ≤ x4 then (
      some (σ, (x3 - x2) + 1))
    else (
      chk x4 8 <| nmv (σ.2.1 2 x4.toNatClampNeg) fun x_4 =>
      nmv (if x_4 < x2 then x_4 else x2) fun x_5 =>
      chk x4 8 <| nmv (σ.2.1 2 x4.toNatClampNeg) fun x_6 =>
      nmv (if x3 < x_6 then x_6 else x3) fun x_7 =>
      nmv (x4 + 1) fun x_8 =>
      (fM_span2_b11 N n) σ x1 x_5 x_7 x_8)
def fM_span2 (N : Nat) (σ : mS) (a1 : Int32) : Option (mS × Int32) :=
  chk 0 8 <| nmv (σ.2.1 2 (0 : Int32).toNatClampNeg) fun x_1 =>
  chk 0 8 <| nmv (σ.2.1 2 (0 : Int32).toNatClampNeg) fun x_2 =>
  fM_span2_b11 N N σ a1 x_1 x_2 1
theorem bM_span2_11 {N : Nat} (C0 : mCx p s m args meth c cX2_span 5 (some .int) L A) (hRo : 1 ≤ R.frames ∧ 21 ≤ R.locals) {σ' : mS} {r : Int32} : ∀ (n : Nat) (σ : mS) (x1 : Int32) (x2 : Int32) (x3 : Int32) (x4 : Int32) (H : Heap) (locs : List Loc) (ls : Array Slot), mG A L s σ H locs → lv_has ls 5 [(0, .ref (L.2.1 2)), (1, .int x1), (2, .int x2), (3, .int x3), (4, .int x4)] → fM_span2_b11 N n σ x1 x2 x3 x4 = some (σ', r) → W p l e R s m args below meth c H locs 0 0 (mZ below L A s args σ' (some (.int r))) (F0 m 11 ls []) := by
  have hx := C0.1
  have hb := C0.2.1
  intro n
  induction n with
  | zero => intro σ x1 x2 x3 x4 H locs ls hG hl hF; cases hF
  | succ n ih =>
    intro σ x1 x2 x3 x4 H locs ls hG hl hF
    unfold fM_span2_b11 at hF
    refine lv_iload hx hb dX2_span_11 (lv_at hl 4 rfl) ?_
    refine lv_iload_n hx hb dX2_span_13 rfl (lv_at hl 1 rfl) ?_
    refine lv_icmp_ge (tgt := 41) hx hb dX2_span_14 (by decide) (fun c_3 => ?_) (fun c_3 => ?_)
    · have hF := ifp hF c_3
      refine lv_iload_n hx hb dX2_span_41 rfl (lv_at hl 3 rfl) ?_
      refine lv_iload_n hx hb dX2_span_42 rfl (lv_at hl 2 rfl) ?_
      refine lv_isub hx hb dX2_span_43 ?_
      refine lv_iconst (v := 1) hx hb dX2_span_44 (by decide) ?_
      refine lv_iadd hx hb dX2_span_45 ?_
      exact m_iret C0 hG dX2_span_46 hF
    · have hF := ifn hF c_3
      refine lv_iload_n hx hb dX2_span_17 rfl (lv_at hl 2 rfl) ?_
      refine lv_aload_n hx hb dX2_span_18 rfl (lv_at hl 0 rfl) ?_
      refine lv_iload hx hb dX2_span_19 (lv_at hl 4 rfl) ?_
      refine m_ld C0 hG 2 ⟨by decide, rfl, by decide⟩ dX2_span_21 hF (fun x_4 hF => ?_)
      refine m_min C0 hl.1 q1869 q679 q116 q680 ⟨by omega, by omega⟩ (Nat.le_of_ble_eq_true rfl) dX2_span_22 hF (fun x_5 hF => ?_)
      refine lv_istore_n (lv' := [(2, .int x_5), (0, .ref (L.2.1 2)), (1, .int x1), (3, .int x3), (4, .int x4)]) hx hb dX2_span_25 rfl hl (by decide) rfl (fun ls hl => ?_)
      refine lv_iload_n hx hb dX2_span_26 rfl (lv_at hl 3 rfl) ?_
      refine lv_aload_n hx hb dX2_span_27 rfl (lv_at hl 1 rfl) ?_
      refine lv_iload hx hb dX2_span_28 (lv_at hl 4 rfl) ?_
      refine m_ld C0 hG 2 ⟨by decide, rfl, by decide⟩ dX2_span_30 hF (fun x_6 hF => ?_)
      refine m_max C0 hl.1 q1878 q676 q116 q677 ⟨by omega, by omega⟩ (Nat.le_of_ble_eq_true rfl) dX2_span_31 hF (fun x_7 hF => ?_)
      refine lv_istore_n (lv' := [(3, .int x_7), (2, .int x_5), (0, .ref (L.2.1 2)), (1, .int x1), (4, .int x4)]) hx hb dX2_span_34 rfl hl (by decide) rfl (fun ls hl => ?_)
      refine w_iinc hx hb dX2_span_35 hl 4 rfl (v := 1) (by decide) (by decide) hF (fun x_8 ls hl hF => ?_)
      have hl : lv_has ls 5 [(4, .int x_8), (3, .int x_7), (2, .int x_5), (0, .ref (L.2.1 2)), (1, .int x1)] := hl
      refine lv_goto (tgt := 11) hx hb dX2_span_38 (by decide) ?_
      exact ih _ _ _ _ _ H locs ls hG (lv_sub hl [3, 4, 2, 1, 0] rfl) hF
theorem bM_span2_e {N : Nat} (C0 : mCx p s m args meth c cX2_span 5 (some .int) L A) (hRo : 1 ≤ R.frames ∧ 21 ≤ R.locals) {σ' : mS} {r : Int32} (σ : mS) (a1 : Int32) (H : Heap) (locs : List Loc) (ls : Array Slot) (hG : mG A L s σ H locs) (hl : lv_has ls 5 [(0, .ref (L.2.1 2)), (1, .int a1)]) (hF : fM_span2 N σ a1 = some (σ', r)) : W p l e R s m args below meth c H locs 0 0 (mZ below L A s args σ' (some (.int r))) (F0 m 0 ls []) := by
  have hx := C0.1
  have hb := C0.2.1
  unfold fM_span2 at hF
  refine lv_aload_n hx hb dX2_span_0 rfl (lv_at hl 0 rfl) ?_
  refine lv_iconst (v := 0) hx hb dX2_span_1 (by decide) ?_
  refine m_ld C0 hG 2 ⟨by decide, rfl, by decide⟩ dX2_span_2 hF (fun x_1 hF => ?_)
  refine lv_istore_n (lv' := [(2, .int x_1), (0, .ref (L.2.1 2)), (1, .int a1)]) hx hb dX2_span_3 rfl hl (by decide) rfl (fun ls hl => ?_)
  refine lv_aload_n hx hb dX2_span_4 rfl (lv_at hl 1 rfl) ?_
  refine lv_iconst (v := 0) hx hb dX2_span_5 (by decide) ?_
  refine m_ld C0 hG 2 ⟨by decide, rfl, by decide⟩ dX2_span_6 hF (fun x_2 hF => ?_)
  refine lv_istore_n (lv' := [(3, .int x_2), (2, .int x_1), (0, .ref (L.2.1 2)), (1, .int a1)]) hx hb dX2_span_7 rfl hl (by decide) rfl (fun ls hl => ?_)
  refine lv_iconst (v := 1) hx hb dX2_span_8 (by decide) ?_
  refine lv_istore (lv' := [(4, .int 1), (3, .int x_2), (2, .int x_1), (0, .ref (L.2.1 2)), (1, .int a1)]) hx hb dX2_span_9 hl (by decide) rfl (fun ls hl => ?_)
  exact bM_span2_11 C0 hRo N _ _ _ _ _ H locs ls hG (lv_sub hl [3, 4, 2, 1, 0] rfl) hF
theorem mtM_span2 (l : Launch) {N : Nat} {L : mL} {σ σ' : mS} {r : Int32} {a1 : Int32} (hF : fM_span2 N σ a1 = some (σ', r)) : mMet l yX2_span cX2_span 5 (some .int) (1) (21) [.ref (L.2.1 2), .int a1] L σ (some (.int r)) σ' := by
  refine m_head (by decide) rfl ?_
  intro p e s m below meth c A C0 hG
  have hl := lv_entry ([.ref (L.2.1 2), .int a1]) (n := 5) (Nat.le_of_ble_eq_true rfl)
  rw [lg_entry_eq]
  generalize (lg_sl ([.ref (L.2.1 2), .int a1]) ++ List.replicate (5 - (lg_sl ([.ref (L.2.1 2), .int a1])).length) Slot.unset).toArray = ls at hl ⊢
  have hl : lv_has ls 5 [(0, .ref (L.2.1 2)), (1, .int a1)] := hl
  exact bM_span2_e C0 ⟨Nat.le_refl _, Nat.le_refl _⟩ _ _ _ [] ls hG hl hF
def fM_isAt_b42 (N : Nat) (k3 : mS → Int32 → Int32 → Int32 → Int32 → Option (mS × Int32)) (σ : mS) (x1 : Int32) (x2 : Int32) (x3 : Int32) (x4 : Int32) : Option (mS × Int32) :=
  nmv (x4 + 1) fun x_8 =>
  k3 σ x1 x2 x3 x_8
def fM_isAt_b3 (N : Nat) : Nat → mS → Int32 → Int32 → Int32 → Int32 → Option (mS × Int32)
  | 0, _, _, _, _, _ => none
  | n + 1, σ, x1, x2, x3, x4 =>
    nmv (σ.1 0) fun x_1 =>
    if x_1 ≤ x4 then (
      chb 0 (some (σ, 0)))
    else (
      if x4 = x3 then (
        fM_isAt_b42 N (fM_isAt_b3 N n) σ x1 x2 x3 x4)
      else (
        chk x4 8 <| nmv (σ.2.1 1 x4.toNatClampNeg) fun x_4 =>
        if x_4 = x1 then (
          chk x4 8 <| nmv (σ.2.1 2 x4.toNatClampNeg) fun x_6 =>
          if x_6 = x2 then (
            chb 1 (some (σ, 1)))
          else (
            fM_isAt_b42 N (fM_isAt_b3 N n) σ x1 x2 x3 x4))
        else (
          fM_isAt_b42 N (fM_isAt_b3 N n) σ x1 x2 x3 x4)))
def fM_isAt (N : Nat) (σ : mS) (a0 : Int32) (a1 : Int32) (a2 : Int32) : Option (mS × Int32) :=
  fM_isAt_b3 N N σ a0 a1 a2 0
theorem bM_isAt_42 {N : Nat} (C0 : mCx p s m args meth c cX2_isAt 5 (some .boolean) L A) (hRo : 0 ≤ R.frames ∧ 0 ≤ R.locals) {σ' : mS} {r : Int32} {k3 : mS → Int32 → Int32 → Int32 → Int32 → Option (mS × Int32)} (hk3 : ∀ (σ : mS) (x1 : Int32) (x2 : Int32) (x3 : Int32) (x4 : Int32) (H : Heap) (locs : List Loc) (ls : Array Slot), mG A L s σ H locs → lv_has ls 5 [(0, .ref L.1), (1, .int x1), (2, .int x2), (3, .int x3), (4, .int x4)] → k3 σ x1 x2 x3 x4 = some (σ', r) → W p l e R s m args below meth c H locs 0 0 (mZ below L A s args σ' (some (.int r))) (F0 m 3 ls [])) (σ : mS) (x1 : Int32) (x2 : Int32) (x3 : Int32) (x4 : Int32) (H : Heap) (locs : List Loc) (ls : Array Slot) (hG : mG A L s σ H locs) (hl : lv_has ls 5 [(0, .ref L.1), (1, .int x1), (2, .int x2), (3, .int x3), (4, .int x4)]) (hF : fM_isAt_b42 N k3 σ x1 x2 x3 x4 = some (σ', r)) : W p l e R s m args below meth c H locs 0 0 (mZ below L A s args σ' (some (.int r))) (F0 m 42 ls []) := by
  have hx := C0.1
  have hb := C0.2.1
  unfold fM_isAt_b42 at hF
  refine w_iinc hx hb dX2_isAt_42 hl 4 rfl (v := 1) (by decide) (by decide) hF (fun x_8 ls hl hF => ?_)
  have hl : lv_has ls 5 [(4, .int x_8), (0, .ref L.1), (1, .int x1), (2, .int x2), (3, .int x3)] := hl
  refine lv_goto (tgt := 3) hx hb dX2_isAt_45 (by decide) ?_
  exact hk3 _ _ _ _ _ H locs ls hG (lv_sub hl [1, 2, 3, 4, 0] rfl) hF
theorem bM_isAt_3 {N : Nat} (C0 : mCx p s m args meth c cX2_isAt 5 (some .boolean) L A) (hRo : 0 ≤ R.frames ∧ 0 ≤ R.locals) {σ' : mS} {r : Int32} : ∀ (n : Nat) (σ : mS) (x1 : Int32) (x2 : Int32) (x3 : Int32) (x4 : Int32) (H : Heap) (locs : List Loc) (ls : Array Slot), mG A L s σ H locs → lv_has ls 5 [(0, .ref L.1), (1, .int x1), (2, .int x2), (3, .int x3), (4, .int x4)] → fM_isAt_b3 N n σ x1 x2 x3 x4 = some (σ', r) → W p l e R s m args below meth c H locs 0 0 (mZ below L A s args σ' (some (.int r))) (F0 m 3 ls []) := by
  have hx := C0.1
  have hb := C0.2.1
  intro n
  induction n with
  | zero => intro σ x1 x2 x3 x4 H locs ls hG hl hF; cases hF
  | succ n ih =>
    intro σ x1 x2 x3 x4 H locs ls hG hl hF
    unfold fM_isAt_b3 at hF
    refine lv_iload hx hb dX2_isAt_3 (lv_at hl 4 rfl) ?_
    refine lv_aload_n hx hb dX2_isAt_5 rfl (lv_at hl 0 rfl) ?_
    refine m_geti C0 hG 0 (by decide) rfl q1578 dX2_isAt_6 hF (fun x_1 hF => ?_)
    refine lv_icmp_ge (tgt := 48) hx hb dX2_isAt_9 (by decide) (fun c_2 => ?_) (fun c_2 => ?_)
    · have hF := ifp hF c_2
      refine lv_iconst (v := 0) hx hb dX2_isAt_48 (by decide) ?_
      exact m_zret C0 hG dX2_isAt_49 hF
    · have hF := ifn hF c_2
      refine lv_iload hx hb dX2_isAt_12 (lv_at hl 4 rfl) ?_
      refine lv_iload_n hx hb dX2_isAt_14 rfl (lv_at hl 3 rfl) ?_
      refine lv_icmp_eq (tgt := 42) hx hb dX2_isAt_15 (by decide) (fun c_3 => ?_) (fun c_3 => ?_)
      · have hF := ifp hF c_3
        exact bM_isAt_42 C0 hRo ih _ _ _ _ _ H locs ls hG (lv_sub hl [0, 1, 2, 3, 4] rfl) hF
      · have hF := ifn hF c_3
        refine lv_aload_n hx hb dX2_isAt_18 rfl (lv_at hl 0 rfl) ?_
        refine m_geta C0 hG 1 (by decide) rfl q1579 dX2_isAt_19 ?_
        refine lv_iload hx hb dX2_isAt_22 (lv_at hl 4 rfl) ?_
        refine m_ld C0 hG 1 ⟨by decide, rfl, by decide⟩ dX2_isAt_24 hF (fun x_4 hF => ?_)
        refine lv_iload_n hx hb dX2_isAt_25 rfl (lv_at hl 1 rfl) ?_
        refine lv_icmp_ne (tgt := 42) hx hb dX2_isAt_26 (by decide) (fun c_5 => ?_) (fun c_5 => ?_)
        · have hF := ifn hF c_5
          exact bM_isAt_42 C0 hRo ih _ _ _ _ _ H locs ls hG (lv_sub hl [0, 1, 2, 3, 4] rfl) hF
        · have hF := ifp hF c_5
          refine lv_aload_n hx hb dX2_isAt_29 rfl (lv_at hl 0 rfl) ?_
          refine m_geta C0 hG 2 (by decide) rfl q1580 dX2_isAt_30 ?_
          refine lv_iload hx hb dX2_isAt_33 (lv_at hl 4 rfl) ?_
          refine m_ld C0 hG 2 ⟨by decide, rfl, by decide⟩ dX2_isAt_35 hF (fun x_6 hF => ?_)
          refine lv_iload_n hx hb dX2_isAt_36 rfl (lv_at hl 2 rfl) ?_
          refine lv_icmp_ne (tgt := 42) hx hb dX2_isAt_37 (by decide) (fun c_7 => ?_) (fun c_7 => ?_)
          · have hF := ifn hF c_7
            exact bM_isAt_42 C0 hRo ih _ _ _ _ _ H locs ls hG (lv_sub hl [0, 1, 2, 3, 4] rfl) hF
          · have hF := ifp hF c_7
            refine lv_iconst (v := 1) hx hb dX2_isAt_40 (by decide) ?_
            exact m_zret C0 hG dX2_isAt_41 hF
theorem bM_isAt_e {N : Nat} (C0 : mCx p s m args meth c cX2_isAt 5 (some .boolean) L A) (hRo : 0 ≤ R.frames ∧ 0 ≤ R.locals) {σ' : mS} {r : Int32} (σ : mS) (a0 : Int32) (a1 : Int32) (a2 : Int32) (H : Heap) (locs : List Loc) (ls : Array Slot) (hG : mG A L s σ H locs) (hl : lv_has ls 5 [(0, .ref L.1), (1, .int a0), (2, .int a1), (3, .int a2)]) (hF : fM_isAt N σ a0 a1 a2 = some (σ', r)) : W p l e R s m args below meth c H locs 0 0 (mZ below L A s args σ' (some (.int r))) (F0 m 0 ls []) := by
  have hx := C0.1
  have hb := C0.2.1
  unfold fM_isAt at hF
  refine lv_iconst (v := 0) hx hb dX2_isAt_0 (by decide) ?_
  refine lv_istore (lv' := [(4, .int 0), (0, .ref L.1), (1, .int a0), (2, .int a1), (3, .int a2)]) hx hb dX2_isAt_1 hl (by decide) rfl (fun ls hl => ?_)
  exact bM_isAt_3 C0 hRo N _ _ _ _ _ H locs ls hG (lv_sub hl [1, 2, 3, 4, 0] rfl) hF
theorem mtM_isAt (l : Launch) {N : Nat} {L : mL} {σ σ' : mS} {r : Int32} {a0 : Int32} {a1 : Int32} {a2 : Int32} (hF : fM_isAt N σ a0 a1 a2 = some (σ', r)) : mMet l yX2_isAt cX2_isAt 5 (some .boolean) (0) (0) [.ref L.1, .int a0, .int a1, .int a2] L σ (some (.int r)) σ' := by
  refine m_head (by decide) rfl ?_
  intro p e s m below meth c A C0 hG
  have hl := lv_entry ([.ref L.1, .int a0, .int a1, .int a2]) (n := 5) (Nat.le_of_ble_eq_true rfl)
  rw [lg_entry_eq]
  generalize (lg_sl ([.ref L.1, .int a0, .int a1, .int a2]) ++ List.replicate (5 - (lg_sl ([.ref L.1, .int a0, .int a1, .int a2])).length) Slot.unset).toArray = ls at hl ⊢
  have hl : lv_has ls 5 [(0, .ref L.1), (1, .int a0), (2, .int a1), (3, .int a2)] := hl
  exact bM_isAt_e C0 ⟨Nat.le_refl _, Nat.le_refl _⟩ _ _ _ _ _ [] ls hG hl hF
end MWALK9
