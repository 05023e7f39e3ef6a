section MWALK10
variable {p : Program} {l : Launch} {e : Env} {R : Room} {s : State} {m : MethodId} {args : Array Value} {below : List Frame} {meth : Method} {c : Code} {A : Nat → Prop}
variable {L : mL}
def fM_star_b126 (N : Nat) (k59 : mS → Int32 → Int32 → Int32 → Int32 → Option (mS × Int32)) (σ : mS) (x1 : Int32) (x2 : Int32) (x3 : Int32) (x4 : Int32) : Option (mS × Int32) :=
  nmv (x4 + 1) fun x_34 =>
  k59 σ x1 x2 x3 x_34
def fM_star_b98 (N : Nat) (k59 : mS → Int32 → Int32 → Int32 → Int32 → Option (mS × Int32)) (σ : mS) (x1 : Int32) (x2 : Int32) (x3 : Int32) (x4 : Int32) : Option (mS × Int32) :=
  chk x4 8 <| nmv (σ.2.1 1 x4.toNatClampNeg) fun x_28 =>
  chk x4 8 <| nmv (σ.2.1 2 x4.toNatClampNeg) fun x_29 =>
  obi (fM_isAt N σ ((15 : Int32) - x_28) x_29 (-2)) fun σ_30 r_31 =>
  if r_31 = 0 then (
    fM_star_b126 N k59 σ_30 x1 x2 0 x4)
  else (
    fM_star_b126 N k59 σ_30 x1 x2 x3 x4)
def fM_star_b59 (N : Nat) : Nat → mS → Int32 → Int32 → Int32 → Int32 → Option (mS × Int32)
  | 0, _, _, _, _, _ => none
  | n + 1, σ, x1, x2, x3, x4 =>
    nmv (σ.1 0) fun x_17 =>
    if x_17 ≤ x4 then (
      if x1 = 1 then (
        some (σ, x2))
      else (
        if x3 = 0 then (
          some (σ, 0))
        else (
          some (σ, 1))))
    else (
      chk x4 8 <| nmv (σ.2.1 1 x4.toNatClampNeg) fun x_21 =>
      chk x4 8 <| nmv (σ.2.1 2 x4.toNatClampNeg) fun x_22 =>
      obi (fM_isAt N σ x_21 x_22 x4) fun σ_23 r_24 =>
      if r_24 = 0 then (
        fM_star_b98 N (fM_star_b59 N n) σ_23 x1 x2 x3 x4)
      else (
        nmv (x2 ||| (1 <<< (x4 &&& 31))) fun x_27 =>
        fM_star_b98 N (fM_star_b59 N n) σ_23 x1 x_27 x3 x4))
def fM_star (N : Nat) (σ : mS) (a0 : Int32) : Option (mS × Int32) :=
  obi (fM_within N σ a0 0 2) fun σ_1 r_2 =>
  if r_2 = 0 then (
    some (σ_1, (-1)))
  else (
    if a0 = 0 then (
      nmv (σ_1.1 0) fun x_6 =>
      if x_6 = 0 then (
        some (σ_1, 0))
      else (
        nmv (σ_1.1 0) fun x_8 =>
        obi (fM_span1 N σ_1 x_8) fun σ_9 r_10 =>
        nmv (σ_9.1 0) fun x_12 =>
        obi (fM_span2 N σ_9 x_12) fun σ_13 r_14 =>
        nmv (if r_10 < r_14 then r_14 else r_10) fun x_16 =>
        some (σ_13, x_16)))
    else (
      fM_star_b59 N N σ_1 a0 0 1 0))
theorem bM_star_126 {N : Nat} (C0 : mCx p s m args meth c cX2_star 5 (some .int) L A) (hRo : 2 ≤ R.frames ∧ 45 ≤ R.locals) {σ' : mS} {r : Int32} {k59 : mS → Int32 → Int32 → Int32 → Int32 → Option (mS × Int32)} (hk59 : ∀ (σ : mS) (x1 : Int32) (x2 : Int32) (x3 : Int32) (x4 : Int32) (H : Heap) (locs : List Loc) (ls : Array Slot), mG A L s σ H locs → lv_has ls 5 [(0, .ref L.1), (1, .int x1), (2, .int x2), (3, .int x3), (4, .int x4)] → k59 σ x1 x2 x3 x4 = some (σ', r) → W p l e R s m args below meth c H locs 0 0 (mZ below L A s args σ' (some (.int r))) (F0 m 59 ls [])) (σ : mS) (x1 : Int32) (x2 : Int32) (x3 : Int32) (x4 : Int32) (H : Heap) (locs : List Loc) (ls : Array Slot) (hG : mG A L s σ H locs) (hl : lv_has ls 5 [(0, .ref L.1), (1, .int x1), (2, .int x2), (3, .int x3), (4, .int x4)]) (hF : fM_star_b126 N k59 σ x1 x2 x3 x4 = some (σ', r)) : W p l e R s m args below meth c H locs 0 0 (mZ below L A s args σ' (some (.int r))) (F0 m 126 ls []) := by
  have hx := C0.1
  have hb := C0.2.1
  unfold fM_star_b126 at hF
  refine w_iinc hx hb dX2_star_126 hl 4 rfl (v := 1) (by decide) (by decide) hF (fun x_34 ls hl hF => ?_)
  have hl : lv_has ls 5 [(4, .int x_34), (0, .ref L.1), (1, .int x1), (2, .int x2), (3, .int x3)] := hl
  refine lv_goto (tgt := 59) hx hb dX2_star_129 (by decide) ?_
  exact hk59 _ _ _ _ _ H locs ls hG (lv_sub hl [1, 2, 3, 4, 0] rfl) hF
theorem bM_star_98 {N : Nat} (C0 : mCx p s m args meth c cX2_star 5 (some .int) L A) (hRo : 2 ≤ R.frames ∧ 45 ≤ R.locals) {σ' : mS} {r : Int32} {k59 : mS → Int32 → Int32 → Int32 → Int32 → Option (mS × Int32)} (hk59 : ∀ (σ : mS) (x1 : Int32) (x2 : Int32) (x3 : Int32) (x4 : Int32) (H : Heap) (locs : List Loc) (ls : Array Slot), mG A L s σ H locs → lv_has ls 5 [(0, .ref L.1), (1, .int x1), (2, .int x2), (3, .int x3), (4, .int x4)] → k59 σ x1 x2 x3 x4 = some (σ', r) → W p l e R s m args below meth c H locs 0 0 (mZ below L A s args σ' (some (.int r))) (F0 m 59 ls [])) (σ : mS) (x1 : Int32) (x2 : Int32) (x3 : Int32) (x4 : Int32) (H : Heap) (locs : List Loc) (ls : Array Slot) (hG : mG A L s σ H locs) (hl : lv_has ls 5 [(0, .ref L.1), (1, .int x1), (2, .int x2), (3, .int x3), (4, .int x4)]) (hF : fM_star_b98 N k59 σ x1 x2 x3 x4 = some (σ', r)) : W p l e R s m args below meth c H locs 0 0 (mZ below L A s args σ' (some (.int r))) (F0 m 98 ls []) := by
  have hx := C0.1
  have hb := C0.2.1
  unfold fM_star_b98 at hF
  refine lv_aload_n hx hb dX2_star_98 rfl (lv_at hl 0 rfl) ?_
  refine lv_bipush (v := 15) hx hb dX2_star_99 (by decide) ?_
  refine lv_aload_n hx hb dX2_star_101 rfl (lv_at hl 0 rfl) ?_
  refine m_geta C0 hG 1 (by decide) rfl q1579 dX2_star_102 ?_
  refine lv_iload hx hb dX2_star_105 (lv_at hl 4 rfl) ?_
  refine m_ld C0 hG 1 ⟨by decide, rfl, by decide⟩ dX2_star_107 hF (fun x_28 hF => ?_)
  refine lv_isub hx hb dX2_star_108 ?_
  refine lv_aload_n hx hb dX2_star_109 rfl (lv_at hl 0 rfl) ?_
  refine m_geta C0 hG 2 (by decide) rfl q1580 dX2_star_110 ?_
  refine lv_iload hx hb dX2_star_113 (lv_at hl 4 rfl) ?_
  refine m_ld C0 hG 2 ⟨by decide, rfl, by decide⟩ dX2_star_115 hF (fun x_29 hF => ?_)
  refine lv_bipush (v := (-2)) hx hb dX2_star_116 (by decide) ?_
  obtain ⟨σ_30, r_31, e_32, hF⟩ := obi_of hF
  refine m_cVi (As := [.int ((15 : Int32) - x_28), .int x_29, .int (-2)]) (rest := []) C0 hG (mtM_isAt l e_32) (lw_V q2015 q2017 qs90 q102 q2018) yd_X2_isAt ⟨by omega, by omega⟩ rfl rfl hl.1 (Nat.le_of_ble_eq_true rfl) dX2_star_118 (fun H locs hG => ?_)
  refine lv_if_ne (tgt := 126) hx hb dX2_star_121 (by decide) (fun c_33 => ?_) (fun c_33 => ?_)
  · have hF := ifn hF c_33
    exact bM_star_126 C0 hRo hk59 _ _ _ _ _ H locs ls hG (lv_sub hl [0, 1, 2, 3, 4] rfl) hF
  · have hF := ifp hF c_33
    refine lv_iconst (v := 0) hx hb dX2_star_124 (by decide) ?_
    refine lv_istore_n (lv' := [(3, .int 0), (0, .ref L.1), (1, .int x1), (2, .int x2), (4, .int x4)]) hx hb dX2_star_125 rfl hl (by decide) rfl (fun ls hl => ?_)
    exact bM_star_126 C0 hRo hk59 _ _ _ _ _ H locs ls hG (lv_sub hl [1, 2, 3, 0, 4] rfl) hF
theorem bM_star_59 {N : Nat} (C0 : mCx p s m args meth c cX2_star 5 (some .int) L A) (hRo : 2 ≤ R.frames ∧ 45 ≤ R.locals) {σ' : mS} {r : Int32} : ∀ (n : Nat) (σ : mS) (x1 : Int32) (x2 : Int32) (x3 : Int32) (x4 : Int32) (H : Heap) (locs : List Loc) (ls : Array Slot), mG A L s σ H locs → lv_has ls 5 [(0, .ref L.1), (1, .int x1), (2, .int x2), (3, .int x3), (4, .int x4)] → fM_star_b59 N n σ x1 x2 x3 x4 = some (σ', r) → W p l e R s m args below meth c H locs 0 0 (mZ below L A s args σ' (some (.int r))) (F0 m 59 ls []) := by
  have hx := C0.1
  have hb := C0.2.1
  intro n
  induction n with
  | zero => intro σ x1 x2 x3 x4 H locs ls hG hl hF; cases hF
  | succ n ih =>
    intro σ x1 x2 x3 x4 H locs ls hG hl hF
    unfold fM_star_b59 at hF
    refine lv_iload hx hb dX2_star_59 (lv_at hl 4 rfl) ?_
    refine lv_aload_n hx hb dX2_star_61 rfl (lv_at hl 0 rfl) ?_
    refine m_geti C0 hG 0 (by decide) rfl q1578 dX2_star_62 hF (fun x_17 hF => ?_)
    refine lv_icmp_ge (tgt := 132) hx hb dX2_star_65 (by decide) (fun c_18 => ?_) (fun c_18 => ?_)
    · have hF := ifp hF c_18
      refine lv_iload_n hx hb dX2_star_132 rfl (lv_at hl 1 rfl) ?_
      refine lv_iconst (v := 1) hx hb dX2_star_133 (by decide) ?_
      refine lv_icmp_ne (tgt := 141) hx hb dX2_star_134 (by decide) (fun c_19 => ?_) (fun c_19 => ?_)
      · have hF := ifn hF c_19
        refine lv_iload_n hx hb dX2_star_141 rfl (lv_at hl 3 rfl) ?_
        refine lv_if_eq (tgt := 149) hx hb dX2_star_142 (by decide) (fun c_20 => ?_) (fun c_20 => ?_)
        · have hF := ifp hF c_20
          refine lv_iconst (v := 0) hx hb dX2_star_149 (by decide) ?_
          exact m_iret C0 hG dX2_star_150 hF
        · have hF := ifn hF c_20
          refine lv_iconst (v := 1) hx hb dX2_star_145 (by decide) ?_
          refine lv_goto (tgt := 150) hx hb dX2_star_146 (by decide) ?_
          exact m_iret C0 hG dX2_star_150 hF
      · have hF := ifp hF c_19
        refine lv_iload_n hx hb dX2_star_137 rfl (lv_at hl 2 rfl) ?_
        refine lv_goto (tgt := 150) hx hb dX2_star_138 (by decide) ?_
        exact m_iret C0 hG dX2_star_150 hF
    · have hF := ifn hF c_18
      refine lv_aload_n hx hb dX2_star_68 rfl (lv_at hl 0 rfl) ?_
      refine lv_aload_n hx hb dX2_star_69 rfl (lv_at hl 0 rfl) ?_
      refine m_geta C0 hG 1 (by decide) rfl q1579 dX2_star_70 ?_
      refine lv_iload hx hb dX2_star_73 (lv_at hl 4 rfl) ?_
      refine m_ld C0 hG 1 ⟨by decide, rfl, by decide⟩ dX2_star_75 hF (fun x_21 hF => ?_)
      refine lv_aload_n hx hb dX2_star_76 rfl (lv_at hl 0 rfl) ?_
      refine m_geta C0 hG 2 (by decide) rfl q1580 dX2_star_77 ?_
      refine lv_iload hx hb dX2_star_80 (lv_at hl 4 rfl) ?_
      refine m_ld C0 hG 2 ⟨by decide, rfl, by decide⟩ dX2_star_82 hF (fun x_22 hF => ?_)
      refine lv_iload hx hb dX2_star_83 (lv_at hl 4 rfl) ?_
      obtain ⟨σ_23, r_24, e_25, hF⟩ := obi_of hF
      refine m_cVi (As := [.int x_21, .int x_22, .int x4]) (rest := []) C0 hG (mtM_isAt l e_25) (lw_V q2015 q2017 qs90 q102 q2018) yd_X2_isAt ⟨by omega, by omega⟩ rfl rfl hl.1 (Nat.le_of_ble_eq_true rfl) dX2_star_85 (fun H locs hG => ?_)
      refine lv_if_eq (tgt := 98) hx hb dX2_star_88 (by decide) (fun c_26 => ?_) (fun c_26 => ?_)
      · have hF := ifp hF c_26
        exact bM_star_98 C0 hRo ih _ _ _ _ _ H locs ls hG (lv_sub hl [0, 1, 2, 3, 4] rfl) hF
      · have hF := ifn hF c_26
        refine lv_iload_n hx hb dX2_star_91 rfl (lv_at hl 2 rfl) ?_
        refine lv_iconst (v := 1) hx hb dX2_star_92 (by decide) ?_
        refine lv_iload hx hb dX2_star_93 (lv_at hl 4 rfl) ?_
        refine lv_ishl hx hb dX2_star_95 ?_
        refine lv_ior hx hb dX2_star_96 ?_
        refine w_nm hF (fun x_27 hF => ?_)
        refine lv_istore_n (lv' := [(2, .int x_27), (0, .ref L.1), (1, .int x1), (3, .int x3), (4, .int x4)]) hx hb dX2_star_97 rfl hl (by decide) rfl (fun ls hl => ?_)
        exact bM_star_98 C0 hRo ih _ _ _ _ _ H locs ls hG (lv_sub hl [1, 2, 0, 3, 4] rfl) hF
theorem bM_star_e {N : Nat} (C0 : mCx p s m args meth c cX2_star 5 (some .int) L A) (hRo : 2 ≤ R.frames ∧ 45 ≤ R.locals) {σ' : mS} {r : Int32} (σ : mS) (a0 : Int32) (H : Heap) (locs : List Loc) (ls : Array Slot) (hG : mG A L s σ H locs) (hl : lv_has ls 5 [(0, .ref L.1), (1, .int a0)]) (hF : fM_star N σ a0 = some (σ', r)) : W p l e R s m args below meth c H locs 0 0 (mZ below L A s args σ' (some (.int r))) (F0 m 0 ls []) := by
  have hx := C0.1
  have hb := C0.2.1
  unfold fM_star at hF
  refine lv_iload_n hx hb dX2_star_0 rfl (lv_at hl 1 rfl) ?_
  refine lv_iconst (v := 0) hx hb dX2_star_1 (by decide) ?_
  refine lv_iconst (v := 2) hx hb dX2_star_2 (by decide) ?_
  obtain ⟨σ_1, r_2, e_3, hF⟩ := obi_of hF
  refine m_cSi (As := [.int a0, .int 0, .int 2]) (rest := []) C0 hG (mtM_within l e_3) (lw_S q1751 q1752 q102 q1753) yd_X2_within ⟨by omega, by omega⟩ rfl rfl hl.1 (Nat.le_of_ble_eq_true rfl) dX2_star_3 (fun H locs hG => ?_)
  refine lv_if_ne (tgt := 11) hx hb dX2_star_6 (by decide) (fun c_4 => ?_) (fun c_4 => ?_)
  · have hF := ifn hF c_4
    refine lv_iload_n hx hb dX2_star_11 rfl (lv_at hl 1 rfl) ?_
    refine lv_if_ne (tgt := 52) hx hb dX2_star_12 (by decide) (fun c_5 => ?_) (fun c_5 => ?_)
    · have hF := ifn hF c_5
      refine lv_iconst (v := 0) hx hb dX2_star_52 (by decide) ?_
      refine lv_istore_n (lv' := [(2, .int 0), (0, .ref L.1), (1, .int a0)]) hx hb dX2_star_53 rfl hl (by decide) rfl (fun ls hl => ?_)
      refine lv_iconst (v := 1) hx hb dX2_star_54 (by decide) ?_
      refine lv_istore_n (lv' := [(3, .int 1), (2, .int 0), (0, .ref L.1), (1, .int a0)]) hx hb dX2_star_55 rfl hl (by decide) rfl (fun ls hl => ?_)
      refine lv_iconst (v := 0) hx hb dX2_star_56 (by decide) ?_
      refine lv_istore (lv' := [(4, .int 0), (3, .int 1), (2, .int 0), (0, .ref L.1), (1, .int a0)]) hx hb dX2_star_57 hl (by decide) rfl (fun ls hl => ?_)
      exact bM_star_59 C0 hRo N _ _ _ _ _ H locs ls hG (lv_sub hl [3, 4, 2, 1, 0] rfl) hF
    · have hF := ifp hF c_5
      refine lv_aload_n hx hb dX2_star_15 rfl (lv_at hl 0 rfl) ?_
      refine m_geti C0 hG 0 (by decide) rfl q1578 dX2_star_16 hF (fun x_6 hF => ?_)
      refine lv_if_ne (tgt := 26) hx hb dX2_star_19 (by decide) (fun c_7 => ?_) (fun c_7 => ?_)
      · have hF := ifn hF c_7
        refine lv_aload_n hx hb dX2_star_26 rfl (lv_at hl 0 rfl) ?_
        refine m_geta C0 hG 1 (by decide) rfl q1579 dX2_star_27 ?_
        refine lv_aload_n hx hb dX2_star_30 rfl (lv_at hl 0 rfl) ?_
        refine m_geti C0 hG 0 (by decide) rfl q1578 dX2_star_31 hF (fun x_8 hF => ?_)
        obtain ⟨σ_9, r_10, e_11, hF⟩ := obi_of hF
        refine m_cSi (As := [.ref (L.2.1 1), .int x_8]) (rest := []) C0 hG (mtM_span1 l e_11) (lw_S q2012 q2013 q102 q2014) yd_X2_span ⟨by omega, by omega⟩ rfl rfl hl.1 (Nat.le_of_ble_eq_true rfl) dX2_star_34 (fun H locs hG => ?_)
        refine lv_aload_n hx hb dX2_star_37 rfl (lv_at hl 0 rfl) ?_
        refine m_geta C0 hG 2 (by decide) rfl q1580 dX2_star_38 ?_
        refine lv_aload_n hx hb dX2_star_41 rfl (lv_at hl 0 rfl) ?_
        refine m_geti C0 hG 0 (by decide) rfl q1578 dX2_star_42 hF (fun x_12 hF => ?_)
        obtain ⟨σ_13, r_14, e_15, hF⟩ := obi_of hF
        refine m_cSi (As := [.ref (L.2.1 2), .int x_12]) (rest := [.int r_10]) C0 hG (mtM_span2 l e_15) (lw_S q2012 q2013 q102 q2014) yd_X2_span ⟨by omega, by omega⟩ rfl rfl hl.1 (Nat.le_of_ble_eq_true rfl) dX2_star_45 (fun H locs hG => ?_)
        refine m_max C0 hl.1 q1878 q676 q116 q677 ⟨by omega, by omega⟩ (Nat.le_of_ble_eq_true rfl) dX2_star_48 hF (fun x_16 hF => ?_)
        exact m_iret C0 hG dX2_star_51 hF
      · have hF := ifp hF c_7
        refine lv_iconst (v := 0) hx hb dX2_star_22 (by decide) ?_
        refine lv_goto (tgt := 51) hx hb dX2_star_23 (by decide) ?_
        exact m_iret C0 hG dX2_star_51 hF
  · have hF := ifp hF c_4
    refine lv_iconst (v := (-1)) hx hb dX2_star_9 (by decide) ?_
    exact m_iret C0 hG dX2_star_10 hF
theorem mtM_star (l : Launch) {N : Nat} {L : mL} {σ σ' : mS} {r : Int32} {a0 : Int32} (hF : fM_star N σ a0 = some (σ', r)) : mMet l yX2_star cX2_star 5 (some .int) (2) (45) [.ref L.1, .int a0] L σ (some (.int r)) σ' := by
  refine m_head (by decide) rfl ?_
  intro p e s m below meth c A C0 hG
  have hl := lv_entry ([.ref L.1, .int a0]) (n := 5) (Nat.le_of_ble_eq_true rfl)
  rw [lg_entry_eq]
  generalize (lg_sl ([.ref L.1, .int a0]) ++ List.replicate (5 - (lg_sl ([.ref L.1, .int a0])).length) Slot.unset).toArray = ls at hl ⊢
  have hl : lv_has ls 5 [(0, .ref L.1), (1, .int a0)] := hl
  exact bM_star_e C0 ⟨Nat.le_refl _, Nat.le_refl _⟩ _ _ _ [] ls hG hl hF
def fM_areShelves (N : Nat) (σ : mS) (a0 : Int32) : Option (mS × Int32) :=
  if a0 < 0 then (
    chb 0 (some (σ, 0)))
  else (
    chz 10 <|
    obi (fM_isShelf N σ (a0 / 10)) fun σ_3 r_4 =>
    if r_4 = 0 then (
      chb 0 (some (σ_3, 0)))
    else (
      chz 10 <|
      obi (fM_isShelf N σ_3 (a0 - a0 / 10 * 10)) fun σ_8 r_9 =>
      if r_9 = 0 then (
        chb 0 (some (σ_8, 0)))
      else (
        chb 1 (some (σ_8, 1)))))
theorem bM_areShelves_e {N : Nat} (C0 : mCx p s m args meth c cX2_areShelves 1 (some .boolean) L A) (hRo : 2 ≤ R.frames ∧ 42 ≤ R.locals) {σ' : mS} {r : Int32} (σ : mS) (a0 : Int32) (H : Heap) (locs : List Loc) (ls : Array Slot) (hG : mG A L s σ H locs) (hl : lv_has ls 1 [(0, .int a0)]) (hF : fM_areShelves N σ a0 = some (σ', r)) : W p l e R s m args below meth c H locs 0 0 (mZ below L A s args σ' (some (.int r))) (F0 m 0 ls []) := by
  have hx := C0.1
  have hb := C0.2.1
  unfold fM_areShelves at hF
  refine lv_iload_n hx hb dX2_areShelves_0 rfl (lv_at hl 0 rfl) ?_
  refine lv_if_lt (tgt := 28) hx hb dX2_areShelves_1 (by decide) (fun c_1 => ?_) (fun c_1 => ?_)
  · have hF := ifp hF c_1
    refine lv_iconst (v := 0) hx hb dX2_areShelves_28 (by decide) ?_
    exact m_zret C0 hG dX2_areShelves_29 hF
  · have hF := ifn hF c_1
    refine lv_iload_n hx hb dX2_areShelves_4 rfl (lv_at hl 0 rfl) ?_
    refine lv_bipush (v := 10) hx hb dX2_areShelves_5 (by decide) ?_
    obtain ⟨h_2, hF⟩ := chz_of hF
    refine lv_idiv hx hb dX2_areShelves_7 h_2 ?_
    obtain ⟨σ_3, r_4, e_5, hF⟩ := obi_of hF
    refine m_cSi (As := [.int (a0 / 10)]) (rest := []) C0 hG (mtM_isShelf l e_5) (lw_S q1762 q1763 q102 q1764) yd_X2_isShelf ⟨by omega, by omega⟩ rfl rfl hl.1 (Nat.le_of_ble_eq_true rfl) dX2_areShelves_8 (fun H locs hG => ?_)
    refine lv_if_eq (tgt := 28) hx hb dX2_areShelves_11 (by decide) (fun c_6 => ?_) (fun c_6 => ?_)
    · have hF := ifp hF c_6
      refine lv_iconst (v := 0) hx hb dX2_areShelves_28 (by decide) ?_
      exact m_zret C0 hG dX2_areShelves_29 hF
    · have hF := ifn hF c_6
      refine lv_iload_n hx hb dX2_areShelves_14 rfl (lv_at hl 0 rfl) ?_
      refine lv_bipush (v := 10) hx hb dX2_areShelves_15 (by decide) ?_
      obtain ⟨h_7, hF⟩ := chz_of hF
      refine lv_irem hx hb dX2_areShelves_17 h_7 ?_
      obtain ⟨σ_8, r_9, e_10, hF⟩ := obi_of hF
      refine m_cSi (As := [.int (a0 - a0 / 10 * 10)]) (rest := []) C0 hG (mtM_isShelf l e_10) (lw_S q1762 q1763 q102 q1764) yd_X2_isShelf ⟨by omega, by omega⟩ rfl rfl hl.1 (Nat.le_of_ble_eq_true rfl) dX2_areShelves_18 (fun H locs hG => ?_)
      refine lv_if_eq (tgt := 28) hx hb dX2_areShelves_21 (by decide) (fun c_11 => ?_) (fun c_11 => ?_)
      · have hF := ifp hF c_11
        refine lv_iconst (v := 0) hx hb dX2_areShelves_28 (by decide) ?_
        exact m_zret C0 hG dX2_areShelves_29 hF
      · have hF := ifn hF c_11
        refine lv_iconst (v := 1) hx hb dX2_areShelves_24 (by decide) ?_
        refine lv_goto (tgt := 29) hx hb dX2_areShelves_25 (by decide) ?_
        exact m_zret C0 hG dX2_areShelves_29 hF
theorem mtM_areShelves (l : Launch) {N : Nat} {L : mL} {σ σ' : mS} {r : Int32} {a0 : Int32} (hF : fM_areShelves N σ a0 = some (σ', r)) : mMet l yX2_areShelves cX2_areShelves 1 (some .boolean) (2) (42) [.int a0] L σ (some (.int r)) σ' := by
  refine m_head (by decide) rfl ?_
  intro p e s m below meth c A C0 hG
  have hl := lv_entry ([.int a0]) (n := 1) (Nat.le_of_ble_eq_true rfl)
  rw [lg_entry_eq]
  generalize (lg_sl ([.int a0]) ++ List.replicate (1 - (lg_sl ([.int a0])).length) Slot.unset).toArray = ls at hl ⊢
  have hl : lv_has ls 1 [(0, .int a0)] := hl
  exact bM_areShelves_e C0 ⟨Nat.le_refl _, Nat.le_refl _⟩ _ _ _ [] ls hG hl hF
def fM_noRipples (N : Nat) (σ : mS) (a0 : Int32) : Option (mS × Int32) :=
  chz 10 <|
  nmv (a0 / 10) fun x_2 =>
  chk x_2 6 <| nmv (σ.2.1 41 x_2.toNatClampNeg) fun x_3 =>
  if x_3 = (-1) then (
    some (σ, (-11)))
  else (
    chz 10 <|
    nmv (a0 - a0 / 10 * 10) fun x_6 =>
    chk x_6 6 <| nmv (σ.2.1 41 x_6.toNatClampNeg) fun x_7 =>
    if x_7 = (-1) then (
      some (σ, (-11)))
    else (
      chz 10 <|
      nmv (a0 / 10) fun x_10 =>
      chk x_10 6 <| nmv (σ.2.1 41 x_10.toNatClampNeg) fun x_11 =>
      if x_11 = 0 then (
        chz 10 <|
        nmv (a0 - a0 / 10 * 10) fun x_14 =>
        chk x_14 6 <| nmv (σ.2.1 41 x_14.toNatClampNeg) fun x_15 =>
        if x_15 = 1 then (
          some (σ, 0))
        else (
          some (σ, (-12))))
      else (
        some (σ, (-12)))))
theorem bM_noRipples_e {N : Nat} (C0 : mCx p s m args meth c cX2_noRipples 2 (some .int) L A) (hRo : 0 ≤ R.frames ∧ 0 ≤ R.locals) {σ' : mS} {r : Int32} (σ : mS) (a0 : Int32) (H : Heap) (locs : List Loc) (ls : Array Slot) (hG : mG A L s σ H locs) (hl : lv_has ls 2 [(0, .ref L.1), (1, .int a0)]) (hF : fM_noRipples N σ a0 = some (σ', r)) : W p l e R s m args below meth c H locs 0 0 (mZ below L A s args σ' (some (.int r))) (F0 m 0 ls []) := by
  have hx := C0.1
  have hb := C0.2.1
  unfold fM_noRipples at hF
  refine lv_aload_n hx hb dX2_noRipples_0 rfl (lv_at hl 0 rfl) ?_
  refine m_geta C0 hG 41 (by decide) rfl q1619 dX2_noRipples_1 ?_
  refine lv_iload_n hx hb dX2_noRipples_4 rfl (lv_at hl 1 rfl) ?_
  refine lv_bipush (v := 10) hx hb dX2_noRipples_5 (by decide) ?_
  obtain ⟨h_1, hF⟩ := chz_of hF
  refine lv_idiv hx hb dX2_noRipples_7 h_1 ?_
  refine w_nm hF (fun x_2 hF => ?_)
  refine m_ld C0 hG 41 ⟨by decide, rfl, by decide⟩ dX2_noRipples_8 hF (fun x_3 hF => ?_)
  refine lv_iconst (v := (-1)) hx hb dX2_noRipples_9 (by decide) ?_
  refine lv_icmp_eq (tgt := 26) hx hb dX2_noRipples_10 (by decide) (fun c_4 => ?_) (fun c_4 => ?_)
  · have hF := ifp hF c_4
    refine lv_bipush (v := (-11)) hx hb dX2_noRipples_26 (by decide) ?_
    exact m_iret C0 hG dX2_noRipples_28 hF
  · have hF := ifn hF c_4
    refine lv_aload_n hx hb dX2_noRipples_13 rfl (lv_at hl 0 rfl) ?_
    refine m_geta C0 hG 41 (by decide) rfl q1619 dX2_noRipples_14 ?_
    refine lv_iload_n hx hb dX2_noRipples_17 rfl (lv_at hl 1 rfl) ?_
    refine lv_bipush (v := 10) hx hb dX2_noRipples_18 (by decide) ?_
    obtain ⟨h_5, hF⟩ := chz_of hF
    refine lv_irem hx hb dX2_noRipples_20 h_5 ?_
    refine w_nm hF (fun x_6 hF => ?_)
    refine m_ld C0 hG 41 ⟨by decide, rfl, by decide⟩ dX2_noRipples_21 hF (fun x_7 hF => ?_)
    refine lv_iconst (v := (-1)) hx hb dX2_noRipples_22 (by decide) ?_
    refine lv_icmp_ne (tgt := 29) hx hb dX2_noRipples_23 (by decide) (fun c_8 => ?_) (fun c_8 => ?_)
    · have hF := ifn hF c_8
      refine lv_aload_n hx hb dX2_noRipples_29 rfl (lv_at hl 0 rfl) ?_
      refine m_geta C0 hG 41 (by decide) rfl q1619 dX2_noRipples_30 ?_
      refine lv_iload_n hx hb dX2_noRipples_33 rfl (lv_at hl 1 rfl) ?_
      refine lv_bipush (v := 10) hx hb dX2_noRipples_34 (by decide) ?_
      obtain ⟨h_9, hF⟩ := chz_of hF
      refine lv_idiv hx hb dX2_noRipples_36 h_9 ?_
      refine w_nm hF (fun x_10 hF => ?_)
      refine m_ld C0 hG 41 ⟨by decide, rfl, by decide⟩ dX2_noRipples_37 hF (fun x_11 hF => ?_)
      refine lv_if_ne (tgt := 54) hx hb dX2_noRipples_38 (by decide) (fun c_12 => ?_) (fun c_12 => ?_)
      · have hF := ifn hF c_12
        refine lv_bipush (v := (-12)) hx hb dX2_noRipples_54 (by decide) ?_
        refine lv_goto (tgt := 60) hx hb dX2_noRipples_56 (by decide) ?_
        exact m_iret C0 hG dX2_noRipples_60 hF
      · have hF := ifp hF c_12
        refine lv_aload_n hx hb dX2_noRipples_41 rfl (lv_at hl 0 rfl) ?_
        refine m_geta C0 hG 41 (by decide) rfl q1619 dX2_noRipples_42 ?_
        refine lv_iload_n hx hb dX2_noRipples_45 rfl (lv_at hl 1 rfl) ?_
        refine lv_bipush (v := 10) hx hb dX2_noRipples_46 (by decide) ?_
        obtain ⟨h_13, hF⟩ := chz_of hF
        refine lv_irem hx hb dX2_noRipples_48 h_13 ?_
        refine w_nm hF (fun x_14 hF => ?_)
        refine m_ld C0 hG 41 ⟨by decide, rfl, by decide⟩ dX2_noRipples_49 hF (fun x_15 hF => ?_)
        refine lv_iconst (v := 1) hx hb dX2_noRipples_50 (by decide) ?_
        refine lv_icmp_eq (tgt := 59) hx hb dX2_noRipples_51 (by decide) (fun c_16 => ?_) (fun c_16 => ?_)
        · have hF := ifp hF c_16
          refine lv_iconst (v := 0) hx hb dX2_noRipples_59 (by decide) ?_
          exact m_iret C0 hG dX2_noRipples_60 hF
        · have hF := ifn hF c_16
          refine lv_bipush (v := (-12)) hx hb dX2_noRipples_54 (by decide) ?_
          refine lv_goto (tgt := 60) hx hb dX2_noRipples_56 (by decide) ?_
          exact m_iret C0 hG dX2_noRipples_60 hF
    · have hF := ifp hF c_8
      refine lv_bipush (v := (-11)) hx hb dX2_noRipples_26 (by decide) ?_
      exact m_iret C0 hG dX2_noRipples_28 hF
theorem mtM_noRipples (l : Launch) {N : Nat} {L : mL} {σ σ' : mS} {r : Int32} {a0 : Int32} (hF : fM_noRipples N σ a0 = some (σ', r)) : mMet l yX2_noRipples cX2_noRipples 2 (some .int) (0) (0) [.ref L.1, .int a0] L σ (some (.int r)) σ' := by
  refine m_head (by decide) rfl ?_
  intro p e s m below meth c A C0 hG
  have hl := lv_entry ([.ref L.1, .int a0]) (n := 2) (Nat.le_of_ble_eq_true rfl)
  rw [lg_entry_eq]
  generalize (lg_sl ([.ref L.1, .int a0]) ++ List.replicate (2 - (lg_sl ([.ref L.1, .int a0])).length) Slot.unset).toArray = ls at hl ⊢
  have hl : lv_has ls 2 [(0, .ref L.1), (1, .int a0)] := hl
  exact bM_noRipples_e C0 ⟨Nat.le_refl _, Nat.le_refl _⟩ _ _ _ [] ls hG hl hF
def fM_wrong_b7 (N : Nat) : Nat → mS → Int32 → Int32 → Option (mS × Int32)
  | 0, _, _, _ => none
  | n + 1, σ, x1, x2 =>
    nmv (σ.1 44) fun x_4 =>
    if x_4 ≤ x2 then (
      some (σ, (-2)))
    else (
      chz 10 <|
      nmv (x1 - x1 / 10 * 10) fun x_7 =>
      chk x_7 6 <| nmv (σ.2.1 42 x_7.toNatClampNeg) fun x_8 =>
      if x_8 ≤ x2 then (
        some (σ, (-2)))
      else (
        chz 10 <|
        nmv (((60 : Int32) * (x1 - x1 / 10 * 10)) + x2) fun x_11 =>
        chk x_11 360 <| nmv (σ.2.2 x_11.toNatClampNeg) fun x_12 =>
        obi (fM_greatest N σ (x2 + 1)) fun σ_13 r_14 =>
        if (lg_cmp x_12 (r_14.toInt64)) = 0 then (
          nmv (x2 + 1) fun x_17 =>
          (fM_wrong_b7 N n) σ_13 x1 x_17)
        else (
          some (σ_13, x2))))
def fM_wrong (N : Nat) (σ : mS) (a0 : Int32) : Option (mS × Int32) :=
  obi (fM_drifts N σ 0) fun σ_1 r_2 =>
  fM_wrong_b7 N N σ_1 a0 0
theorem bM_wrong_7 {N : Nat} (C0 : mCx p s m args meth c cX2_wrong 3 (some .int) L A) (hRo : 4 ≤ R.frames ∧ 92 ≤ R.locals) {σ' : mS} {r : Int32} : ∀ (n : Nat) (σ : mS) (x1 : Int32) (x2 : Int32) (H : Heap) (locs : List Loc) (ls : Array Slot), mG A L s σ H locs → lv_has ls 3 [(0, .ref L.1), (1, .int x1), (2, .int x2)] → fM_wrong_b7 N n σ x1 x2 = some (σ', r) → W p l e R s m args below meth c H locs 0 0 (mZ below L A s args σ' (some (.int r))) (F0 m 7 ls []) := by
  have hx := C0.1
  have hb := C0.2.1
  intro n
  induction n with
  | zero => intro σ x1 x2 H locs ls hG hl hF; cases hF
  | succ n ih =>
    intro σ x1 x2 H locs ls hG hl hF
    unfold fM_wrong_b7 at hF
    refine lv_iload_n hx hb dX2_wrong_7 rfl (lv_at hl 2 rfl) ?_
    refine lv_aload_n hx hb dX2_wrong_8 rfl (lv_at hl 0 rfl) ?_
    refine m_geti C0 hG 44 (by decide) rfl q1622 dX2_wrong_9 hF (fun x_4 hF => ?_)
    refine lv_icmp_ge (tgt := 62) hx hb dX2_wrong_12 (by decide) (fun c_5 => ?_) (fun c_5 => ?_)
    · have hF := ifp hF c_5
      refine lv_bipush (v := (-2)) hx hb dX2_wrong_62 (by decide) ?_
      exact m_iret C0 hG dX2_wrong_64 hF
    · have hF := ifn hF c_5
      refine lv_iload_n hx hb dX2_wrong_15 rfl (lv_at hl 2 rfl) ?_
      refine lv_aload_n hx hb dX2_wrong_16 rfl (lv_at hl 0 rfl) ?_
      refine m_geta C0 hG 42 (by decide) rfl q1620 dX2_wrong_17 ?_
      refine lv_iload_n hx hb dX2_wrong_20 rfl (lv_at hl 1 rfl) ?_
      refine lv_bipush (v := 10) hx hb dX2_wrong_21 (by decide) ?_
      obtain ⟨h_6, hF⟩ := chz_of hF
      refine lv_irem hx hb dX2_wrong_23 h_6 ?_
      refine w_nm hF (fun x_7 hF => ?_)
      refine m_ld C0 hG 42 ⟨by decide, rfl, by decide⟩ dX2_wrong_24 hF (fun x_8 hF => ?_)
      refine lv_icmp_ge (tgt := 62) hx hb dX2_wrong_25 (by decide) (fun c_9 => ?_) (fun c_9 => ?_)
      · have hF := ifp hF c_9
        refine lv_bipush (v := (-2)) hx hb dX2_wrong_62 (by decide) ?_
        exact m_iret C0 hG dX2_wrong_64 hF
      · have hF := ifn hF c_9
        refine lv_aload_n hx hb dX2_wrong_28 rfl (lv_at hl 0 rfl) ?_
        refine m_geta C0 hG 43 (by decide) rfl q1621 dX2_wrong_29 ?_
        refine lv_bipush (v := 60) hx hb dX2_wrong_32 (by decide) ?_
        refine lv_iload_n hx hb dX2_wrong_34 rfl (lv_at hl 1 rfl) ?_
        refine lv_bipush (v := 10) hx hb dX2_wrong_35 (by decide) ?_
        obtain ⟨h_10, hF⟩ := chz_of hF
        refine lv_irem hx hb dX2_wrong_37 h_10 ?_
        refine lv_imul hx hb dX2_wrong_38 ?_
        refine lv_iload_n hx hb dX2_wrong_39 rfl (lv_at hl 2 rfl) ?_
        refine lv_iadd hx hb dX2_wrong_40 ?_
        refine w_nm hF (fun x_11 hF => ?_)
        refine m_ldl C0 hG dX2_wrong_41 hF (fun x_12 hF => ?_)
        refine lv_aload_n hx hb dX2_wrong_42 rfl (lv_at hl 0 rfl) ?_
        refine lv_iload_n hx hb dX2_wrong_43 rfl (lv_at hl 2 rfl) ?_
        refine lv_iconst (v := 1) hx hb dX2_wrong_44 (by decide) ?_
        refine lv_iadd hx hb dX2_wrong_45 ?_
        obtain ⟨σ_13, r_14, e_15, hF⟩ := obi_of hF
        refine m_cVi (As := [.int (x2 + 1)]) (rest := [.long x_12]) C0 hG (mtM_greatest l e_15) (lw_V q1916 q1918 qs79 q102 q1919) yd_X2_greatest ⟨by omega, by omega⟩ rfl rfl hl.1 (Nat.le_of_ble_eq_true rfl) dX2_wrong_46 (fun H locs hG => ?_)
        refine lv_i2l (v := r_14.toInt64) hx hb dX2_wrong_49 rfl ?_
        refine W.lcmp hx hb dX2_wrong_50 ?_
        refine lv_if_eq (tgt := 56) hx hb dX2_wrong_51 (by decide) (fun c_16 => ?_) (fun c_16 => ?_)
        · have hF := ifp hF c_16
          refine w_iinc hx hb dX2_wrong_56 hl 2 rfl (v := 1) (by decide) (by decide) hF (fun x_17 ls hl hF => ?_)
          have hl : lv_has ls 3 [(2, .int x_17), (0, .ref L.1), (1, .int x1)] := hl
          refine lv_goto (tgt := 7) hx hb dX2_wrong_59 (by decide) ?_
          exact ih _ _ _ H locs ls hG (lv_sub hl [1, 2, 0] rfl) hF
        · have hF := ifn hF c_16
          refine lv_iload_n hx hb dX2_wrong_54 rfl (lv_at hl 2 rfl) ?_
          exact m_iret C0 hG dX2_wrong_55 hF
theorem bM_wrong_e {N : Nat} (C0 : mCx p s m args meth c cX2_wrong 3 (some .int) L A) (hRo : 4 ≤ R.frames ∧ 92 ≤ R.locals) {σ' : mS} {r : Int32} (σ : mS) (a0 : Int32) (H : Heap) (locs : List Loc) (ls : Array Slot) (hG : mG A L s σ H locs) (hl : lv_has ls 3 [(0, .ref L.1), (1, .int a0)]) (hF : fM_wrong N σ a0 = some (σ', r)) : W p l e R s m args below meth c H locs 0 0 (mZ below L A s args σ' (some (.int r))) (F0 m 0 ls []) := by
  have hx := C0.1
  have hb := C0.2.1
  unfold fM_wrong at hF
  refine lv_aload_n hx hb dX2_wrong_0 rfl (lv_at hl 0 rfl) ?_
  refine lv_iconst (v := 0) hx hb dX2_wrong_1 (by decide) ?_
  obtain ⟨σ_1, r_2, e_3, hF⟩ := obi_of hF
  refine m_cVv (As := [.int 0]) (rest := []) C0 hG (mtM_drifts l e_3) (lw_V q1895 q1897 qs74 q102 q1898) yd_X2_drifts ⟨by omega, by omega⟩ rfl rfl hl.1 (Nat.le_of_ble_eq_true rfl) dX2_wrong_2 (fun H locs hG => ?_)
  refine lv_iconst (v := 0) hx hb dX2_wrong_5 (by decide) ?_
  refine lv_istore_n (lv' := [(2, .int 0), (0, .ref L.1), (1, .int a0)]) hx hb dX2_wrong_6 rfl hl (by decide) rfl (fun ls hl => ?_)
  exact bM_wrong_7 C0 hRo N _ _ _ H locs ls hG (lv_sub hl [1, 2, 0] rfl) hF
theorem mtM_wrong (l : Launch) {N : Nat} {L : mL} {σ σ' : mS} {r : Int32} {a0 : Int32} (hF : fM_wrong N σ a0 = some (σ', r)) : mMet l yX2_wrong cX2_wrong 3 (some .int) (4) (92) [.ref L.1, .int a0] L σ (some (.int r)) σ' := by
  refine m_head (by decide) rfl ?_
  intro p e s m below meth c A C0 hG
  have hl := lv_entry ([.ref L.1, .int a0]) (n := 3) (Nat.le_of_ble_eq_true rfl)
  rw [lg_entry_eq]
  generalize (lg_sl ([.ref L.1, .int a0]) ++ List.replicate (3 - (lg_sl ([.ref L.1, .int a0])).length) Slot.unset).toArray = ls at hl ⊢
  have hl : lv_has ls 3 [(0, .ref L.1), (1, .int a0)] := hl
  exact bM_wrong_e C0 ⟨Nat.le_refl _, Nat.le_refl _⟩ _ _ _ [] ls hG hl hF
def fM_judge (N : Nat) (σ : mS) (a0 : Int32) : Option (mS × Int32) :=
  obi (fM_areShelves N σ a0) fun σ_1 r_2 =>
  if r_2 = 0 then (
    some (σ_1, (-1)))
  else (
    obi (fM_noRipples N σ_1 a0) fun σ_5 r_6 =>
    if 0 ≤ r_6 then (
      chz 10 <|
      obi (fM_reads N σ_5 (a0 / 10)) fun σ_10 r_11 =>
      obi (fM_wrong N σ_10 a0) fun σ_13 r_14 =>
      some (σ_13, r_14))
    else (
      some (σ_5, r_6)))
theorem bM_judge_e {N : Nat} (C0 : mCx p s m args meth c cX2_judge 3 (some .int) L A) (hRo : 5 ≤ R.frames ∧ 114 ≤ R.locals) {σ' : mS} {r : Int32} (σ : mS) (a0 : Int32) (H : Heap) (locs : List Loc) (ls : Array Slot) (hG : mG A L s σ H locs) (hl : lv_has ls 3 [(0, .ref L.1), (1, .int a0)]) (hF : fM_judge N σ a0 = some (σ', r)) : W p l e R s m args below meth c H locs 0 0 (mZ below L A s args σ' (some (.int r))) (F0 m 0 ls []) := by
  have hx := C0.1
  have hb := C0.2.1
  unfold fM_judge at hF
  refine lv_iload_n hx hb dX2_judge_0 rfl (lv_at hl 1 rfl) ?_
  obtain ⟨σ_1, r_2, e_3, hF⟩ := obi_of hF
  refine m_cSi (As := [.int a0]) (rest := []) C0 hG (mtM_areShelves l e_3) (lw_S q2023 q2024 q102 q2025) yd_X2_areShelves ⟨by omega, by omega⟩ rfl rfl hl.1 (Nat.le_of_ble_eq_true rfl) dX2_judge_1 (fun H locs hG => ?_)
  refine lv_if_ne (tgt := 9) hx hb dX2_judge_4 (by decide) (fun c_4 => ?_) (fun c_4 => ?_)
  · have hF := ifn hF c_4
    refine lv_aload_n hx hb dX2_judge_9 rfl (lv_at hl 0 rfl) ?_
    refine lv_iload_n hx hb dX2_judge_10 rfl (lv_at hl 1 rfl) ?_
    obtain ⟨σ_5, r_6, e_7, hF⟩ := obi_of hF
    refine m_cVi (As := [.int a0]) (rest := []) C0 hG (mtM_noRipples l e_7) (lw_V q2026 q2028 qs91 q102 q2029) yd_X2_noRipples ⟨by omega, by omega⟩ rfl rfl hl.1 (Nat.le_of_ble_eq_true rfl) dX2_judge_11 (fun H locs hG => ?_)
    refine lv_istore_n (lv' := [(2, .int r_6), (0, .ref L.1), (1, .int a0)]) hx hb dX2_judge_14 rfl hl (by decide) rfl (fun ls hl => ?_)
    refine lv_iload_n hx hb dX2_judge_15 rfl (lv_at hl 0 rfl) ?_
    refine lv_if_ge (tgt := 21) hx hb dX2_judge_16 (by decide) (fun c_8 => ?_) (fun c_8 => ?_)
    · have hF := ifp hF c_8
      refine lv_aload_n hx hb dX2_judge_21 rfl (lv_at hl 1 rfl) ?_
      refine lv_iload_n hx hb dX2_judge_22 rfl (lv_at hl 2 rfl) ?_
      refine lv_bipush (v := 10) hx hb dX2_judge_23 (by decide) ?_
      obtain ⟨h_9, hF⟩ := chz_of hF
      refine lv_idiv hx hb dX2_judge_25 h_9 ?_
      obtain ⟨σ_10, r_11, e_12, hF⟩ := obi_of hF
      refine m_cVv (As := [.int (a0 / 10)]) (rest := []) C0 hG (mtM_reads l e_12) (lw_V q1887 q1889 qs72 q102 q1890) yd_X2_reads ⟨by omega, by omega⟩ rfl rfl hl.1 (Nat.le_of_ble_eq_true rfl) dX2_judge_26 (fun H locs hG => ?_)
      refine lv_aload_n hx hb dX2_judge_29 rfl (lv_at hl 1 rfl) ?_
      refine lv_iload_n hx hb dX2_judge_30 rfl (lv_at hl 2 rfl) ?_
      obtain ⟨σ_13, r_14, e_15, hF⟩ := obi_of hF
      refine m_cVi (As := [.int a0]) (rest := []) C0 hG (mtM_wrong l e_15) (lw_V q2030 q2032 qs92 q102 q2033) yd_X2_wrong ⟨by omega, by omega⟩ rfl rfl hl.1 (Nat.le_of_ble_eq_true rfl) dX2_judge_31 (fun H locs hG => ?_)
      exact m_iret C0 hG dX2_judge_34 hF
    · have hF := ifn hF c_8
      refine lv_iload_n hx hb dX2_judge_19 rfl (lv_at hl 0 rfl) ?_
      exact m_iret C0 hG dX2_judge_20 hF
  · have hF := ifp hF c_4
    refine lv_iconst (v := (-1)) hx hb dX2_judge_7 (by decide) ?_
    exact m_iret C0 hG dX2_judge_8 hF
theorem mtM_judge (l : Launch) {N : Nat} {L : mL} {σ σ' : mS} {r : Int32} {a0 : Int32} (hF : fM_judge N σ a0 = some (σ', r)) : mMet l yX2_judge cX2_judge 3 (some .int) (5) (114) [.ref L.1, .int a0] L σ (some (.int r)) σ' := by
  refine m_head (by decide) rfl ?_
  intro p e s m below meth c A C0 hG
  have hl := lv_entry ([.ref L.1, .int a0]) (n := 3) (Nat.le_of_ble_eq_true rfl)
  rw [lg_entry_eq]
  generalize (lg_sl ([.ref L.1, .int a0]) ++ List.replicate (3 - (lg_sl ([.ref L.1, .int a0])).length) Slot.unset).toArray = ls at hl ⊢
  have hl : lv_has ls 3 [(0, .ref L.1), (1, .int a0)] := hl
  exact bM_judge_e C0 ⟨Nat.le_refl _, Nat.le_refl _⟩ _ _ _ [] ls hG hl hF
def fM_whoLed_b78 (N : Nat) (k42 : mS → Int32 → Int32 → Int32 → Int32 → Option (mS × Int32)) (σ : mS) (x1 : Int32) (x3 : Int32) (x4 : Int32) (x5 : Int32) : Option (mS × Int32) :=
  nmv (x5 + 1) fun x_23 =>
  k42 σ x1 x3 x4 x_23
def fM_whoLed_b42 (N : Nat) : Nat → mS → Int32 → Int32 → Int32 → Int32 → Option (mS × Int32)
  | 0, _, _, _, _, _ => none
  | n + 1, σ, x1, x3, x4, x5 =>
    nmv (σ.1 0) fun x_14 =>
    if x_14 ≤ x5 then (
      chk 0 3 <| nmv (mSj σ 7 (0 : Int32).toNatClampNeg x3) fun σ_16 =>
      some (σ_16, x4))
    else (
      chk 0 3 <| nmv (mSj σ 7 (0 : Int32).toNatClampNeg x5) fun σ_17 =>
      obi (fM_wrong N σ_17 x1) fun σ_18 r_19 =>
      if r_19 = (-2) then (
        nmv (x4 ||| (1 <<< (x5 &&& 31))) fun x_22 =>
        fM_whoLed_b78 N (fM_whoLed_b42 N n) σ_18 x1 x3 x_22 x5)
      else (
        fM_whoLed_b78 N (fM_whoLed_b42 N n) σ_18 x1 x3 x4 x5))
def fM_whoLed (N : Nat) (σ : mS) (a0 : Int32) : Option (mS × Int32) :=
  obi (fM_areShelves N σ a0) fun σ_1 r_2 =>
  if r_2 = 0 then (
    some (σ_1, (-1)))
  else (
    obi (fM_noRipples N σ_1 a0) fun σ_5 r_6 =>
    if 0 ≤ r_6 then (
      chz 10 <|
      obi (fM_reads N σ_5 (a0 / 10)) fun σ_10 r_11 =>
      chk 0 3 <| nmv (σ_10.2.1 7 (0 : Int32).toNatClampNeg) fun x_13 =>
      fM_whoLed_b42 N N σ_10 a0 x_13 0 0)
    else (
      some (σ_5, r_6)))
theorem bM_whoLed_78 {N : Nat} (C0 : mCx p s m args meth c cX2_whoLed 6 (some .int) L A) (hRo : 5 ≤ R.frames ∧ 114 ≤ R.locals) {σ' : mS} {r : Int32} {k42 : mS → Int32 → Int32 → Int32 → Int32 → Option (mS × Int32)} (hk42 : ∀ (σ : mS) (x1 : Int32) (x3 : Int32) (x4 : Int32) (x5 : Int32) (H : Heap) (locs : List Loc) (ls : Array Slot), mG A L s σ H locs → lv_has ls 6 [(0, .ref L.1), (1, .int x1), (3, .int x3), (4, .int x4), (5, .int x5)] → k42 σ x1 x3 x4 x5 = some (σ', r) → W p l e R s m args below meth c H locs 0 0 (mZ below L A s args σ' (some (.int r))) (F0 m 42 ls [])) (σ : mS) (x1 : Int32) (x3 : Int32) (x4 : Int32) (x5 : Int32) (H : Heap) (locs : List Loc) (ls : Array Slot) (hG : mG A L s σ H locs) (hl : lv_has ls 6 [(0, .ref L.1), (1, .int x1), (3, .int x3), (4, .int x4), (5, .int x5)]) (hF : fM_whoLed_b78 N k42 σ x1 x3 x4 x5 = some (σ', r)) : W p l e R s m args below meth c H locs 0 0 (mZ below L A s args σ' (some (.int r))) (F0 m 78 ls []) := by
  have hx := C0.1
  have hb := C0.2.1
  unfold fM_whoLed_b78 at hF
  refine w_iinc hx hb dX2_whoLed_78 hl 4 rfl (v := 1) (by decide) (by decide) hF (fun x_23 ls hl hF => ?_)
  have hl : lv_has ls 6 [(5, .int x_23), (0, .ref L.1), (1, .int x1), (3, .int x3), (4, .int x4)] := hl
  refine lv_goto (tgt := 42) hx hb dX2_whoLed_81 (by decide) ?_
  exact hk42 _ _ _ _ _ H locs ls hG (lv_sub hl [1, 2, 3, 4, 0] rfl) hF
theorem bM_whoLed_42 {N : Nat} (C0 : mCx p s m args meth c cX2_whoLed 6 (some .int) L A) (hRo : 5 ≤ R.frames ∧ 114 ≤ R.locals) {σ' : mS} {r : Int32} : ∀ (n : Nat) (σ : mS) (x1 : Int32) (x3 : Int32) (x4 : Int32) (x5 : Int32) (H : Heap) (locs : List Loc) (ls : Array Slot), mG A L s σ H locs → lv_has ls 6 [(0, .ref L.1), (1, .int x1), (3, .int x3), (4, .int x4), (5, .int x5)] → fM_whoLed_b42 N n σ x1 x3 x4 x5 = some (σ', r) → W p l e R s m args below meth c H locs 0 0 (mZ below L A s args σ' (some (.int r))) (F0 m 42 ls []) := by
  have hx := C0.1
  have hb := C0.2.1
  intro n
  induction n with
  | zero => intro σ x1 x3 x4 x5 H locs ls hG hl hF; cases hF
  | succ n ih =>
    intro σ x1 x3 x4 x5 H locs ls hG hl hF
    unfold fM_whoLed_b42 at hF
    refine lv_iload hx hb dX2_whoLed_42 (lv_at hl 4 rfl) ?_
    refine lv_aload_n hx hb dX2_whoLed_44 rfl (lv_at hl 0 rfl) ?_
    refine m_geti C0 hG 0 (by decide) rfl q1578 dX2_whoLed_45 hF (fun x_14 hF => ?_)
    refine lv_icmp_ge (tgt := 84) hx hb dX2_whoLed_48 (by decide) (fun c_15 => ?_) (fun c_15 => ?_)
    · have hF := ifp hF c_15
      refine lv_aload_n hx hb dX2_whoLed_84 rfl (lv_at hl 0 rfl) ?_
      refine m_geta C0 hG 7 (by decide) rfl q1585 dX2_whoLed_85 ?_
      refine lv_iconst (v := 0) hx hb dX2_whoLed_88 (by decide) ?_
      refine lv_iload_n hx hb dX2_whoLed_89 rfl (lv_at hl 2 rfl) ?_
      refine m_st C0 hG 7 ⟨by decide, rfl, by decide⟩ dX2_whoLed_90 hF (fun σ_16 H locs hG hF => ?_)
      refine lv_iload hx hb dX2_whoLed_91 (lv_at hl 3 rfl) ?_
      exact m_iret C0 hG dX2_whoLed_93 hF
    · have hF := ifn hF c_15
      refine lv_aload_n hx hb dX2_whoLed_51 rfl (lv_at hl 0 rfl) ?_
      refine m_geta C0 hG 7 (by decide) rfl q1585 dX2_whoLed_52 ?_
      refine lv_iconst (v := 0) hx hb dX2_whoLed_55 (by decide) ?_
      refine lv_iload hx hb dX2_whoLed_56 (lv_at hl 4 rfl) ?_
      refine m_st C0 hG 7 ⟨by decide, rfl, by decide⟩ dX2_whoLed_58 hF (fun σ_17 H locs hG hF => ?_)
      refine lv_aload_n hx hb dX2_whoLed_59 rfl (lv_at hl 0 rfl) ?_
      refine lv_iload_n hx hb dX2_whoLed_60 rfl (lv_at hl 1 rfl) ?_
      obtain ⟨σ_18, r_19, e_20, hF⟩ := obi_of hF
      refine m_cVi (As := [.int x1]) (rest := []) C0 hG (mtM_wrong l e_20) (lw_V q2030 q2032 qs92 q102 q2033) yd_X2_wrong ⟨by omega, by omega⟩ rfl rfl hl.1 (Nat.le_of_ble_eq_true rfl) dX2_whoLed_61 (fun H locs hG => ?_)
      refine lv_bipush (v := (-2)) hx hb dX2_whoLed_64 (by decide) ?_
      refine lv_icmp_ne (tgt := 78) hx hb dX2_whoLed_66 (by decide) (fun c_21 => ?_) (fun c_21 => ?_)
      · have hF := ifn hF c_21
        exact bM_whoLed_78 C0 hRo ih _ _ _ _ _ H locs ls hG (lv_sub hl [0, 1, 2, 3, 4] rfl) hF
      · have hF := ifp hF c_21
        refine lv_iload hx hb dX2_whoLed_69 (lv_at hl 3 rfl) ?_
        refine lv_iconst (v := 1) hx hb dX2_whoLed_71 (by decide) ?_
        refine lv_iload hx hb dX2_whoLed_72 (lv_at hl 4 rfl) ?_
        refine lv_ishl hx hb dX2_whoLed_74 ?_
        refine lv_ior hx hb dX2_whoLed_75 ?_
        refine w_nm hF (fun x_22 hF => ?_)
        refine lv_istore (lv' := [(4, .int x_22), (0, .ref L.1), (1, .int x1), (3, .int x3), (5, .int x5)]) hx hb dX2_whoLed_76 hl (by decide) rfl (fun ls hl => ?_)
        exact bM_whoLed_78 C0 hRo ih _ _ _ _ _ H locs ls hG (lv_sub hl [1, 2, 3, 0, 4] rfl) hF
theorem bM_whoLed_e {N : Nat} (C0 : mCx p s m args meth c cX2_whoLed 6 (some .int) L A) (hRo : 5 ≤ R.frames ∧ 114 ≤ R.locals) {σ' : mS} {r : Int32} (σ : mS) (a0 : Int32) (H : Heap) (locs : List Loc) (ls : Array Slot) (hG : mG A L s σ H locs) (hl : lv_has ls 6 [(0, .ref L.1), (1, .int a0)]) (hF : fM_whoLed N σ a0 = some (σ', r)) : W p l e R s m args below meth c H locs 0 0 (mZ below L A s args σ' (some (.int r))) (F0 m 0 ls []) := by
  have hx := C0.1
  have hb := C0.2.1
  unfold fM_whoLed at hF
  refine lv_iload_n hx hb dX2_whoLed_0 rfl (lv_at hl 1 rfl) ?_
  obtain ⟨σ_1, r_2, e_3, hF⟩ := obi_of hF
  refine m_cSi (As := [.int a0]) (rest := []) C0 hG (mtM_areShelves l e_3) (lw_S q2023 q2024 q102 q2025) yd_X2_areShelves ⟨by omega, by omega⟩ rfl rfl hl.1 (Nat.le_of_ble_eq_true rfl) dX2_whoLed_1 (fun H locs hG => ?_)
  refine lv_if_ne (tgt := 9) hx hb dX2_whoLed_4 (by decide) (fun c_4 => ?_) (fun c_4 => ?_)
  · have hF := ifn hF c_4
    refine lv_aload_n hx hb dX2_whoLed_9 rfl (lv_at hl 0 rfl) ?_
    refine lv_iload_n hx hb dX2_whoLed_10 rfl (lv_at hl 1 rfl) ?_
    obtain ⟨σ_5, r_6, e_7, hF⟩ := obi_of hF
    refine m_cVi (As := [.int a0]) (rest := []) C0 hG (mtM_noRipples l e_7) (lw_V q2026 q2028 qs91 q102 q2029) yd_X2_noRipples ⟨by omega, by omega⟩ rfl rfl hl.1 (Nat.le_of_ble_eq_true rfl) dX2_whoLed_11 (fun H locs hG => ?_)
    refine lv_istore_n (lv' := [(2, .int r_6), (0, .ref L.1), (1, .int a0)]) hx hb dX2_whoLed_14 rfl hl (by decide) rfl (fun ls hl => ?_)
    refine lv_iload_n hx hb dX2_whoLed_15 rfl (lv_at hl 0 rfl) ?_
    refine lv_if_ge (tgt := 21) hx hb dX2_whoLed_16 (by decide) (fun c_8 => ?_) (fun c_8 => ?_)
    · have hF := ifp hF c_8
      refine lv_aload_n hx hb dX2_whoLed_21 rfl (lv_at hl 1 rfl) ?_
      refine lv_iload_n hx hb dX2_whoLed_22 rfl (lv_at hl 2 rfl) ?_
      refine lv_bipush (v := 10) hx hb dX2_whoLed_23 (by decide) ?_
      obtain ⟨h_9, hF⟩ := chz_of hF
      refine lv_idiv hx hb dX2_whoLed_25 h_9 ?_
      obtain ⟨σ_10, r_11, e_12, hF⟩ := obi_of hF
      refine m_cVv (As := [.int (a0 / 10)]) (rest := []) C0 hG (mtM_reads l e_12) (lw_V q1887 q1889 qs72 q102 q1890) yd_X2_reads ⟨by omega, by omega⟩ rfl rfl hl.1 (Nat.le_of_ble_eq_true rfl) dX2_whoLed_26 (fun H locs hG => ?_)
      refine lv_aload_n hx hb dX2_whoLed_29 rfl (lv_at hl 1 rfl) ?_
      refine m_geta C0 hG 7 (by decide) rfl q1585 dX2_whoLed_30 ?_
      refine lv_iconst (v := 0) hx hb dX2_whoLed_33 (by decide) ?_
      refine m_ld C0 hG 7 ⟨by decide, rfl, by decide⟩ dX2_whoLed_34 hF (fun x_13 hF => ?_)
      refine lv_istore_n (lv' := [(3, .int x_13), (2, .int r_6), (0, .ref L.1), (1, .int a0)]) hx hb dX2_whoLed_35 rfl hl (by decide) rfl (fun ls hl => ?_)
      refine lv_iconst (v := 0) hx hb dX2_whoLed_36 (by decide) ?_
      refine lv_istore (lv' := [(4, .int 0), (3, .int x_13), (2, .int r_6), (0, .ref L.1), (1, .int a0)]) hx hb dX2_whoLed_37 hl (by decide) rfl (fun ls hl => ?_)
      refine lv_iconst (v := 0) hx hb dX2_whoLed_39 (by decide) ?_
      refine lv_istore (lv' := [(5, .int 0), (4, .int 0), (3, .int x_13), (2, .int r_6), (0, .ref L.1), (1, .int a0)]) hx hb dX2_whoLed_40 hl (by decide) rfl (fun ls hl => ?_)
      exact bM_whoLed_42 C0 hRo N _ _ _ _ _ H locs ls hG (lv_sub hl [4, 5, 2, 1, 0] rfl) hF
    · have hF := ifn hF c_8
      refine lv_iload_n hx hb dX2_whoLed_19 rfl (lv_at hl 0 rfl) ?_
      exact m_iret C0 hG dX2_whoLed_20 hF
  · have hF := ifp hF c_4
    refine lv_iconst (v := (-1)) hx hb dX2_whoLed_7 (by decide) ?_
    exact m_iret C0 hG dX2_whoLed_8 hF
theorem mtM_whoLed (l : Launch) {N : Nat} {L : mL} {σ σ' : mS} {r : Int32} {a0 : Int32} (hF : fM_whoLed N σ a0 = some (σ', r)) : mMet l yX2_whoLed cX2_whoLed 6 (some .int) (5) (114) [.ref L.1, .int a0] L σ (some (.int r)) σ' := by
  refine m_head (by decide) rfl ?_
  intro p e s m below meth c A C0 hG
  have hl := lv_entry ([.ref L.1, .int a0]) (n := 6) (Nat.le_of_ble_eq_true rfl)
  rw [lg_entry_eq]
  generalize (lg_sl ([.ref L.1, .int a0]) ++ List.replicate (6 - (lg_sl ([.ref L.1, .int a0])).length) Slot.unset).toArray = ls at hl ⊢
  have hl : lv_has ls 6 [(0, .ref L.1), (1, .int a0)] := hl
  exact bM_whoLed_e C0 ⟨Nat.le_refl _, Nat.le_refl _⟩ _ _ _ [] ls hG hl hF
def fM_later_b80 (N : Nat) (k53 : mS → Int32 → Int32 → Int32 → Int32 → Int32 → Option (mS × Int32)) (σ : mS) (x1 : Int32) (x2 : Int32) (x4 : Int32) (x5 : Int32) (x6 : Int32) : Option (mS × Int32) :=
  nmv (x6 + (-1)) fun x_25 =>
  k53 σ x1 x2 x4 x5 x_25
def fM_later_b53 (N : Nat) : Nat → mS → Int32 → Int32 → Int32 → Int32 → Int32 → Option (mS × Int32)
  | 0, _, _, _, _, _, _ => none
  | n + 1, σ, x1, x2, x4, x5, x6 =>
    if x6 < 0 then (
      chk x2 8 <| nmv (mSj σ 6 x2.toNatClampNeg x4) fun σ_19 =>
      some (σ_19, x5))
    else (
      chk x2 8 <| nmv (mSj σ 6 x2.toNatClampNeg x6) fun σ_20 =>
      obi (fM_wrong N σ_20 x1) fun σ_21 r_22 =>
      if r_22 = (-2) then (
        fM_later_b80 N (fM_later_b53 N n) σ_21 x1 x2 x4 x6 x6)
      else (
        fM_later_b80 N (fM_later_b53 N n) σ_21 x1 x2 x4 x5 x6))
def fM_later (N : Nat) (σ : mS) (a0 : Int32) (a1 : Int32) : Option (mS × Int32) :=
  obi (fM_areShelves N σ a0) fun σ_1 r_2 =>
  if r_2 = 0 then (
    some (σ_1, (-1)))
  else (
    obi (fM_isOne N σ_1 a1) fun σ_5 r_6 =>
    if r_6 = 0 then (
      some (σ_5, (-1)))
    else (
      obi (fM_noRipples N σ_5 a0) fun σ_9 r_10 =>
      if 0 ≤ r_10 then (
        chz 10 <|
        obi (fM_reads N σ_9 (a0 / 10)) fun σ_14 r_15 =>
        chk a1 8 <| nmv (σ_14.2.1 6 a1.toNatClampNeg) fun x_17 =>
        fM_later_b53 N N σ_14 a0 a1 x_17 (-2) 99)
      else (
        some (σ_9, r_10))))
theorem bM_later_80 {N : Nat} (C0 : mCx p s m args meth c cX2_later 7 (some .int) L A) (hRo : 5 ≤ R.frames ∧ 114 ≤ R.locals) {σ' : mS} {r : Int32} {k53 : mS → Int32 → Int32 → Int32 → Int32 → Int32 → Option (mS × Int32)} (hk53 : ∀ (σ : mS) (x1 : Int32) (x2 : Int32) (x4 : Int32) (x5 : Int32) (x6 : Int32) (H : Heap) (locs : List Loc) (ls : Array Slot), mG A L s σ H locs → lv_has ls 7 [(0, .ref L.1), (1, .int x1), (2, .int x2), (4, .int x4), (5, .int x5), (6, .int x6)] → k53 σ x1 x2 x4 x5 x6 = some (σ', r) → W p l e R s m args below meth c H locs 0 0 (mZ below L A s args σ' (some (.int r))) (F0 m 53 ls [])) (σ : mS) (x1 : Int32) (x2 : Int32) (x4 : Int32) (x5 : Int32) (x6 : Int32) (H : Heap) (locs : List Loc) (ls : Array Slot) (hG : mG A L s σ H locs) (hl : lv_has ls 7 [(0, .ref L.1), (1, .int x1), (2, .int x2), (4, .int x4), (5, .int x5), (6, .int x6)]) (hF : fM_later_b80 N k53 σ x1 x2 x4 x5 x6 = some (σ', r)) : W p l e R s m args below meth c H locs 0 0 (mZ below L A s args σ' (some (.int r))) (F0 m 80 ls []) := by
  have hx := C0.1
  have hb := C0.2.1
  unfold fM_later_b80 at hF
  refine w_iinc hx hb dX2_later_80 hl 5 rfl (v := (-1)) (by decide) (by decide) hF (fun x_25 ls hl hF => ?_)
  have hl : lv_has ls 7 [(6, .int x_25), (0, .ref L.1), (1, .int x1), (2, .int x2), (4, .int x4), (5, .int x5)] := hl
  refine lv_goto (tgt := 53) hx hb dX2_later_83 (by decide) ?_
  exact hk53 _ _ _ _ _ _ H locs ls hG (lv_sub hl [1, 2, 3, 4, 5, 0] rfl) hF
theorem bM_later_53 {N : Nat} (C0 : mCx p s m args meth c cX2_later 7 (some .int) L A) (hRo : 5 ≤ R.frames ∧ 114 ≤ R.locals) {σ' : mS} {r : Int32} : ∀ (n : Nat) (σ : mS) (x1 : Int32) (x2 : Int32) (x4 : Int32) (x5 : Int32) (x6 : Int32) (H : Heap) (locs : List Loc) (ls : Array Slot), mG A L s σ H locs → lv_has ls 7 [(0, .ref L.1), (1, .int x1), (2, .int x2), (4, .int x4), (5, .int x5), (6, .int x6)] → fM_later_b53 N n σ x1 x2 x4 x5 x6 = some (σ', r) → W p l e R s m args below meth c H locs 0 0 (mZ below L A s args σ' (some (.int r))) (F0 m 53 ls []) := by
  have hx := C0.1
  have hb := C0.2.1
  intro n
  induction n with
  | zero => intro σ x1 x2 x4 x5 x6 H locs ls hG hl hF; cases hF
  | succ n ih =>
    intro σ x1 x2 x4 x5 x6 H locs ls hG hl hF
    unfold fM_later_b53 at hF
    refine lv_iload hx hb dX2_later_53 (lv_at hl 5 rfl) ?_
    refine lv_if_lt (tgt := 86) hx hb dX2_later_55 (by decide) (fun c_18 => ?_) (fun c_18 => ?_)
    · have hF := ifp hF c_18
      refine lv_aload_n hx hb dX2_later_86 rfl (lv_at hl 0 rfl) ?_
      refine m_geta C0 hG 6 (by decide) rfl q1584 dX2_later_87 ?_
      refine lv_iload_n hx hb dX2_later_90 rfl (lv_at hl 2 rfl) ?_
      refine lv_iload hx hb dX2_later_91 (lv_at hl 3 rfl) ?_
      refine m_st C0 hG 6 ⟨by decide, rfl, by decide⟩ dX2_later_93 hF (fun σ_19 H locs hG hF => ?_)
      refine lv_iload hx hb dX2_later_94 (lv_at hl 4 rfl) ?_
      exact m_iret C0 hG dX2_later_96 hF
    · have hF := ifn hF c_18
      refine lv_aload_n hx hb dX2_later_58 rfl (lv_at hl 0 rfl) ?_
      refine m_geta C0 hG 6 (by decide) rfl q1584 dX2_later_59 ?_
      refine lv_iload_n hx hb dX2_later_62 rfl (lv_at hl 2 rfl) ?_
      refine lv_iload hx hb dX2_later_63 (lv_at hl 5 rfl) ?_
      refine m_st C0 hG 6 ⟨by decide, rfl, by decide⟩ dX2_later_65 hF (fun σ_20 H locs hG hF => ?_)
      refine lv_aload_n hx hb dX2_later_66 rfl (lv_at hl 0 rfl) ?_
      refine lv_iload_n hx hb dX2_later_67 rfl (lv_at hl 1 rfl) ?_
      obtain ⟨σ_21, r_22, e_23, hF⟩ := obi_of hF
      refine m_cVi (As := [.int x1]) (rest := []) C0 hG (mtM_wrong l e_23) (lw_V q2030 q2032 qs92 q102 q2033) yd_X2_wrong ⟨by omega, by omega⟩ rfl rfl hl.1 (Nat.le_of_ble_eq_true rfl) dX2_later_68 (fun H locs hG => ?_)
      refine lv_bipush (v := (-2)) hx hb dX2_later_71 (by decide) ?_
      refine lv_icmp_ne (tgt := 80) hx hb dX2_later_73 (by decide) (fun c_24 => ?_) (fun c_24 => ?_)
      · have hF := ifn hF c_24
        exact bM_later_80 C0 hRo ih _ _ _ _ _ _ H locs ls hG (lv_sub hl [0, 1, 2, 3, 4, 5] rfl) hF
      · have hF := ifp hF c_24
        refine lv_iload hx hb dX2_later_76 (lv_at hl 5 rfl) ?_
        refine lv_istore (lv' := [(5, .int x6), (0, .ref L.1), (1, .int x1), (2, .int x2), (4, .int x4), (6, .int x6)]) hx hb dX2_later_78 hl (by decide) rfl (fun ls hl => ?_)
        exact bM_later_80 C0 hRo ih _ _ _ _ _ _ H locs ls hG (lv_sub hl [1, 2, 3, 4, 0, 5] rfl) hF
theorem bM_later_e {N : Nat} (C0 : mCx p s m args meth c cX2_later 7 (some .int) L A) (hRo : 5 ≤ R.frames ∧ 114 ≤ R.locals) {σ' : mS} {r : Int32} (σ : mS) (a0 : Int32) (a1 : Int32) (H : Heap) (locs : List Loc) (ls : Array Slot) (hG : mG A L s σ H locs) (hl : lv_has ls 7 [(0, .ref L.1), (1, .int a0), (2, .int a1)]) (hF : fM_later N σ a0 a1 = some (σ', r)) : W p l e R s m args below meth c H locs 0 0 (mZ below L A s args σ' (some (.int r))) (F0 m 0 ls []) := by
  have hx := C0.1
  have hb := C0.2.1
  unfold fM_later at hF
  refine lv_iload_n hx hb dX2_later_0 rfl (lv_at hl 1 rfl) ?_
  obtain ⟨σ_1, r_2, e_3, hF⟩ := obi_of hF
  refine m_cSi (As := [.int a0]) (rest := []) C0 hG (mtM_areShelves l e_3) (lw_S q2023 q2024 q102 q2025) yd_X2_areShelves ⟨by omega, by omega⟩ rfl rfl hl.1 (Nat.le_of_ble_eq_true rfl) dX2_later_1 (fun H locs hG => ?_)
  refine lv_if_eq (tgt := 15) hx hb dX2_later_4 (by decide) (fun c_4 => ?_) (fun c_4 => ?_)
  · have hF := ifp hF c_4
    refine lv_iconst (v := (-1)) hx hb dX2_later_15 (by decide) ?_
    exact m_iret C0 hG dX2_later_16 hF
  · have hF := ifn hF c_4
    refine lv_aload_n hx hb dX2_later_7 rfl (lv_at hl 0 rfl) ?_
    refine lv_iload_n hx hb dX2_later_8 rfl (lv_at hl 2 rfl) ?_
    obtain ⟨σ_5, r_6, e_7, hF⟩ := obi_of hF
    refine m_cVi (As := [.int a1]) (rest := []) C0 hG (mtM_isOne l e_7) (lw_V q1774 q1776 qs54 q102 q1777) yd_X2_isOne ⟨by omega, by omega⟩ rfl rfl hl.1 (Nat.le_of_ble_eq_true rfl) dX2_later_9 (fun H locs hG => ?_)
    refine lv_if_ne (tgt := 17) hx hb dX2_later_12 (by decide) (fun c_8 => ?_) (fun c_8 => ?_)
    · have hF := ifn hF c_8
      refine lv_aload_n hx hb dX2_later_17 rfl (lv_at hl 0 rfl) ?_
      refine lv_iload_n hx hb dX2_later_18 rfl (lv_at hl 1 rfl) ?_
      obtain ⟨σ_9, r_10, e_11, hF⟩ := obi_of hF
      refine m_cVi (As := [.int a0]) (rest := []) C0 hG (mtM_noRipples l e_11) (lw_V q2026 q2028 qs91 q102 q2029) yd_X2_noRipples ⟨by omega, by omega⟩ rfl rfl hl.1 (Nat.le_of_ble_eq_true rfl) dX2_later_19 (fun H locs hG => ?_)
      refine lv_istore_n (lv' := [(3, .int r_10), (0, .ref L.1), (1, .int a0), (2, .int a1)]) hx hb dX2_later_22 rfl hl (by decide) rfl (fun ls hl => ?_)
      refine lv_iload_n hx hb dX2_later_23 rfl (lv_at hl 0 rfl) ?_
      refine lv_if_ge (tgt := 29) hx hb dX2_later_24 (by decide) (fun c_12 => ?_) (fun c_12 => ?_)
      · have hF := ifp hF c_12
        refine lv_aload_n hx hb dX2_later_29 rfl (lv_at hl 1 rfl) ?_
        refine lv_iload_n hx hb dX2_later_30 rfl (lv_at hl 2 rfl) ?_
        refine lv_bipush (v := 10) hx hb dX2_later_31 (by decide) ?_
        obtain ⟨h_13, hF⟩ := chz_of hF
        refine lv_idiv hx hb dX2_later_33 h_13 ?_
        obtain ⟨σ_14, r_15, e_16, hF⟩ := obi_of hF
        refine m_cVv (As := [.int (a0 / 10)]) (rest := []) C0 hG (mtM_reads l e_16) (lw_V q1887 q1889 qs72 q102 q1890) yd_X2_reads ⟨by omega, by omega⟩ rfl rfl hl.1 (Nat.le_of_ble_eq_true rfl) dX2_later_34 (fun H locs hG => ?_)
        refine lv_aload_n hx hb dX2_later_37 rfl (lv_at hl 1 rfl) ?_
        refine m_geta C0 hG 6 (by decide) rfl q1584 dX2_later_38 ?_
        refine lv_iload_n hx hb dX2_later_41 rfl (lv_at hl 3 rfl) ?_
        refine m_ld C0 hG 6 ⟨by decide, rfl, by decide⟩ dX2_later_42 hF (fun x_17 hF => ?_)
        refine lv_istore (lv' := [(4, .int x_17), (3, .int r_10), (0, .ref L.1), (1, .int a0), (2, .int a1)]) hx hb dX2_later_43 hl (by decide) rfl (fun ls hl => ?_)
        refine lv_bipush (v := (-2)) hx hb dX2_later_45 (by decide) ?_
        refine lv_istore (lv' := [(5, .int (-2)), (4, .int x_17), (3, .int r_10), (0, .ref L.1), (1, .int a0), (2, .int a1)]) hx hb dX2_later_47 hl (by decide) rfl (fun ls hl => ?_)
        refine lv_bipush (v := 99) hx hb dX2_later_49 (by decide) ?_
        refine lv_istore (lv' := [(6, .int 99), (5, .int (-2)), (4, .int x_17), (3, .int r_10), (0, .ref L.1), (1, .int a0), (2, .int a1)]) hx hb dX2_later_51 hl (by decide) rfl (fun ls hl => ?_)
        exact bM_later_53 C0 hRo N _ _ _ _ _ _ H locs ls hG (lv_sub hl [4, 5, 6, 2, 1, 0] rfl) hF
      · have hF := ifn hF c_12
        refine lv_iload_n hx hb dX2_later_27 rfl (lv_at hl 0 rfl) ?_
        exact m_iret C0 hG dX2_later_28 hF
    · have hF := ifp hF c_8
      refine lv_iconst (v := (-1)) hx hb dX2_later_15 (by decide) ?_
      exact m_iret C0 hG dX2_later_16 hF
theorem mtM_later (l : Launch) {N : Nat} {L : mL} {σ σ' : mS} {r : Int32} {a0 : Int32} {a1 : Int32} (hF : fM_later N σ a0 a1 = some (σ', r)) : mMet l yX2_later cX2_later 7 (some .int) (5) (114) [.ref L.1, .int a0, .int a1] L σ (some (.int r)) σ' := by
  refine m_head (by decide) rfl ?_
  intro p e s m below meth c A C0 hG
  have hl := lv_entry ([.ref L.1, .int a0, .int a1]) (n := 7) (Nat.le_of_ble_eq_true rfl)
  rw [lg_entry_eq]
  generalize (lg_sl ([.ref L.1, .int a0, .int a1]) ++ List.replicate (7 - (lg_sl ([.ref L.1, .int a0, .int a1])).length) Slot.unset).toArray = ls at hl ⊢
  have hl : lv_has ls 7 [(0, .ref L.1), (1, .int a0), (2, .int a1)] := hl
  exact bM_later_e C0 ⟨Nat.le_refl _, Nat.le_refl _⟩ _ _ _ _ [] ls hG hl hF
end MWALK10
