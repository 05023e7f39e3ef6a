section MWALK2
variable {p : Program} {l : Launch} {e : Env} {R : Room} {s : State} {m : MethodId} {args : Array Value} {below : List Frame} {meth : Method} {c : Code} {A : Nat → Prop}
variable {L : mL}
def fM_nameOf (N : Nat) (σ : mS) (a0 : Int32) : Option (mS × Int32) :=
  if a0 = 100 then (
    some (σ, 2))
  else (
  if a0 = 101 then (
    some (σ, 1))
  else (
  if a0 = 102 then (
    some (σ, (-1)))
  else (
  if a0 = 103 then (
    some (σ, (-1)))
  else (
  if a0 = 104 then (
    some (σ, (-1)))
  else (
  if a0 = 105 then (
    some (σ, (-1)))
  else (
  if a0 = 106 then (
    some (σ, (-1)))
  else (
  if a0 = 107 then (
    some (σ, 4))
  else (
  if a0 = 108 then (
    some (σ, (-1)))
  else (
  if a0 = 109 then (
    some (σ, (-1)))
  else (
  if a0 = 110 then (
    some (σ, (-1)))
  else (
  if a0 = 111 then (
    some (σ, 0))
  else (
  if a0 = 112 then (
    some (σ, (-1)))
  else (
  if a0 = 113 then (
    some (σ, (-1)))
  else (
  if a0 = 114 then (
    some (σ, (-1)))
  else (
  if a0 = 115 then (
    some (σ, 5))
  else (
  if a0 = 116 then (
    some (σ, 3))
  else (
    some (σ, (-1)))))))))))))))))))
theorem bM_nameOf_e {N : Nat} (C0 : mCx p s m args meth c cX2_nameOf 1 (some .int) L A) (hRo : 0 ≤ R.frames ∧ 0 ≤ R.locals) {σ' : mS} {r : Int32} (σ : mS) (a0 : Int32) (H : Heap) (locs : List Loc) (ls : Array Slot) (hG : mG A L s σ H locs) (hl : lv_has ls 1 [(0, .int a0)]) (hF : fM_nameOf N σ a0 = some (σ', r)) : W p l e R s m args below meth c H locs 0 0 (mZ below L A s args σ' (some (.int r))) (F0 m 0 ls []) := by
  have hx := C0.1
  have hb := C0.2.1
  unfold fM_nameOf at hF
  refine lv_iload_n hx hb dX2_nameOf_0 rfl (lv_at hl 0 rfl) ?_
  by_cases c_1 : a0 = 100
  · have hF := ifp hF c_1
    refine lv_tableIn (off := 87) (tgt := 88) hx hb dX2_nameOf_1 (by rw [c_1]; decide) (by rw [c_1]; decide) (by rw [c_1]; rfl) (by decide) ?_
    refine lv_iconst (v := 2) hx hb dX2_nameOf_88 (by decide) ?_
    exact m_iret C0 hG dX2_nameOf_89 hF
  have hF := ifn hF c_1
  by_cases c_2 : a0 = 101
  · have hF := ifp hF c_2
    refine lv_tableIn (off := 85) (tgt := 86) hx hb dX2_nameOf_1 (by rw [c_2]; decide) (by rw [c_2]; decide) (by rw [c_2]; rfl) (by decide) ?_
    refine lv_iconst (v := 1) hx hb dX2_nameOf_86 (by decide) ?_
    exact m_iret C0 hG dX2_nameOf_87 hF
  have hF := ifn hF c_2
  by_cases c_3 : a0 = 102
  · have hF := ifp hF c_3
    refine lv_tableIn (off := 95) (tgt := 96) hx hb dX2_nameOf_1 (by rw [c_3]; decide) (by rw [c_3]; decide) (by rw [c_3]; rfl) (by decide) ?_
    refine lv_iconst (v := (-1)) hx hb dX2_nameOf_96 (by decide) ?_
    exact m_iret C0 hG dX2_nameOf_97 hF
  have hF := ifn hF c_3
  by_cases c_4 : a0 = 103
  · have hF := ifp hF c_4
    refine lv_tableIn (off := 95) (tgt := 96) hx hb dX2_nameOf_1 (by rw [c_4]; decide) (by rw [c_4]; decide) (by rw [c_4]; rfl) (by decide) ?_
    refine lv_iconst (v := (-1)) hx hb dX2_nameOf_96 (by decide) ?_
    exact m_iret C0 hG dX2_nameOf_97 hF
  have hF := ifn hF c_4
  by_cases c_5 : a0 = 104
  · have hF := ifp hF c_5
    refine lv_tableIn (off := 95) (tgt := 96) hx hb dX2_nameOf_1 (by rw [c_5]; decide) (by rw [c_5]; decide) (by rw [c_5]; rfl) (by decide) ?_
    refine lv_iconst (v := (-1)) hx hb dX2_nameOf_96 (by decide) ?_
    exact m_iret C0 hG dX2_nameOf_97 hF
  have hF := ifn hF c_5
  by_cases c_6 : a0 = 105
  · have hF := ifp hF c_6
    refine lv_tableIn (off := 95) (tgt := 96) hx hb dX2_nameOf_1 (by rw [c_6]; decide) (by rw [c_6]; decide) (by rw [c_6]; rfl) (by decide) ?_
    refine lv_iconst (v := (-1)) hx hb dX2_nameOf_96 (by decide) ?_
    exact m_iret C0 hG dX2_nameOf_97 hF
  have hF := ifn hF c_6
  by_cases c_7 : a0 = 106
  · have hF := ifp hF c_7
    refine lv_tableIn (off := 95) (tgt := 96) hx hb dX2_nameOf_1 (by rw [c_7]; decide) (by rw [c_7]; decide) (by rw [c_7]; rfl) (by decide) ?_
    refine lv_iconst (v := (-1)) hx hb dX2_nameOf_96 (by decide) ?_
    exact m_iret C0 hG dX2_nameOf_97 hF
  have hF := ifn hF c_7
  by_cases c_8 : a0 = 107
  · have hF := ifp hF c_8
    refine lv_tableIn (off := 91) (tgt := 92) hx hb dX2_nameOf_1 (by rw [c_8]; decide) (by rw [c_8]; decide) (by rw [c_8]; rfl) (by decide) ?_
    refine lv_iconst (v := 4) hx hb dX2_nameOf_92 (by decide) ?_
    exact m_iret C0 hG dX2_nameOf_93 hF
  have hF := ifn hF c_8
  by_cases c_9 : a0 = 108
  · have hF := ifp hF c_9
    refine lv_tableIn (off := 95) (tgt := 96) hx hb dX2_nameOf_1 (by rw [c_9]; decide) (by rw [c_9]; decide) (by rw [c_9]; rfl) (by decide) ?_
    refine lv_iconst (v := (-1)) hx hb dX2_nameOf_96 (by decide) ?_
    exact m_iret C0 hG dX2_nameOf_97 hF
  have hF := ifn hF c_9
  by_cases c_10 : a0 = 109
  · have hF := ifp hF c_10
    refine lv_tableIn (off := 95) (tgt := 96) hx hb dX2_nameOf_1 (by rw [c_10]; decide) (by rw [c_10]; decide) (by rw [c_10]; rfl) (by decide) ?_
    refine lv_iconst (v := (-1)) hx hb dX2_nameOf_96 (by decide) ?_
    exact m_iret C0 hG dX2_nameOf_97 hF
  have hF := ifn hF c_10
  by_cases c_11 : a0 = 110
  · have hF := ifp hF c_11
    refine lv_tableIn (off := 95) (tgt := 96) hx hb dX2_nameOf_1 (by rw [c_11]; decide) (by rw [c_11]; decide) (by rw [c_11]; rfl) (by decide) ?_
    refine lv_iconst (v := (-1)) hx hb dX2_nameOf_96 (by decide) ?_
    exact m_iret C0 hG dX2_nameOf_97 hF
  have hF := ifn hF c_11
  by_cases c_12 : a0 = 111
  · have hF := ifp hF c_12
    refine lv_tableIn (off := 83) (tgt := 84) hx hb dX2_nameOf_1 (by rw [c_12]; decide) (by rw [c_12]; decide) (by rw [c_12]; rfl) (by decide) ?_
    refine lv_iconst (v := 0) hx hb dX2_nameOf_84 (by decide) ?_
    exact m_iret C0 hG dX2_nameOf_85 hF
  have hF := ifn hF c_12
  by_cases c_13 : a0 = 112
  · have hF := ifp hF c_13
    refine lv_tableIn (off := 95) (tgt := 96) hx hb dX2_nameOf_1 (by rw [c_13]; decide) (by rw [c_13]; decide) (by rw [c_13]; rfl) (by decide) ?_
    refine lv_iconst (v := (-1)) hx hb dX2_nameOf_96 (by decide) ?_
    exact m_iret C0 hG dX2_nameOf_97 hF
  have hF := ifn hF c_13
  by_cases c_14 : a0 = 113
  · have hF := ifp hF c_14
    refine lv_tableIn (off := 95) (tgt := 96) hx hb dX2_nameOf_1 (by rw [c_14]; decide) (by rw [c_14]; decide) (by rw [c_14]; rfl) (by decide) ?_
    refine lv_iconst (v := (-1)) hx hb dX2_nameOf_96 (by decide) ?_
    exact m_iret C0 hG dX2_nameOf_97 hF
  have hF := ifn hF c_14
  by_cases c_15 : a0 = 114
  · have hF := ifp hF c_15
    refine lv_tableIn (off := 95) (tgt := 96) hx hb dX2_nameOf_1 (by rw [c_15]; decide) (by rw [c_15]; decide) (by rw [c_15]; rfl) (by decide) ?_
    refine lv_iconst (v := (-1)) hx hb dX2_nameOf_96 (by decide) ?_
    exact m_iret C0 hG dX2_nameOf_97 hF
  have hF := ifn hF c_15
  by_cases c_16 : a0 = 115
  · have hF := ifp hF c_16
    refine lv_tableIn (off := 93) (tgt := 94) hx hb dX2_nameOf_1 (by rw [c_16]; decide) (by rw [c_16]; decide) (by rw [c_16]; rfl) (by decide) ?_
    refine lv_iconst (v := 5) hx hb dX2_nameOf_94 (by decide) ?_
    exact m_iret C0 hG dX2_nameOf_95 hF
  have hF := ifn hF c_16
  by_cases c_17 : a0 = 116
  · have hF := ifp hF c_17
    refine lv_tableIn (off := 89) (tgt := 90) hx hb dX2_nameOf_1 (by rw [c_17]; decide) (by rw [c_17]; decide) (by rw [c_17]; rfl) (by decide) ?_
    refine lv_iconst (v := 3) hx hb dX2_nameOf_90 (by decide) ?_
    exact m_iret C0 hG dX2_nameOf_91 hF
  have hF := ifn hF c_17
  refine lv_tableOut (tgt := 96) hx hb dX2_nameOf_1 (sw_out (fun q_ => by
      have zc_1 := lv_neT c_1 (show ((100 : Int32)).toInt = 100 from by decide)
      have zc_2 := lv_neT c_2 (show ((101 : Int32)).toInt = 101 from by decide)
      have zc_3 := lv_neT c_3 (show ((102 : Int32)).toInt = 102 from by decide)
      have zc_4 := lv_neT c_4 (show ((103 : Int32)).toInt = 103 from by decide)
      have zc_5 := lv_neT c_5 (show ((104 : Int32)).toInt = 104 from by decide)
      have zc_6 := lv_neT c_6 (show ((105 : Int32)).toInt = 105 from by decide)
      have zc_7 := lv_neT c_7 (show ((106 : Int32)).toInt = 106 from by decide)
      have zc_8 := lv_neT c_8 (show ((107 : Int32)).toInt = 107 from by decide)
      have zc_9 := lv_neT c_9 (show ((108 : Int32)).toInt = 108 from by decide)
      have zc_10 := lv_neT c_10 (show ((109 : Int32)).toInt = 109 from by decide)
      have zc_11 := lv_neT c_11 (show ((110 : Int32)).toInt = 110 from by decide)
      have zc_12 := lv_neT c_12 (show ((111 : Int32)).toInt = 111 from by decide)
      have zc_13 := lv_neT c_13 (show ((112 : Int32)).toInt = 112 from by decide)
      have zc_14 := lv_neT c_14 (show ((113 : Int32)).toInt = 113 from by decide)
      have zc_15 := lv_neT c_15 (show ((114 : Int32)).toInt = 114 from by decide)
      have zc_16 := lv_neT c_16 (show ((115 : Int32)).toInt = 115 from by decide)
      have zc_17 := lv_neT c_17 (show ((116 : Int32)).toInt = 116 from by decide)
      omega)) (by decide) ?_
  refine lv_iconst (v := (-1)) hx hb dX2_nameOf_96 (by decide) ?_
  exact m_iret C0 hG dX2_nameOf_97 hF
theorem mtM_nameOf (l : Launch) {N : Nat} {L : mL} {σ σ' : mS} {r : Int32} {a0 : Int32} (hF : fM_nameOf N σ a0 = some (σ', r)) : mMet l yX2_nameOf cX2_nameOf 1 (some .int) (0) (0) [.int a0] L σ (some (.int r)) σ' := by
  refine m_head (by decide) rfl ?_
  intro p e s m below meth c A C0 hG
  have hl := lv_entry ([.int a0]) (n := 1) (Nat.le_of_ble_eq_true rfl)
  rw [lg_entry_eq]
  generalize (lg_sl ([.int a0]) ++ List.replicate (1 - (lg_sl ([.int a0])).length) Slot.unset).toArray = ls at hl ⊢
  have hl : lv_has ls 1 [(0, .int a0)] := hl
  exact bM_nameOf_e C0 ⟨Nat.le_refl _, Nat.le_refl _⟩ _ _ _ [] ls hG hl hF
def fM_isP_b52 (N : Nat) (rc : mS → Option (mS × Int32)) (k9 : mS → Option (mS × Int32)) (σ : mS) (y0 : Int32) : Option (mS × Int32) :=
  if 0 ≤ y0 then (
    nmv (σ.1 18) fun x_18 =>
    nmv (mSi σ 18 (x_18 + 1)) fun σ_19 =>
    obi (rc σ_19) fun σ_20 r_21 =>
    if r_21 = 0 then (
      chb 0 (some (σ_20, 0)))
    else (
      obi (fM_codes N σ_20 y0) fun σ_24 r_25 =>
      k9 σ_24))
  else (
    chb 1 (some (σ, 1)))
def fM_isP_b9 (N : Nat) (rc : mS → Option (mS × Int32)) : Nat → mS → Option (mS × Int32)
  | 0, _ => none
  | n + 1, σ =>
    obi (fM_sign N σ) fun σ_5 r_6 =>
    if r_6 = 42 then (
      fM_isP_b52 N rc (fM_isP_b9 N rc n) σ_5 13)
    else (
      obi (fM_sign N σ_5) fun σ_9 r_10 =>
      if r_10 = 47 then (
        fM_isP_b52 N rc (fM_isP_b9 N rc n) σ_9 14)
      else (
        obi (fM_sign N σ_9) fun σ_13 r_14 =>
        if r_14 = 37 then (
          fM_isP_b52 N rc (fM_isP_b9 N rc n) σ_13 15)
        else (
          fM_isP_b52 N rc (fM_isP_b9 N rc n) σ_13 (-1))))
def fM_isP (N : Nat) (rc : mS → Option (mS × Int32)) (σ : mS) : Option (mS × Int32) :=
  obi (rc σ) fun σ_1 r_2 =>
  if r_2 = 0 then (
    chb 0 (some (σ_1, 0)))
  else (
    fM_isP_b9 N rc N σ_1)
theorem bM_isP_52 {N : Nat} {rc : mS → Option (mS × Int32)} {fr lo : Nat} (C0 : mCx p s m args meth c cX2_isP 2 (some .boolean) L A) (hRo : fr + 1 ≤ R.frames ∧ lo + 22 ≤ R.locals) (hrc : ∀ {σ σ1 : mS} {r : Int32}, rc σ = some (σ1, r) → mMet l yX2_isO cX2_isO 3 (some .boolean) (fr) (lo) [.ref L.1] L σ (some (.int r)) σ1) {σ' : mS} {r : Int32} {k9 : mS → Option (mS × Int32)} (hk9 : ∀ (σ : mS) (H : Heap) (locs : List Loc) (ls : Array Slot), mG A L s σ H locs → lv_has ls 2 [(0, .ref L.1)] → k9 σ = some (σ', r) → W p l e R s m args below meth c H locs 0 0 (mZ below L A s args σ' (some (.int r))) (F0 m 9 ls [])) (σ : mS) (y0 : Int32) (H : Heap) (locs : List Loc) (ls : Array Slot) (hG : mG A L s σ H locs) (hl : lv_has ls 2 [(0, .ref L.1)]) (hF : fM_isP_b52 N rc k9 σ y0 = some (σ', r)) : W p l e R s m args below meth c H locs 0 0 (mZ below L A s args σ' (some (.int r))) (F0 m 52 ls [.int y0]) := by
  have hx := C0.1
  have hb := C0.2.1
  unfold fM_isP_b52 at hF
  refine lv_istore_n (lv' := [(1, .int y0), (0, .ref L.1)]) hx hb dX2_isP_52 rfl hl (by decide) rfl (fun ls hl => ?_)
  refine lv_iload_n hx hb dX2_isP_53 rfl (lv_at hl 0 rfl) ?_
  refine lv_if_ge (tgt := 59) hx hb dX2_isP_54 (by decide) (fun c_17 => ?_) (fun c_17 => ?_)
  · have hF := ifp hF c_17
    refine lv_aload_n hx hb dX2_isP_59 rfl (lv_at hl 1 rfl) ?_
    refine lv_dup hx hb dX2_isP_60 rfl ?_
    refine m_geti C0 hG 18 (by decide) rfl q1596 dX2_isP_61 hF (fun x_18 hF => ?_)
    refine lv_iconst (v := 1) hx hb dX2_isP_64 (by decide) ?_
    refine lv_iadd hx hb dX2_isP_65 ?_
    refine m_puti C0 hG 18 (by decide) rfl q1596 dX2_isP_66 (Or.inl ⟨by decide, by decide⟩) hF (fun σ_19 H locs hG hF => ?_)
    refine lv_aload_n hx hb dX2_isP_69 rfl (lv_at hl 1 rfl) ?_
    obtain ⟨σ_20, r_21, e_22, hF⟩ := obi_of hF
    refine m_cVi (As := []) (rest := []) C0 hG (hrc e_22) (lw_V q1834 q1836 qs63 q102 q1837) yd_X2_isO ⟨by omega, by omega⟩ rfl rfl hl.1 (Nat.le_of_ble_eq_true rfl) dX2_isP_70 (fun H locs hG => ?_)
    refine lv_if_ne (tgt := 78) hx hb dX2_isP_73 (by decide) (fun c_23 => ?_) (fun c_23 => ?_)
    · have hF := ifn hF c_23
      refine lv_aload_n hx hb dX2_isP_78 rfl (lv_at hl 1 rfl) ?_
      refine lv_iload_n hx hb dX2_isP_79 rfl (lv_at hl 0 rfl) ?_
      obtain ⟨σ_24, r_25, e_26, hF⟩ := obi_of hF
      refine m_cVi (As := [.int y0]) (rest := []) C0 hG (mtM_codes l e_26) (lw_V q1846 q1848 qs66 q102 q1849) yd_X2_codes ⟨by omega, by omega⟩ rfl rfl hl.1 (Nat.le_of_ble_eq_true rfl) dX2_isP_80 (fun H locs hG => ?_)
      refine lv_pop hx hb dX2_isP_83 rfl ?_
      refine lv_goto (tgt := 9) hx hb dX2_isP_84 (by decide) ?_
      exact hk9 _  H locs ls hG (lv_sub hl [1] rfl) hF
    · have hF := ifp hF c_23
      refine lv_iconst (v := 0) hx hb dX2_isP_76 (by decide) ?_
      exact m_zret C0 hG dX2_isP_77 hF
  · have hF := ifn hF c_17
    refine lv_iconst (v := 1) hx hb dX2_isP_57 (by decide) ?_
    exact m_zret C0 hG dX2_isP_58 hF
theorem bM_isP_9 {N : Nat} {rc : mS → Option (mS × Int32)} {fr lo : Nat} (C0 : mCx p s m args meth c cX2_isP 2 (some .boolean) L A) (hRo : fr + 1 ≤ R.frames ∧ lo + 22 ≤ R.locals) (hrc : ∀ {σ σ1 : mS} {r : Int32}, rc σ = some (σ1, r) → mMet l yX2_isO cX2_isO 3 (some .boolean) (fr) (lo) [.ref L.1] L σ (some (.int r)) σ1) {σ' : mS} {r : Int32} : ∀ (n : Nat) (σ : mS) (H : Heap) (locs : List Loc) (ls : Array Slot), mG A L s σ H locs → lv_has ls 2 [(0, .ref L.1)] → fM_isP_b9 N rc n σ = some (σ', r) → W p l e R s m args below meth c H locs 0 0 (mZ below L A s args σ' (some (.int r))) (F0 m 9 ls []) := by
  have hx := C0.1
  have hb := C0.2.1
  intro n
  induction n with
  | zero => intro σ H locs ls hG hl hF; cases hF
  | succ n ih =>
    intro σ H locs ls hG hl hF
    unfold fM_isP_b9 at hF
    refine lv_aload_n hx hb dX2_isP_9 rfl (lv_at hl 0 rfl) ?_
    obtain ⟨σ_5, r_6, e_7, hF⟩ := obi_of hF
    refine m_cVi (As := []) (rest := []) C0 hG (mtM_sign l e_7) (lw_V q1842 q1844 qs65 q102 q1845) yd_X2_sign ⟨by omega, by omega⟩ rfl rfl hl.1 (Nat.le_of_ble_eq_true rfl) dX2_isP_10 (fun H locs hG => ?_)
    refine lv_bipush (v := 42) hx hb dX2_isP_13 (by decide) ?_
    refine lv_icmp_ne (tgt := 23) hx hb dX2_isP_15 (by decide) (fun c_8 => ?_) (fun c_8 => ?_)
    · have hF := ifn hF c_8
      refine lv_aload_n hx hb dX2_isP_23 rfl (lv_at hl 0 rfl) ?_
      obtain ⟨σ_9, r_10, e_11, hF⟩ := obi_of hF
      refine m_cVi (As := []) (rest := []) C0 hG (mtM_sign l e_11) (lw_V q1842 q1844 qs65 q102 q1845) yd_X2_sign ⟨by omega, by omega⟩ rfl rfl hl.1 (Nat.le_of_ble_eq_true rfl) dX2_isP_24 (fun H locs hG => ?_)
      refine lv_bipush (v := 47) hx hb dX2_isP_27 (by decide) ?_
      refine lv_icmp_ne (tgt := 37) hx hb dX2_isP_29 (by decide) (fun c_12 => ?_) (fun c_12 => ?_)
      · have hF := ifn hF c_12
        refine lv_aload_n hx hb dX2_isP_37 rfl (lv_at hl 0 rfl) ?_
        obtain ⟨σ_13, r_14, e_15, hF⟩ := obi_of hF
        refine m_cVi (As := []) (rest := []) C0 hG (mtM_sign l e_15) (lw_V q1842 q1844 qs65 q102 q1845) yd_X2_sign ⟨by omega, by omega⟩ rfl rfl hl.1 (Nat.le_of_ble_eq_true rfl) dX2_isP_38 (fun H locs hG => ?_)
        refine lv_bipush (v := 37) hx hb dX2_isP_41 (by decide) ?_
        refine lv_icmp_ne (tgt := 51) hx hb dX2_isP_43 (by decide) (fun c_16 => ?_) (fun c_16 => ?_)
        · have hF := ifn hF c_16
          refine lv_iconst (v := (-1)) hx hb dX2_isP_51 (by decide) ?_
          exact bM_isP_52 C0 hRo hrc ih _ _ H locs ls hG (lv_sub hl [0] rfl) hF
        · have hF := ifp hF c_16
          refine lv_bipush (v := 15) hx hb dX2_isP_46 (by decide) ?_
          refine lv_goto (tgt := 52) hx hb dX2_isP_48 (by decide) ?_
          exact bM_isP_52 C0 hRo hrc ih _ _ H locs ls hG (lv_sub hl [0] rfl) hF
      · have hF := ifp hF c_12
        refine lv_bipush (v := 14) hx hb dX2_isP_32 (by decide) ?_
        refine lv_goto (tgt := 52) hx hb dX2_isP_34 (by decide) ?_
        exact bM_isP_52 C0 hRo hrc ih _ _ H locs ls hG (lv_sub hl [0] rfl) hF
    · have hF := ifp hF c_8
      refine lv_bipush (v := 13) hx hb dX2_isP_18 (by decide) ?_
      refine lv_goto (tgt := 52) hx hb dX2_isP_20 (by decide) ?_
      exact bM_isP_52 C0 hRo hrc ih _ _ H locs ls hG (lv_sub hl [0] rfl) hF
theorem bM_isP_e {N : Nat} {rc : mS → Option (mS × Int32)} {fr lo : Nat} (C0 : mCx p s m args meth c cX2_isP 2 (some .boolean) L A) (hRo : fr + 1 ≤ R.frames ∧ lo + 22 ≤ R.locals) (hrc : ∀ {σ σ1 : mS} {r : Int32}, rc σ = some (σ1, r) → mMet l yX2_isO cX2_isO 3 (some .boolean) (fr) (lo) [.ref L.1] L σ (some (.int r)) σ1) {σ' : mS} {r : Int32} (σ : mS) (H : Heap) (locs : List Loc) (ls : Array Slot) (hG : mG A L s σ H locs) (hl : lv_has ls 2 [(0, .ref L.1)]) (hF : fM_isP N rc σ = some (σ', r)) : W p l e R s m args below meth c H locs 0 0 (mZ below L A s args σ' (some (.int r))) (F0 m 0 ls []) := by
  have hx := C0.1
  have hb := C0.2.1
  unfold fM_isP at hF
  refine lv_aload_n hx hb dX2_isP_0 rfl (lv_at hl 0 rfl) ?_
  obtain ⟨σ_1, r_2, e_3, hF⟩ := obi_of hF
  refine m_cVi (As := []) (rest := []) C0 hG (hrc e_3) (lw_V q1834 q1836 qs63 q102 q1837) yd_X2_isO ⟨by omega, by omega⟩ rfl rfl hl.1 (Nat.le_of_ble_eq_true rfl) dX2_isP_1 (fun H locs hG => ?_)
  refine lv_if_ne (tgt := 9) hx hb dX2_isP_4 (by decide) (fun c_4 => ?_) (fun c_4 => ?_)
  · have hF := ifn hF c_4
    exact bM_isP_9 C0 hRo hrc N _  H locs ls hG (lv_sub hl [0] rfl) hF
  · have hF := ifp hF c_4
    refine lv_iconst (v := 0) hx hb dX2_isP_7 (by decide) ?_
    exact m_zret C0 hG dX2_isP_8 hF
theorem mtM_isP (l : Launch) {N : Nat} {L : mL} {rc : mS → Option (mS × Int32)} {fr lo : Nat} (hrc : ∀ {σ σ1 : mS} {r : Int32}, rc σ = some (σ1, r) → mMet l yX2_isO cX2_isO 3 (some .boolean) (fr) (lo) [.ref L.1] L σ (some (.int r)) σ1) {σ σ' : mS} {r : Int32} (hF : fM_isP N rc σ = some (σ', r)) : mMet l yX2_isP cX2_isP 2 (some .boolean) (fr + 1) (lo + 22) [.ref L.1] L σ (some (.int r)) σ' := by
  refine m_head (by decide) rfl ?_
  intro p e s m below meth c A C0 hG
  have hl := lv_entry ([.ref L.1]) (n := 2) (Nat.le_of_ble_eq_true rfl)
  rw [lg_entry_eq]
  generalize (lg_sl ([.ref L.1]) ++ List.replicate (2 - (lg_sl ([.ref L.1])).length) Slot.unset).toArray = ls at hl ⊢
  have hl : lv_has ls 2 [(0, .ref L.1)] := hl
  exact bM_isP_e C0 ⟨Nat.le_refl _, Nat.le_refl _⟩ hrc _ _ [] ls hG hl hF
def fM_isS_b38 (N : Nat) (rc : mS → Option (mS × Int32)) (k9 : mS → Option (mS × Int32)) (σ : mS) (y0 : Int32) : Option (mS × Int32) :=
  if 0 ≤ y0 then (
    nmv (σ.1 18) fun x_14 =>
    nmv (mSi σ 18 (x_14 + 1)) fun σ_15 =>
    obi (fM_isP N rc σ_15) fun σ_16 r_17 =>
    if r_17 = 0 then (
      chb 0 (some (σ_16, 0)))
    else (
      obi (fM_codes N σ_16 y0) fun σ_20 r_21 =>
      k9 σ_20))
  else (
    chb 1 (some (σ, 1)))
def fM_isS_b9 (N : Nat) (rc : mS → Option (mS × Int32)) : Nat → mS → Option (mS × Int32)
  | 0, _ => none
  | n + 1, σ =>
    obi (fM_sign N σ) fun σ_5 r_6 =>
    if r_6 = 43 then (
      fM_isS_b38 N rc (fM_isS_b9 N rc n) σ_5 11)
    else (
      obi (fM_sign N σ_5) fun σ_9 r_10 =>
      if r_10 = 45 then (
        fM_isS_b38 N rc (fM_isS_b9 N rc n) σ_9 12)
      else (
        fM_isS_b38 N rc (fM_isS_b9 N rc n) σ_9 (-1)))
def fM_isS (N : Nat) (rc : mS → Option (mS × Int32)) (σ : mS) : Option (mS × Int32) :=
  obi (fM_isP N rc σ) fun σ_1 r_2 =>
  if r_2 = 0 then (
    chb 0 (some (σ_1, 0)))
  else (
    fM_isS_b9 N rc N σ_1)
theorem bM_isS_38 {N : Nat} {rc : mS → Option (mS × Int32)} {fr lo : Nat} (C0 : mCx p s m args meth c cX2_isS 2 (some .boolean) L A) (hRo : fr + 2 ≤ R.frames ∧ lo + 43 ≤ R.locals) (hrc : ∀ {σ σ1 : mS} {r : Int32}, rc σ = some (σ1, r) → mMet l yX2_isO cX2_isO 3 (some .boolean) (fr) (lo) [.ref L.1] L σ (some (.int r)) σ1) {σ' : mS} {r : Int32} {k9 : mS → Option (mS × Int32)} (hk9 : ∀ (σ : mS) (H : Heap) (locs : List Loc) (ls : Array Slot), mG A L s σ H locs → lv_has ls 2 [(0, .ref L.1)] → k9 σ = some (σ', r) → W p l e R s m args below meth c H locs 0 0 (mZ below L A s args σ' (some (.int r))) (F0 m 9 ls [])) (σ : mS) (y0 : Int32) (H : Heap) (locs : List Loc) (ls : Array Slot) (hG : mG A L s σ H locs) (hl : lv_has ls 2 [(0, .ref L.1)]) (hF : fM_isS_b38 N rc k9 σ y0 = some (σ', r)) : W p l e R s m args below meth c H locs 0 0 (mZ below L A s args σ' (some (.int r))) (F0 m 38 ls [.int y0]) := by
  have hx := C0.1
  have hb := C0.2.1
  unfold fM_isS_b38 at hF
  refine lv_istore_n (lv' := [(1, .int y0), (0, .ref L.1)]) hx hb dX2_isS_38 rfl hl (by decide) rfl (fun ls hl => ?_)
  refine lv_iload_n hx hb dX2_isS_39 rfl (lv_at hl 0 rfl) ?_
  refine lv_if_ge (tgt := 45) hx hb dX2_isS_40 (by decide) (fun c_13 => ?_) (fun c_13 => ?_)
  · have hF := ifp hF c_13
    refine lv_aload_n hx hb dX2_isS_45 rfl (lv_at hl 1 rfl) ?_
    refine lv_dup hx hb dX2_isS_46 rfl ?_
    refine m_geti C0 hG 18 (by decide) rfl q1596 dX2_isS_47 hF (fun x_14 hF => ?_)
    refine lv_iconst (v := 1) hx hb dX2_isS_50 (by decide) ?_
    refine lv_iadd hx hb dX2_isS_51 ?_
    refine m_puti C0 hG 18 (by decide) rfl q1596 dX2_isS_52 (Or.inl ⟨by decide, by decide⟩) hF (fun σ_15 H locs hG hF => ?_)
    refine lv_aload_n hx hb dX2_isS_55 rfl (lv_at hl 1 rfl) ?_
    obtain ⟨σ_16, r_17, e_18, hF⟩ := obi_of hF
    refine m_cVi (As := []) (rest := []) C0 hG (mtM_isP l hrc e_18) (lw_V q1830 q1832 qs62 q102 q1833) yd_X2_isP ⟨by omega, by omega⟩ rfl rfl hl.1 (Nat.le_of_ble_eq_true rfl) dX2_isS_56 (fun H locs hG => ?_)
    refine lv_if_ne (tgt := 64) hx hb dX2_isS_59 (by decide) (fun c_19 => ?_) (fun c_19 => ?_)
    · have hF := ifn hF c_19
      refine lv_aload_n hx hb dX2_isS_64 rfl (lv_at hl 1 rfl) ?_
      refine lv_iload_n hx hb dX2_isS_65 rfl (lv_at hl 0 rfl) ?_
      obtain ⟨σ_20, r_21, e_22, hF⟩ := obi_of hF
      refine m_cVi (As := [.int y0]) (rest := []) C0 hG (mtM_codes l e_22) (lw_V q1846 q1848 qs66 q102 q1849) yd_X2_codes ⟨by omega, by omega⟩ rfl rfl hl.1 (Nat.le_of_ble_eq_true rfl) dX2_isS_66 (fun H locs hG => ?_)
      refine lv_pop hx hb dX2_isS_69 rfl ?_
      refine lv_goto (tgt := 9) hx hb dX2_isS_70 (by decide) ?_
      exact hk9 _  H locs ls hG (lv_sub hl [1] rfl) hF
    · have hF := ifp hF c_19
      refine lv_iconst (v := 0) hx hb dX2_isS_62 (by decide) ?_
      exact m_zret C0 hG dX2_isS_63 hF
  · have hF := ifn hF c_13
    refine lv_iconst (v := 1) hx hb dX2_isS_43 (by decide) ?_
    exact m_zret C0 hG dX2_isS_44 hF
theorem bM_isS_9 {N : Nat} {rc : mS → Option (mS × Int32)} {fr lo : Nat} (C0 : mCx p s m args meth c cX2_isS 2 (some .boolean) L A) (hRo : fr + 2 ≤ R.frames ∧ lo + 43 ≤ R.locals) (hrc : ∀ {σ σ1 : mS} {r : Int32}, rc σ = some (σ1, r) → mMet l yX2_isO cX2_isO 3 (some .boolean) (fr) (lo) [.ref L.1] L σ (some (.int r)) σ1) {σ' : mS} {r : Int32} : ∀ (n : Nat) (σ : mS) (H : Heap) (locs : List Loc) (ls : Array Slot), mG A L s σ H locs → lv_has ls 2 [(0, .ref L.1)] → fM_isS_b9 N rc n σ = some (σ', r) → W p l e R s m args below meth c H locs 0 0 (mZ below L A s args σ' (some (.int r))) (F0 m 9 ls []) := by
  have hx := C0.1
  have hb := C0.2.1
  intro n
  induction n with
  | zero => intro σ H locs ls hG hl hF; cases hF
  | succ n ih =>
    intro σ H locs ls hG hl hF
    unfold fM_isS_b9 at hF
    refine lv_aload_n hx hb dX2_isS_9 rfl (lv_at hl 0 rfl) ?_
    obtain ⟨σ_5, r_6, e_7, hF⟩ := obi_of hF
    refine m_cVi (As := []) (rest := []) C0 hG (mtM_sign l e_7) (lw_V q1842 q1844 qs65 q102 q1845) yd_X2_sign ⟨by omega, by omega⟩ rfl rfl hl.1 (Nat.le_of_ble_eq_true rfl) dX2_isS_10 (fun H locs hG => ?_)
    refine lv_bipush (v := 43) hx hb dX2_isS_13 (by decide) ?_
    refine lv_icmp_ne (tgt := 23) hx hb dX2_isS_15 (by decide) (fun c_8 => ?_) (fun c_8 => ?_)
    · have hF := ifn hF c_8
      refine lv_aload_n hx hb dX2_isS_23 rfl (lv_at hl 0 rfl) ?_
      obtain ⟨σ_9, r_10, e_11, hF⟩ := obi_of hF
      refine m_cVi (As := []) (rest := []) C0 hG (mtM_sign l e_11) (lw_V q1842 q1844 qs65 q102 q1845) yd_X2_sign ⟨by omega, by omega⟩ rfl rfl hl.1 (Nat.le_of_ble_eq_true rfl) dX2_isS_24 (fun H locs hG => ?_)
      refine lv_bipush (v := 45) hx hb dX2_isS_27 (by decide) ?_
      refine lv_icmp_ne (tgt := 37) hx hb dX2_isS_29 (by decide) (fun c_12 => ?_) (fun c_12 => ?_)
      · have hF := ifn hF c_12
        refine lv_iconst (v := (-1)) hx hb dX2_isS_37 (by decide) ?_
        exact bM_isS_38 C0 hRo hrc ih _ _ H locs ls hG (lv_sub hl [0] rfl) hF
      · have hF := ifp hF c_12
        refine lv_bipush (v := 12) hx hb dX2_isS_32 (by decide) ?_
        refine lv_goto (tgt := 38) hx hb dX2_isS_34 (by decide) ?_
        exact bM_isS_38 C0 hRo hrc ih _ _ H locs ls hG (lv_sub hl [0] rfl) hF
    · have hF := ifp hF c_8
      refine lv_bipush (v := 11) hx hb dX2_isS_18 (by decide) ?_
      refine lv_goto (tgt := 38) hx hb dX2_isS_20 (by decide) ?_
      exact bM_isS_38 C0 hRo hrc ih _ _ H locs ls hG (lv_sub hl [0] rfl) hF
theorem bM_isS_e {N : Nat} {rc : mS → Option (mS × Int32)} {fr lo : Nat} (C0 : mCx p s m args meth c cX2_isS 2 (some .boolean) L A) (hRo : fr + 2 ≤ R.frames ∧ lo + 43 ≤ R.locals) (hrc : ∀ {σ σ1 : mS} {r : Int32}, rc σ = some (σ1, r) → mMet l yX2_isO cX2_isO 3 (some .boolean) (fr) (lo) [.ref L.1] L σ (some (.int r)) σ1) {σ' : mS} {r : Int32} (σ : mS) (H : Heap) (locs : List Loc) (ls : Array Slot) (hG : mG A L s σ H locs) (hl : lv_has ls 2 [(0, .ref L.1)]) (hF : fM_isS N rc σ = some (σ', r)) : W p l e R s m args below meth c H locs 0 0 (mZ below L A s args σ' (some (.int r))) (F0 m 0 ls []) := by
  have hx := C0.1
  have hb := C0.2.1
  unfold fM_isS at hF
  refine lv_aload_n hx hb dX2_isS_0 rfl (lv_at hl 0 rfl) ?_
  obtain ⟨σ_1, r_2, e_3, hF⟩ := obi_of hF
  refine m_cVi (As := []) (rest := []) C0 hG (mtM_isP l hrc e_3) (lw_V q1830 q1832 qs62 q102 q1833) yd_X2_isP ⟨by omega, by omega⟩ rfl rfl hl.1 (Nat.le_of_ble_eq_true rfl) dX2_isS_1 (fun H locs hG => ?_)
  refine lv_if_ne (tgt := 9) hx hb dX2_isS_4 (by decide) (fun c_4 => ?_) (fun c_4 => ?_)
  · have hF := ifn hF c_4
    exact bM_isS_9 C0 hRo hrc N _  H locs ls hG (lv_sub hl [0] rfl) hF
  · have hF := ifp hF c_4
    refine lv_iconst (v := 0) hx hb dX2_isS_7 (by decide) ?_
    exact m_zret C0 hG dX2_isS_8 hF
theorem mtM_isS (l : Launch) {N : Nat} {L : mL} {rc : mS → Option (mS × Int32)} {fr lo : Nat} (hrc : ∀ {σ σ1 : mS} {r : Int32}, rc σ = some (σ1, r) → mMet l yX2_isO cX2_isO 3 (some .boolean) (fr) (lo) [.ref L.1] L σ (some (.int r)) σ1) {σ σ' : mS} {r : Int32} (hF : fM_isS N rc σ = some (σ', r)) : mMet l yX2_isS cX2_isS 2 (some .boolean) (fr + 2) (lo + 43) [.ref L.1] L σ (some (.int r)) σ' := by
  refine m_head (by decide) rfl ?_
  intro p e s m below meth c A C0 hG
  have hl := lv_entry ([.ref L.1]) (n := 2) (Nat.le_of_ble_eq_true rfl)
  rw [lg_entry_eq]
  generalize (lg_sl ([.ref L.1]) ++ List.replicate (2 - (lg_sl ([.ref L.1])).length) Slot.unset).toArray = ls at hl ⊢
  have hl : lv_has ls 2 [(0, .ref L.1)] := hl
  exact bM_isS_e C0 ⟨Nat.le_refl _, Nat.le_refl _⟩ hrc _ _ [] ls hG hl hF
def fM_isB_b52 (N : Nat) (rc : mS → Option (mS × Int32)) (σ : mS) (y0 : Int32) : Option (mS × Int32) :=
  if 0 ≤ y0 then (
    nmv (σ.1 18) fun x_18 =>
    nmv (mSi σ 18 (x_18 + 1)) fun σ_19 =>
    obi (fM_isS N rc σ_19) fun σ_20 r_21 =>
    if r_21 = 0 then (
      chb 0 (some (σ_20, 0)))
    else (
      obi (fM_codes N σ_20 y0) fun σ_24 r_25 =>
      if r_25 = 0 then (
        chb 0 (some (σ_24, 0)))
      else (
        chb 1 (some (σ_24, 1)))))
  else (
    chb 1 (some (σ, 1)))
def fM_isB (N : Nat) (rc : mS → Option (mS × Int32)) (σ : mS) : Option (mS × Int32) :=
  obi (fM_isS N rc σ) fun σ_1 r_2 =>
  if r_2 = 0 then (
    chb 0 (some (σ_1, 0)))
  else (
    obi (fM_sign N σ_1) fun σ_5 r_6 =>
    if r_6 = 60 then (
      fM_isB_b52 N rc σ_5 8)
    else (
      obi (fM_sign N σ_5) fun σ_9 r_10 =>
      if r_10 = 61 then (
        fM_isB_b52 N rc σ_9 9)
      else (
        obi (fM_sign N σ_9) fun σ_13 r_14 =>
        if r_14 = 62 then (
          fM_isB_b52 N rc σ_13 10)
        else (
          fM_isB_b52 N rc σ_13 (-1)))))
theorem bM_isB_52 {N : Nat} {rc : mS → Option (mS × Int32)} {fr lo : Nat} (C0 : mCx p s m args meth c cX2_isB 2 (some .boolean) L A) (hRo : fr + 3 ≤ R.frames ∧ lo + 64 ≤ R.locals) (hrc : ∀ {σ σ1 : mS} {r : Int32}, rc σ = some (σ1, r) → mMet l yX2_isO cX2_isO 3 (some .boolean) (fr) (lo) [.ref L.1] L σ (some (.int r)) σ1) {σ' : mS} {r : Int32} (σ : mS) (y0 : Int32) (H : Heap) (locs : List Loc) (ls : Array Slot) (hG : mG A L s σ H locs) (hl : lv_has ls 2 [(0, .ref L.1)]) (hF : fM_isB_b52 N rc σ y0 = some (σ', r)) : W p l e R s m args below meth c H locs 0 0 (mZ below L A s args σ' (some (.int r))) (F0 m 52 ls [.int y0]) := by
  have hx := C0.1
  have hb := C0.2.1
  unfold fM_isB_b52 at hF
  refine lv_istore_n (lv' := [(1, .int y0), (0, .ref L.1)]) hx hb dX2_isB_52 rfl hl (by decide) rfl (fun ls hl => ?_)
  refine lv_iload_n hx hb dX2_isB_53 rfl (lv_at hl 0 rfl) ?_
  refine lv_if_ge (tgt := 59) hx hb dX2_isB_54 (by decide) (fun c_17 => ?_) (fun c_17 => ?_)
  · have hF := ifp hF c_17
    refine lv_aload_n hx hb dX2_isB_59 rfl (lv_at hl 1 rfl) ?_
    refine lv_dup hx hb dX2_isB_60 rfl ?_
    refine m_geti C0 hG 18 (by decide) rfl q1596 dX2_isB_61 hF (fun x_18 hF => ?_)
    refine lv_iconst (v := 1) hx hb dX2_isB_64 (by decide) ?_
    refine lv_iadd hx hb dX2_isB_65 ?_
    refine m_puti C0 hG 18 (by decide) rfl q1596 dX2_isB_66 (Or.inl ⟨by decide, by decide⟩) hF (fun σ_19 H locs hG hF => ?_)
    refine lv_aload_n hx hb dX2_isB_69 rfl (lv_at hl 1 rfl) ?_
    obtain ⟨σ_20, r_21, e_22, hF⟩ := obi_of hF
    refine m_cVi (As := []) (rest := []) C0 hG (mtM_isS l hrc e_22) (lw_V q1826 q1828 qs61 q102 q1829) yd_X2_isS ⟨by omega, by omega⟩ rfl rfl hl.1 (Nat.le_of_ble_eq_true rfl) dX2_isB_70 (fun H locs hG => ?_)
    refine lv_if_eq (tgt := 88) hx hb dX2_isB_73 (by decide) (fun c_23 => ?_) (fun c_23 => ?_)
    · have hF := ifp hF c_23
      refine lv_iconst (v := 0) hx hb dX2_isB_88 (by decide) ?_
      exact m_zret C0 hG dX2_isB_89 hF
    · have hF := ifn hF c_23
      refine lv_aload_n hx hb dX2_isB_76 rfl (lv_at hl 1 rfl) ?_
      refine lv_iload_n hx hb dX2_isB_77 rfl (lv_at hl 0 rfl) ?_
      obtain ⟨σ_24, r_25, e_26, hF⟩ := obi_of hF
      refine m_cVi (As := [.int y0]) (rest := []) C0 hG (mtM_codes l e_26) (lw_V q1846 q1848 qs66 q102 q1849) yd_X2_codes ⟨by omega, by omega⟩ rfl rfl hl.1 (Nat.le_of_ble_eq_true rfl) dX2_isB_78 (fun H locs hG => ?_)
      refine lv_if_eq (tgt := 88) hx hb dX2_isB_81 (by decide) (fun c_27 => ?_) (fun c_27 => ?_)
      · have hF := ifp hF c_27
        refine lv_iconst (v := 0) hx hb dX2_isB_88 (by decide) ?_
        exact m_zret C0 hG dX2_isB_89 hF
      · have hF := ifn hF c_27
        refine lv_iconst (v := 1) hx hb dX2_isB_84 (by decide) ?_
        refine lv_goto (tgt := 89) hx hb dX2_isB_85 (by decide) ?_
        exact m_zret C0 hG dX2_isB_89 hF
  · have hF := ifn hF c_17
    refine lv_iconst (v := 1) hx hb dX2_isB_57 (by decide) ?_
    exact m_zret C0 hG dX2_isB_58 hF
theorem bM_isB_e {N : Nat} {rc : mS → Option (mS × Int32)} {fr lo : Nat} (C0 : mCx p s m args meth c cX2_isB 2 (some .boolean) L A) (hRo : fr + 3 ≤ R.frames ∧ lo + 64 ≤ R.locals) (hrc : ∀ {σ σ1 : mS} {r : Int32}, rc σ = some (σ1, r) → mMet l yX2_isO cX2_isO 3 (some .boolean) (fr) (lo) [.ref L.1] L σ (some (.int r)) σ1) {σ' : mS} {r : Int32} (σ : mS) (H : Heap) (locs : List Loc) (ls : Array Slot) (hG : mG A L s σ H locs) (hl : lv_has ls 2 [(0, .ref L.1)]) (hF : fM_isB N rc σ = some (σ', r)) : W p l e R s m args below meth c H locs 0 0 (mZ below L A s args σ' (some (.int r))) (F0 m 0 ls []) := by
  have hx := C0.1
  have hb := C0.2.1
  unfold fM_isB at hF
  refine lv_aload_n hx hb dX2_isB_0 rfl (lv_at hl 0 rfl) ?_
  obtain ⟨σ_1, r_2, e_3, hF⟩ := obi_of hF
  refine m_cVi (As := []) (rest := []) C0 hG (mtM_isS l hrc e_3) (lw_V q1826 q1828 qs61 q102 q1829) yd_X2_isS ⟨by omega, by omega⟩ rfl rfl hl.1 (Nat.le_of_ble_eq_true rfl) dX2_isB_1 (fun H locs hG => ?_)
  refine lv_if_ne (tgt := 9) hx hb dX2_isB_4 (by decide) (fun c_4 => ?_) (fun c_4 => ?_)
  · have hF := ifn hF c_4
    refine lv_aload_n hx hb dX2_isB_9 rfl (lv_at hl 0 rfl) ?_
    obtain ⟨σ_5, r_6, e_7, hF⟩ := obi_of hF
    refine m_cVi (As := []) (rest := []) C0 hG (mtM_sign l e_7) (lw_V q1842 q1844 qs65 q102 q1845) yd_X2_sign ⟨by omega, by omega⟩ rfl rfl hl.1 (Nat.le_of_ble_eq_true rfl) dX2_isB_10 (fun H locs hG => ?_)
    refine lv_bipush (v := 60) hx hb dX2_isB_13 (by decide) ?_
    refine lv_icmp_ne (tgt := 23) hx hb dX2_isB_15 (by decide) (fun c_8 => ?_) (fun c_8 => ?_)
    · have hF := ifn hF c_8
      refine lv_aload_n hx hb dX2_isB_23 rfl (lv_at hl 0 rfl) ?_
      obtain ⟨σ_9, r_10, e_11, hF⟩ := obi_of hF
      refine m_cVi (As := []) (rest := []) C0 hG (mtM_sign l e_11) (lw_V q1842 q1844 qs65 q102 q1845) yd_X2_sign ⟨by omega, by omega⟩ rfl rfl hl.1 (Nat.le_of_ble_eq_true rfl) dX2_isB_24 (fun H locs hG => ?_)
      refine lv_bipush (v := 61) hx hb dX2_isB_27 (by decide) ?_
      refine lv_icmp_ne (tgt := 37) hx hb dX2_isB_29 (by decide) (fun c_12 => ?_) (fun c_12 => ?_)
      · have hF := ifn hF c_12
        refine lv_aload_n hx hb dX2_isB_37 rfl (lv_at hl 0 rfl) ?_
        obtain ⟨σ_13, r_14, e_15, hF⟩ := obi_of hF
        refine m_cVi (As := []) (rest := []) C0 hG (mtM_sign l e_15) (lw_V q1842 q1844 qs65 q102 q1845) yd_X2_sign ⟨by omega, by omega⟩ rfl rfl hl.1 (Nat.le_of_ble_eq_true rfl) dX2_isB_38 (fun H locs hG => ?_)
        refine lv_bipush (v := 62) hx hb dX2_isB_41 (by decide) ?_
        refine lv_icmp_ne (tgt := 51) hx hb dX2_isB_43 (by decide) (fun c_16 => ?_) (fun c_16 => ?_)
        · have hF := ifn hF c_16
          refine lv_iconst (v := (-1)) hx hb dX2_isB_51 (by decide) ?_
          exact bM_isB_52 C0 hRo hrc _ _ H locs ls hG (lv_sub hl [0] rfl) hF
        · have hF := ifp hF c_16
          refine lv_bipush (v := 10) hx hb dX2_isB_46 (by decide) ?_
          refine lv_goto (tgt := 52) hx hb dX2_isB_48 (by decide) ?_
          exact bM_isB_52 C0 hRo hrc _ _ H locs ls hG (lv_sub hl [0] rfl) hF
      · have hF := ifp hF c_12
        refine lv_bipush (v := 9) hx hb dX2_isB_32 (by decide) ?_
        refine lv_goto (tgt := 52) hx hb dX2_isB_34 (by decide) ?_
        exact bM_isB_52 C0 hRo hrc _ _ H locs ls hG (lv_sub hl [0] rfl) hF
    · have hF := ifp hF c_8
      refine lv_bipush (v := 8) hx hb dX2_isB_18 (by decide) ?_
      refine lv_goto (tgt := 52) hx hb dX2_isB_20 (by decide) ?_
      exact bM_isB_52 C0 hRo hrc _ _ H locs ls hG (lv_sub hl [0] rfl) hF
  · have hF := ifp hF c_4
    refine lv_iconst (v := 0) hx hb dX2_isB_7 (by decide) ?_
    exact m_zret C0 hG dX2_isB_8 hF
theorem mtM_isB (l : Launch) {N : Nat} {L : mL} {rc : mS → Option (mS × Int32)} {fr lo : Nat} (hrc : ∀ {σ σ1 : mS} {r : Int32}, rc σ = some (σ1, r) → mMet l yX2_isO cX2_isO 3 (some .boolean) (fr) (lo) [.ref L.1] L σ (some (.int r)) σ1) {σ σ' : mS} {r : Int32} (hF : fM_isB N rc σ = some (σ', r)) : mMet l yX2_isB cX2_isB 2 (some .boolean) (fr + 3) (lo + 64) [.ref L.1] L σ (some (.int r)) σ' := by
  refine m_head (by decide) rfl ?_
  intro p e s m below meth c A C0 hG
  have hl := lv_entry ([.ref L.1]) (n := 2) (Nat.le_of_ble_eq_true rfl)
  rw [lg_entry_eq]
  generalize (lg_sl ([.ref L.1]) ++ List.replicate (2 - (lg_sl ([.ref L.1])).length) Slot.unset).toArray = ls at hl ⊢
  have hl : lv_has ls 2 [(0, .ref L.1)] := hl
  exact bM_isB_e C0 ⟨Nat.le_refl _, Nat.le_refl _⟩ hrc _ _ [] ls hG hl hF
def fM_isA_b9 (N : Nat) (rc : mS → Option (mS × Int32)) : Nat → mS → Option (mS × Int32)
  | 0, _ => none
  | n + 1, σ =>
    obi (fM_is N σ 38) fun σ_5 r_6 =>
    if r_6 = 0 then (
      chb 1 (some (σ_5, 1)))
    else (
      obi (fM_isB N rc σ_5) fun σ_9 r_10 =>
      if r_10 = 0 then (
        chb 0 (some (σ_9, 0)))
      else (
        obi (fM_codes N σ_9 7) fun σ_13 r_14 =>
        (fM_isA_b9 N rc n) σ_13))
def fM_isA (N : Nat) (rc : mS → Option (mS × Int32)) (σ : mS) : Option (mS × Int32) :=
  obi (fM_isB N rc σ) fun σ_1 r_2 =>
  if r_2 = 0 then (
    chb 0 (some (σ_1, 0)))
  else (
    fM_isA_b9 N rc N σ_1)
theorem bM_isA_9 {N : Nat} {rc : mS → Option (mS × Int32)} {fr lo : Nat} (C0 : mCx p s m args meth c cX2_isA 1 (some .boolean) L A) (hRo : fr + 4 ≤ R.frames ∧ lo + 85 ≤ R.locals) (hrc : ∀ {σ σ1 : mS} {r : Int32}, rc σ = some (σ1, r) → mMet l yX2_isO cX2_isO 3 (some .boolean) (fr) (lo) [.ref L.1] L σ (some (.int r)) σ1) {σ' : mS} {r : Int32} : ∀ (n : Nat) (σ : mS) (H : Heap) (locs : List Loc) (ls : Array Slot), mG A L s σ H locs → lv_has ls 1 [(0, .ref L.1)] → fM_isA_b9 N rc n σ = some (σ', r) → W p l e R s m args below meth c H locs 0 0 (mZ below L A s args σ' (some (.int r))) (F0 m 9 ls []) := by
  have hx := C0.1
  have hb := C0.2.1
  intro n
  induction n with
  | zero => intro σ H locs ls hG hl hF; cases hF
  | succ n ih =>
    intro σ H locs ls hG hl hF
    unfold fM_isA_b9 at hF
    refine lv_aload_n hx hb dX2_isA_9 rfl (lv_at hl 0 rfl) ?_
    refine lv_bipush (v := 38) hx hb dX2_isA_10 (by decide) ?_
    obtain ⟨σ_5, r_6, e_7, hF⟩ := obi_of hF
    refine m_cVi (As := [.int 38]) (rest := []) C0 hG (mtM_is l e_7) (lw_V q1853 q1855 qs67 q102 q1856) yd_X2_is ⟨by omega, by omega⟩ rfl rfl hl.1 (Nat.le_of_ble_eq_true rfl) dX2_isA_12 (fun H locs hG => ?_)
    refine lv_if_eq (tgt := 37) hx hb dX2_isA_15 (by decide) (fun c_8 => ?_) (fun c_8 => ?_)
    · have hF := ifp hF c_8
      refine lv_iconst (v := 1) hx hb dX2_isA_37 (by decide) ?_
      exact m_zret C0 hG dX2_isA_38 hF
    · have hF := ifn hF c_8
      refine lv_aload_n hx hb dX2_isA_18 rfl (lv_at hl 0 rfl) ?_
      obtain ⟨σ_9, r_10, e_11, hF⟩ := obi_of hF
      refine m_cVi (As := []) (rest := []) C0 hG (mtM_isB l hrc e_11) (lw_V q1822 q1824 qs60 q102 q1825) yd_X2_isB ⟨by omega, by omega⟩ rfl rfl hl.1 (Nat.le_of_ble_eq_true rfl) dX2_isA_19 (fun H locs hG => ?_)
      refine lv_if_ne (tgt := 27) hx hb dX2_isA_22 (by decide) (fun c_12 => ?_) (fun c_12 => ?_)
      · have hF := ifn hF c_12
        refine lv_aload_n hx hb dX2_isA_27 rfl (lv_at hl 0 rfl) ?_
        refine lv_bipush (v := 7) hx hb dX2_isA_28 (by decide) ?_
        obtain ⟨σ_13, r_14, e_15, hF⟩ := obi_of hF
        refine m_cVi (As := [.int 7]) (rest := []) C0 hG (mtM_codes l e_15) (lw_V q1846 q1848 qs66 q102 q1849) yd_X2_codes ⟨by omega, by omega⟩ rfl rfl hl.1 (Nat.le_of_ble_eq_true rfl) dX2_isA_30 (fun H locs hG => ?_)
        refine lv_pop hx hb dX2_isA_33 rfl ?_
        refine lv_goto (tgt := 9) hx hb dX2_isA_34 (by decide) ?_
        exact ih _  H locs ls hG (lv_sub hl [0] rfl) hF
      · have hF := ifp hF c_12
        refine lv_iconst (v := 0) hx hb dX2_isA_25 (by decide) ?_
        exact m_zret C0 hG dX2_isA_26 hF
theorem bM_isA_e {N : Nat} {rc : mS → Option (mS × Int32)} {fr lo : Nat} (C0 : mCx p s m args meth c cX2_isA 1 (some .boolean) L A) (hRo : fr + 4 ≤ R.frames ∧ lo + 85 ≤ R.locals) (hrc : ∀ {σ σ1 : mS} {r : Int32}, rc σ = some (σ1, r) → mMet l yX2_isO cX2_isO 3 (some .boolean) (fr) (lo) [.ref L.1] L σ (some (.int r)) σ1) {σ' : mS} {r : Int32} (σ : mS) (H : Heap) (locs : List Loc) (ls : Array Slot) (hG : mG A L s σ H locs) (hl : lv_has ls 1 [(0, .ref L.1)]) (hF : fM_isA N rc σ = some (σ', r)) : W p l e R s m args below meth c H locs 0 0 (mZ below L A s args σ' (some (.int r))) (F0 m 0 ls []) := by
  have hx := C0.1
  have hb := C0.2.1
  unfold fM_isA at hF
  refine lv_aload_n hx hb dX2_isA_0 rfl (lv_at hl 0 rfl) ?_
  obtain ⟨σ_1, r_2, e_3, hF⟩ := obi_of hF
  refine m_cVi (As := []) (rest := []) C0 hG (mtM_isB l hrc e_3) (lw_V q1822 q1824 qs60 q102 q1825) yd_X2_isB ⟨by omega, by omega⟩ rfl rfl hl.1 (Nat.le_of_ble_eq_true rfl) dX2_isA_1 (fun H locs hG => ?_)
  refine lv_if_ne (tgt := 9) hx hb dX2_isA_4 (by decide) (fun c_4 => ?_) (fun c_4 => ?_)
  · have hF := ifn hF c_4
    exact bM_isA_9 C0 hRo hrc N _  H locs ls hG (lv_sub hl [0] rfl) hF
  · have hF := ifp hF c_4
    refine lv_iconst (v := 0) hx hb dX2_isA_7 (by decide) ?_
    exact m_zret C0 hG dX2_isA_8 hF
theorem mtM_isA (l : Launch) {N : Nat} {L : mL} {rc : mS → Option (mS × Int32)} {fr lo : Nat} (hrc : ∀ {σ σ1 : mS} {r : Int32}, rc σ = some (σ1, r) → mMet l yX2_isO cX2_isO 3 (some .boolean) (fr) (lo) [.ref L.1] L σ (some (.int r)) σ1) {σ σ' : mS} {r : Int32} (hF : fM_isA N rc σ = some (σ', r)) : mMet l yX2_isA cX2_isA 1 (some .boolean) (fr + 4) (lo + 85) [.ref L.1] L σ (some (.int r)) σ' := by
  refine m_head (by decide) rfl ?_
  intro p e s m below meth c A C0 hG
  have hl := lv_entry ([.ref L.1]) (n := 1) (Nat.le_of_ble_eq_true rfl)
  rw [lg_entry_eq]
  generalize (lg_sl ([.ref L.1]) ++ List.replicate (1 - (lg_sl ([.ref L.1])).length) Slot.unset).toArray = ls at hl ⊢
  have hl : lv_has ls 1 [(0, .ref L.1)] := hl
  exact bM_isA_e C0 ⟨Nat.le_refl _, Nat.le_refl _⟩ hrc _ _ [] ls hG hl hF
def fM_isE_b9 (N : Nat) (rc : mS → Option (mS × Int32)) : Nat → mS → Option (mS × Int32)
  | 0, _ => none
  | n + 1, σ =>
    obi (fM_is N σ 124) fun σ_5 r_6 =>
    if r_6 = 0 then (
      chb 1 (some (σ_5, 1)))
    else (
      obi (fM_isA N rc σ_5) fun σ_9 r_10 =>
      if r_10 = 0 then (
        chb 0 (some (σ_9, 0)))
      else (
        obi (fM_codes N σ_9 6) fun σ_13 r_14 =>
        (fM_isE_b9 N rc n) σ_13))
def fM_isE (N : Nat) (rc : mS → Option (mS × Int32)) (σ : mS) : Option (mS × Int32) :=
  obi (fM_isA N rc σ) fun σ_1 r_2 =>
  if r_2 = 0 then (
    chb 0 (some (σ_1, 0)))
  else (
    fM_isE_b9 N rc N σ_1)
theorem bM_isE_9 {N : Nat} {rc : mS → Option (mS × Int32)} {fr lo : Nat} (C0 : mCx p s m args meth c cX2_isE 1 (some .boolean) L A) (hRo : fr + 5 ≤ R.frames ∧ lo + 105 ≤ R.locals) (hrc : ∀ {σ σ1 : mS} {r : Int32}, rc σ = some (σ1, r) → mMet l yX2_isO cX2_isO 3 (some .boolean) (fr) (lo) [.ref L.1] L σ (some (.int r)) σ1) {σ' : mS} {r : Int32} : ∀ (n : Nat) (σ : mS) (H : Heap) (locs : List Loc) (ls : Array Slot), mG A L s σ H locs → lv_has ls 1 [(0, .ref L.1)] → fM_isE_b9 N rc n σ = some (σ', r) → W p l e R s m args below meth c H locs 0 0 (mZ below L A s args σ' (some (.int r))) (F0 m 9 ls []) := by
  have hx := C0.1
  have hb := C0.2.1
  intro n
  induction n with
  | zero => intro σ H locs ls hG hl hF; cases hF
  | succ n ih =>
    intro σ H locs ls hG hl hF
    unfold fM_isE_b9 at hF
    refine lv_aload_n hx hb dX2_isE_9 rfl (lv_at hl 0 rfl) ?_
    refine lv_bipush (v := 124) hx hb dX2_isE_10 (by decide) ?_
    obtain ⟨σ_5, r_6, e_7, hF⟩ := obi_of hF
    refine m_cVi (As := [.int 124]) (rest := []) C0 hG (mtM_is l e_7) (lw_V q1853 q1855 qs67 q102 q1856) yd_X2_is ⟨by omega, by omega⟩ rfl rfl hl.1 (Nat.le_of_ble_eq_true rfl) dX2_isE_12 (fun H locs hG => ?_)
    refine lv_if_eq (tgt := 37) hx hb dX2_isE_15 (by decide) (fun c_8 => ?_) (fun c_8 => ?_)
    · have hF := ifp hF c_8
      refine lv_iconst (v := 1) hx hb dX2_isE_37 (by decide) ?_
      exact m_zret C0 hG dX2_isE_38 hF
    · have hF := ifn hF c_8
      refine lv_aload_n hx hb dX2_isE_18 rfl (lv_at hl 0 rfl) ?_
      obtain ⟨σ_9, r_10, e_11, hF⟩ := obi_of hF
      refine m_cVi (As := []) (rest := []) C0 hG (mtM_isA l hrc e_11) (lw_V q1818 q1820 qs59 q102 q1821) yd_X2_isA ⟨by omega, by omega⟩ rfl rfl hl.1 (Nat.le_of_ble_eq_true rfl) dX2_isE_19 (fun H locs hG => ?_)
      refine lv_if_ne (tgt := 27) hx hb dX2_isE_22 (by decide) (fun c_12 => ?_) (fun c_12 => ?_)
      · have hF := ifn hF c_12
        refine lv_aload_n hx hb dX2_isE_27 rfl (lv_at hl 0 rfl) ?_
        refine lv_bipush (v := 6) hx hb dX2_isE_28 (by decide) ?_
        obtain ⟨σ_13, r_14, e_15, hF⟩ := obi_of hF
        refine m_cVi (As := [.int 6]) (rest := []) C0 hG (mtM_codes l e_15) (lw_V q1846 q1848 qs66 q102 q1849) yd_X2_codes ⟨by omega, by omega⟩ rfl rfl hl.1 (Nat.le_of_ble_eq_true rfl) dX2_isE_30 (fun H locs hG => ?_)
        refine lv_pop hx hb dX2_isE_33 rfl ?_
        refine lv_goto (tgt := 9) hx hb dX2_isE_34 (by decide) ?_
        exact ih _  H locs ls hG (lv_sub hl [0] rfl) hF
      · have hF := ifp hF c_12
        refine lv_iconst (v := 0) hx hb dX2_isE_25 (by decide) ?_
        exact m_zret C0 hG dX2_isE_26 hF
theorem bM_isE_e {N : Nat} {rc : mS → Option (mS × Int32)} {fr lo : Nat} (C0 : mCx p s m args meth c cX2_isE 1 (some .boolean) L A) (hRo : fr + 5 ≤ R.frames ∧ lo + 105 ≤ R.locals) (hrc : ∀ {σ σ1 : mS} {r : Int32}, rc σ = some (σ1, r) → mMet l yX2_isO cX2_isO 3 (some .boolean) (fr) (lo) [.ref L.1] L σ (some (.int r)) σ1) {σ' : mS} {r : Int32} (σ : mS) (H : Heap) (locs : List Loc) (ls : Array Slot) (hG : mG A L s σ H locs) (hl : lv_has ls 1 [(0, .ref L.1)]) (hF : fM_isE N rc σ = some (σ', r)) : W p l e R s m args below meth c H locs 0 0 (mZ below L A s args σ' (some (.int r))) (F0 m 0 ls []) := by
  have hx := C0.1
  have hb := C0.2.1
  unfold fM_isE at hF
  refine lv_aload_n hx hb dX2_isE_0 rfl (lv_at hl 0 rfl) ?_
  obtain ⟨σ_1, r_2, e_3, hF⟩ := obi_of hF
  refine m_cVi (As := []) (rest := []) C0 hG (mtM_isA l hrc e_3) (lw_V q1818 q1820 qs59 q102 q1821) yd_X2_isA ⟨by omega, by omega⟩ rfl rfl hl.1 (Nat.le_of_ble_eq_true rfl) dX2_isE_1 (fun H locs hG => ?_)
  refine lv_if_ne (tgt := 9) hx hb dX2_isE_4 (by decide) (fun c_4 => ?_) (fun c_4 => ?_)
  · have hF := ifn hF c_4
    exact bM_isE_9 C0 hRo hrc N _  H locs ls hG (lv_sub hl [0] rfl) hF
  · have hF := ifp hF c_4
    refine lv_iconst (v := 0) hx hb dX2_isE_7 (by decide) ?_
    exact m_zret C0 hG dX2_isE_8 hF
theorem mtM_isE (l : Launch) {N : Nat} {L : mL} {rc : mS → Option (mS × Int32)} {fr lo : Nat} (hrc : ∀ {σ σ1 : mS} {r : Int32}, rc σ = some (σ1, r) → mMet l yX2_isO cX2_isO 3 (some .boolean) (fr) (lo) [.ref L.1] L σ (some (.int r)) σ1) {σ σ' : mS} {r : Int32} (hF : fM_isE N rc σ = some (σ', r)) : mMet l yX2_isE cX2_isE 1 (some .boolean) (fr + 5) (lo + 105) [.ref L.1] L σ (some (.int r)) σ' := by
  refine m_head (by decide) rfl ?_
  intro p e s m below meth c A C0 hG
  have hl := lv_entry ([.ref L.1]) (n := 1) (Nat.le_of_ble_eq_true rfl)
  rw [lg_entry_eq]
  generalize (lg_sl ([.ref L.1]) ++ List.replicate (1 - (lg_sl ([.ref L.1])).length) Slot.unset).toArray = ls at hl ⊢
  have hl : lv_has ls 1 [(0, .ref L.1)] := hl
  exact bM_isE_e C0 ⟨Nat.le_refl _, Nat.le_refl _⟩ hrc _ _ [] ls hG hl hF
end MWALK2
