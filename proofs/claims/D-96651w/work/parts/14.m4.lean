section MWALK4
variable {p : Program} {l : Launch} {e : Env} {R : Room} {s : State} {m : MethodId} {args : Array Value} {below : List Frame} {meth : Method} {c : Code} {A : Nat → Prop}
variable {L : mL}
def fM_both (N : Nat) (σ : mS) (a0 : Int32) (a1 : Int32) (a2 : Int32) : Option (mS × Int32) :=
  if a0 = 6 then (
    if a1 = 0 then (
      if a2 = 0 then (
        some (σ, 0))
      else (
        some (σ, 1)))
    else (
      some (σ, 1)))
  else (
  if a0 = 7 then (
    if a1 = 0 then (
      some (σ, 0))
    else (
      if a2 = 0 then (
        some (σ, 0))
      else (
        some (σ, 1))))
  else (
  if a0 = 8 then (
    if a2 ≤ a1 then (
      some (σ, 0))
    else (
      some (σ, 1)))
  else (
  if a0 = 9 then (
    if a1 = a2 then (
      some (σ, 1))
    else (
      some (σ, 0)))
  else (
  if a0 = 10 then (
    if a1 ≤ a2 then (
      some (σ, 0))
    else (
      some (σ, 1)))
  else (
  if a0 = 11 then (
    some (σ, a1 + a2))
  else (
  if a0 = 12 then (
    some (σ, a1 - a2))
  else (
  if a0 = 13 then (
    some (σ, a1 * a2))
  else (
  if a0 = 14 then (
    if a2 = 0 then (
      some (σ, 0))
    else (
      chz a2 <|
      some (σ, a1 / a2)))
  else (
    if a2 = 0 then (
      some (σ, 0))
    else (
      chz a2 <|
      some (σ, a1 - a1 / a2 * a2)))))))))))
theorem bM_both_e {N : Nat} (C0 : mCx p s m args meth c cX2_both 3 (some .int) L A) (hRo : 0 ≤ R.frames ∧ 0 ≤ R.locals) {σ' : mS} {r : Int32} (σ : mS) (a0 : Int32) (a1 : Int32) (a2 : Int32) (H : Heap) (locs : List Loc) (ls : Array Slot) (hG : mG A L s σ H locs) (hl : lv_has ls 3 [(0, .int a0), (1, .int a1), (2, .int a2)]) (hF : fM_both N σ a0 a1 a2 = some (σ', r)) : W p l e R s m args below meth c H locs 0 0 (mZ below L A s args σ' (some (.int r))) (F0 m 0 ls []) := by
  have hx := C0.1
  have hb := C0.2.1
  unfold fM_both at hF
  refine lv_iload_n hx hb dX2_both_0 rfl (lv_at hl 0 rfl) ?_
  by_cases c_1 : a0 = 6
  · have hF := ifp hF c_1
    refine lv_tableIn (off := 51) (tgt := 52) hx hb dX2_both_1 (by rw [c_1]; decide) (by rw [c_1]; decide) (by rw [c_1]; rfl) (by decide) ?_
    refine lv_iload_n hx hb dX2_both_52 rfl (lv_at hl 1 rfl) ?_
    refine lv_if_ne (tgt := 60) hx hb dX2_both_53 (by decide) (fun c_2 => ?_) (fun c_2 => ?_)
    · have hF := ifn hF c_2
      refine lv_iconst (v := 1) hx hb dX2_both_60 (by decide) ?_
      refine lv_goto (tgt := 65) hx hb dX2_both_61 (by decide) ?_
      exact m_iret C0 hG dX2_both_65 hF
    · have hF := ifp hF c_2
      refine lv_iload_n hx hb dX2_both_56 rfl (lv_at hl 2 rfl) ?_
      refine lv_if_eq (tgt := 64) hx hb dX2_both_57 (by decide) (fun c_3 => ?_) (fun c_3 => ?_)
      · have hF := ifp hF c_3
        refine lv_iconst (v := 0) hx hb dX2_both_64 (by decide) ?_
        exact m_iret C0 hG dX2_both_65 hF
      · have hF := ifn hF c_3
        refine lv_iconst (v := 1) hx hb dX2_both_60 (by decide) ?_
        refine lv_goto (tgt := 65) hx hb dX2_both_61 (by decide) ?_
        exact m_iret C0 hG dX2_both_65 hF
  have hF := ifn hF c_1
  by_cases c_4 : a0 = 7
  · have hF := ifp hF c_4
    refine lv_tableIn (off := 65) (tgt := 66) hx hb dX2_both_1 (by rw [c_4]; decide) (by rw [c_4]; decide) (by rw [c_4]; rfl) (by decide) ?_
    refine lv_iload_n hx hb dX2_both_66 rfl (lv_at hl 1 rfl) ?_
    refine lv_if_eq (tgt := 78) hx hb dX2_both_67 (by decide) (fun c_5 => ?_) (fun c_5 => ?_)
    · have hF := ifp hF c_5
      refine lv_iconst (v := 0) hx hb dX2_both_78 (by decide) ?_
      exact m_iret C0 hG dX2_both_79 hF
    · have hF := ifn hF c_5
      refine lv_iload_n hx hb dX2_both_70 rfl (lv_at hl 2 rfl) ?_
      refine lv_if_eq (tgt := 78) hx hb dX2_both_71 (by decide) (fun c_6 => ?_) (fun c_6 => ?_)
      · have hF := ifp hF c_6
        refine lv_iconst (v := 0) hx hb dX2_both_78 (by decide) ?_
        exact m_iret C0 hG dX2_both_79 hF
      · have hF := ifn hF c_6
        refine lv_iconst (v := 1) hx hb dX2_both_74 (by decide) ?_
        refine lv_goto (tgt := 79) hx hb dX2_both_75 (by decide) ?_
        exact m_iret C0 hG dX2_both_79 hF
  have hF := ifn hF c_4
  by_cases c_7 : a0 = 8
  · have hF := ifp hF c_7
    refine lv_tableIn (off := 79) (tgt := 80) hx hb dX2_both_1 (by rw [c_7]; decide) (by rw [c_7]; decide) (by rw [c_7]; rfl) (by decide) ?_
    refine lv_iload_n hx hb dX2_both_80 rfl (lv_at hl 1 rfl) ?_
    refine lv_iload_n hx hb dX2_both_81 rfl (lv_at hl 2 rfl) ?_
    refine lv_icmp_ge (tgt := 89) hx hb dX2_both_82 (by decide) (fun c_8 => ?_) (fun c_8 => ?_)
    · have hF := ifp hF c_8
      refine lv_iconst (v := 0) hx hb dX2_both_89 (by decide) ?_
      exact m_iret C0 hG dX2_both_90 hF
    · have hF := ifn hF c_8
      refine lv_iconst (v := 1) hx hb dX2_both_85 (by decide) ?_
      refine lv_goto (tgt := 90) hx hb dX2_both_86 (by decide) ?_
      exact m_iret C0 hG dX2_both_90 hF
  have hF := ifn hF c_7
  by_cases c_9 : a0 = 9
  · have hF := ifp hF c_9
    refine lv_tableIn (off := 90) (tgt := 91) hx hb dX2_both_1 (by rw [c_9]; decide) (by rw [c_9]; decide) (by rw [c_9]; rfl) (by decide) ?_
    refine lv_iload_n hx hb dX2_both_91 rfl (lv_at hl 1 rfl) ?_
    refine lv_iload_n hx hb dX2_both_92 rfl (lv_at hl 2 rfl) ?_
    refine lv_icmp_ne (tgt := 100) hx hb dX2_both_93 (by decide) (fun c_10 => ?_) (fun c_10 => ?_)
    · have hF := ifn hF c_10
      refine lv_iconst (v := 0) hx hb dX2_both_100 (by decide) ?_
      exact m_iret C0 hG dX2_both_101 hF
    · have hF := ifp hF c_10
      refine lv_iconst (v := 1) hx hb dX2_both_96 (by decide) ?_
      refine lv_goto (tgt := 101) hx hb dX2_both_97 (by decide) ?_
      exact m_iret C0 hG dX2_both_101 hF
  have hF := ifn hF c_9
  by_cases c_11 : a0 = 10
  · have hF := ifp hF c_11
    refine lv_tableIn (off := 101) (tgt := 102) hx hb dX2_both_1 (by rw [c_11]; decide) (by rw [c_11]; decide) (by rw [c_11]; rfl) (by decide) ?_
    refine lv_iload_n hx hb dX2_both_102 rfl (lv_at hl 1 rfl) ?_
    refine lv_iload_n hx hb dX2_both_103 rfl (lv_at hl 2 rfl) ?_
    refine lv_icmp_le (tgt := 111) hx hb dX2_both_104 (by decide) (fun c_12 => ?_) (fun c_12 => ?_)
    · have hF := ifp hF c_12
      refine lv_iconst (v := 0) hx hb dX2_both_111 (by decide) ?_
      exact m_iret C0 hG dX2_both_112 hF
    · have hF := ifn hF c_12
      refine lv_iconst (v := 1) hx hb dX2_both_107 (by decide) ?_
      refine lv_goto (tgt := 112) hx hb dX2_both_108 (by decide) ?_
      exact m_iret C0 hG dX2_both_112 hF
  have hF := ifn hF c_11
  by_cases c_13 : a0 = 11
  · have hF := ifp hF c_13
    refine lv_tableIn (off := 112) (tgt := 113) hx hb dX2_both_1 (by rw [c_13]; decide) (by rw [c_13]; decide) (by rw [c_13]; rfl) (by decide) ?_
    refine lv_iload_n hx hb dX2_both_113 rfl (lv_at hl 1 rfl) ?_
    refine lv_iload_n hx hb dX2_both_114 rfl (lv_at hl 2 rfl) ?_
    refine lv_iadd hx hb dX2_both_115 ?_
    exact m_iret C0 hG dX2_both_116 hF
  have hF := ifn hF c_13
  by_cases c_14 : a0 = 12
  · have hF := ifp hF c_14
    refine lv_tableIn (off := 116) (tgt := 117) hx hb dX2_both_1 (by rw [c_14]; decide) (by rw [c_14]; decide) (by rw [c_14]; rfl) (by decide) ?_
    refine lv_iload_n hx hb dX2_both_117 rfl (lv_at hl 1 rfl) ?_
    refine lv_iload_n hx hb dX2_both_118 rfl (lv_at hl 2 rfl) ?_
    refine lv_isub hx hb dX2_both_119 ?_
    exact m_iret C0 hG dX2_both_120 hF
  have hF := ifn hF c_14
  by_cases c_15 : a0 = 13
  · have hF := ifp hF c_15
    refine lv_tableIn (off := 120) (tgt := 121) hx hb dX2_both_1 (by rw [c_15]; decide) (by rw [c_15]; decide) (by rw [c_15]; rfl) (by decide) ?_
    refine lv_iload_n hx hb dX2_both_121 rfl (lv_at hl 1 rfl) ?_
    refine lv_iload_n hx hb dX2_both_122 rfl (lv_at hl 2 rfl) ?_
    refine lv_imul hx hb dX2_both_123 ?_
    exact m_iret C0 hG dX2_both_124 hF
  have hF := ifn hF c_15
  by_cases c_16 : a0 = 14
  · have hF := ifp hF c_16
    refine lv_tableIn (off := 124) (tgt := 125) hx hb dX2_both_1 (by rw [c_16]; decide) (by rw [c_16]; decide) (by rw [c_16]; rfl) (by decide) ?_
    refine lv_iload_n hx hb dX2_both_125 rfl (lv_at hl 2 rfl) ?_
    refine lv_if_ne (tgt := 133) hx hb dX2_both_126 (by decide) (fun c_17 => ?_) (fun c_17 => ?_)
    · have hF := ifn hF c_17
      refine lv_iload_n hx hb dX2_both_133 rfl (lv_at hl 1 rfl) ?_
      refine lv_iload_n hx hb dX2_both_134 rfl (lv_at hl 2 rfl) ?_
      obtain ⟨h_18, hF⟩ := chz_of hF
      refine lv_idiv hx hb dX2_both_135 h_18 ?_
      exact m_iret C0 hG dX2_both_136 hF
    · have hF := ifp hF c_17
      refine lv_iconst (v := 0) hx hb dX2_both_129 (by decide) ?_
      refine lv_goto (tgt := 136) hx hb dX2_both_130 (by decide) ?_
      exact m_iret C0 hG dX2_both_136 hF
  have hF := ifn hF c_16
  refine lv_tableOut (tgt := 137) hx hb dX2_both_1 (sw_out (fun q_ => by
      have zc_1 := lv_neT c_1 (show ((6 : Int32)).toInt = 6 from by decide)
      have zc_4 := lv_neT c_4 (show ((7 : Int32)).toInt = 7 from by decide)
      have zc_7 := lv_neT c_7 (show ((8 : Int32)).toInt = 8 from by decide)
      have zc_9 := lv_neT c_9 (show ((9 : Int32)).toInt = 9 from by decide)
      have zc_11 := lv_neT c_11 (show ((10 : Int32)).toInt = 10 from by decide)
      have zc_13 := lv_neT c_13 (show ((11 : Int32)).toInt = 11 from by decide)
      have zc_14 := lv_neT c_14 (show ((12 : Int32)).toInt = 12 from by decide)
      have zc_15 := lv_neT c_15 (show ((13 : Int32)).toInt = 13 from by decide)
      have zc_16 := lv_neT c_16 (show ((14 : Int32)).toInt = 14 from by decide)
      omega)) (by decide) ?_
  refine lv_iload_n hx hb dX2_both_137 rfl (lv_at hl 2 rfl) ?_
  refine lv_if_ne (tgt := 145) hx hb dX2_both_138 (by decide) (fun c_19 => ?_) (fun c_19 => ?_)
  · have hF := ifn hF c_19
    refine lv_iload_n hx hb dX2_both_145 rfl (lv_at hl 1 rfl) ?_
    refine lv_iload_n hx hb dX2_both_146 rfl (lv_at hl 2 rfl) ?_
    obtain ⟨h_20, hF⟩ := chz_of hF
    refine lv_irem hx hb dX2_both_147 h_20 ?_
    exact m_iret C0 hG dX2_both_148 hF
  · have hF := ifp hF c_19
    refine lv_iconst (v := 0) hx hb dX2_both_141 (by decide) ?_
    refine lv_goto (tgt := 148) hx hb dX2_both_142 (by decide) ?_
    exact m_iret C0 hG dX2_both_148 hF
theorem mtM_both (l : Launch) {N : Nat} {L : mL} {σ σ' : mS} {r : Int32} {a0 : Int32} {a1 : Int32} {a2 : Int32} (hF : fM_both N σ a0 a1 a2 = some (σ', r)) : mMet l yX2_both cX2_both 3 (some .int) (0) (0) [.int a0, .int a1, .int a2] L σ (some (.int r)) σ' := by
  refine m_head (by decide) rfl ?_
  intro p e s m below meth c A C0 hG
  have hl := lv_entry ([.int a0, .int a1, .int a2]) (n := 3) (Nat.le_of_ble_eq_true rfl)
  rw [lg_entry_eq]
  generalize (lg_sl ([.int a0, .int a1, .int a2]) ++ List.replicate (3 - (lg_sl ([.int a0, .int a1, .int a2])).length) Slot.unset).toArray = ls at hl ⊢
  have hl : lv_has ls 3 [(0, .int a0), (1, .int a1), (2, .int a2)] := hl
  exact bM_both_e C0 ⟨Nat.le_refl _, Nat.le_refl _⟩ _ _ _ _ _ [] ls hG hl hF
def fM_worked_b157 (N : Nat) (k5 : mS → Int32 → Int32 → Int32 → Option (mS × Int32)) (σ : mS) (x2 : Int32) (x3 : Int32) (x4 : Int32) : Option (mS × Int32) :=
  nmv (x4 + 1) fun x_25 =>
  k5 σ x2 x3 x_25
def fM_worked_b123 (N : Nat) (k5 : mS → Int32 → Int32 → Int32 → Option (mS × Int32)) (σ : mS) (y0 : Int32) (y1 : Int32) (x2 : Int32) (x3 : Int32) (x4 : Int32) : Option (mS × Int32) :=
  chk y1 200 <| nmv (mSj σ 26 y1.toNatClampNeg y0) fun σ_27 =>
  fM_worked_b157 N k5 σ_27 x2 x3 x4
def fM_worked_b81 (N : Nat) (k5 : mS → Int32 → Int32 → Int32 → Option (mS × Int32)) (σ : mS) (x2 : Int32) (x3 : Int32) (x4 : Int32) (x5 : Int32) : Option (mS × Int32) :=
  if x5 = 17 then (
    nmv (x3 - 1) fun x_23 =>
    chk x_23 200 <| nmv (σ.2.1 26 x_23.toNatClampNeg) fun x_24 =>
    fM_worked_b123 N k5 σ (-x_24) (x3 - 1) x2 x3 x4)
  else (
    nmv (x3 - 1) fun x_20 =>
    chk x_20 200 <| nmv (σ.2.1 26 x_20.toNatClampNeg) fun x_21 =>
    if x_21 = 0 then (
      fM_worked_b123 N k5 σ 1 (x3 - 1) x2 x3 x4)
    else (
      fM_worked_b123 N k5 σ 0 (x3 - 1) x2 x3 x4))
def fM_worked_b63 (N : Nat) (k5 : mS → Int32 → Int32 → Int32 → Option (mS × Int32)) (σ : mS) (y0 : Int32) (y1 : Int32) (x2 : Int32) (x3 : Int32) (x4 : Int32) : Option (mS × Int32) :=
  chk y1 200 <| nmv (mSj σ 26 y1.toNatClampNeg y0) fun σ_26 =>
  fM_worked_b157 N k5 σ_26 x2 x3 x4
def fM_worked_b33 (N : Nat) (k5 : mS → Int32 → Int32 → Int32 → Option (mS × Int32)) (σ : mS) (x2 : Int32) (x3 : Int32) (x4 : Int32) (x5 : Int32) : Option (mS × Int32) :=
  nmv (x3 + 1) fun x_16 =>
  if x5 < 18 then (
    chk x5 6 <| nmv (σ.2.1 27 x5.toNatClampNeg) fun x_18 =>
    fM_worked_b63 N k5 σ x_18 x3 x2 x_16 x4)
  else (
    fM_worked_b63 N k5 σ (x5 - 18) x3 x2 x_16 x4)
def fM_worked_b5 (N : Nat) : Nat → mS → Int32 → Int32 → Int32 → Option (mS × Int32)
  | 0, _, _, _, _ => none
  | n + 1, σ, x2, x3, x4 =>
    if x2 ≤ x4 then (
      chk 0 200 <| nmv (σ.2.1 26 (0 : Int32).toNatClampNeg) fun x_2 =>
      some (σ, x_2))
    else (
      chk x4 200 <| nmv (σ.2.1 17 x4.toNatClampNeg) fun x_3 =>
      if 18 ≤ x_3 then (
        fM_worked_b33 N (fM_worked_b5 N n) σ x2 x3 x4 x_3)
      else (
        if 5 < x_3 then (
          if x_3 = 16 then (
            fM_worked_b81 N (fM_worked_b5 N n) σ x2 x3 x4 x_3)
          else (
            if x_3 = 17 then (
              fM_worked_b81 N (fM_worked_b5 N n) σ x2 x3 x4 x_3)
            else (
              nmv (x3 + (-1)) fun x_8 =>
              nmv (x_8 - 1) fun x_9 =>
              chk x_9 200 <| nmv (σ.2.1 26 x_9.toNatClampNeg) fun x_10 =>
              chk x_8 200 <| nmv (σ.2.1 26 x_8.toNatClampNeg) fun x_11 =>
              obi (fM_both N σ x_3 x_10 x_11) fun σ_12 r_13 =>
              chk (x_8 - 1) 200 <| nmv (mSj σ_12 26 (x_8 - 1).toNatClampNeg r_13) fun σ_15 =>
              fM_worked_b157 N (fM_worked_b5 N n) σ_15 x2 x_8 x4)))
        else (
          fM_worked_b33 N (fM_worked_b5 N n) σ x2 x3 x4 x_3)))
def fM_worked (N : Nat) (σ : mS) (a0 : Int32) (a1 : Int32) : Option (mS × Int32) :=
  fM_worked_b5 N N σ a1 0 a0
theorem bM_worked_157 {N : Nat} (C0 : mCx p s m args meth c cX2_worked 6 (some .int) L A) (hRo : 1 ≤ R.frames ∧ 22 ≤ R.locals) {σ' : mS} {r : Int32} {k5 : mS → Int32 → Int32 → Int32 → Option (mS × Int32)} (hk5 : ∀ (σ : mS) (x2 : Int32) (x3 : Int32) (x4 : Int32) (H : Heap) (locs : List Loc) (ls : Array Slot), mG A L s σ H locs → lv_has ls 6 [(0, .ref L.1), (2, .int x2), (3, .int x3), (4, .int x4)] → k5 σ x2 x3 x4 = some (σ', r) → W p l e R s m args below meth c H locs 0 0 (mZ below L A s args σ' (some (.int r))) (F0 m 5 ls [])) (σ : mS) (x2 : Int32) (x3 : Int32) (x4 : Int32) (H : Heap) (locs : List Loc) (ls : Array Slot) (hG : mG A L s σ H locs) (hl : lv_has ls 6 [(0, .ref L.1), (2, .int x2), (3, .int x3), (4, .int x4)]) (hF : fM_worked_b157 N k5 σ x2 x3 x4 = some (σ', r)) : W p l e R s m args below meth c H locs 0 0 (mZ below L A s args σ' (some (.int r))) (F0 m 157 ls []) := by
  have hx := C0.1
  have hb := C0.2.1
  unfold fM_worked_b157 at hF
  refine w_iinc hx hb dX2_worked_157 hl 3 rfl (v := 1) (by decide) (by decide) hF (fun x_25 ls hl hF => ?_)
  have hl : lv_has ls 6 [(4, .int x_25), (0, .ref L.1), (2, .int x2), (3, .int x3)] := hl
  refine lv_goto (tgt := 5) hx hb dX2_worked_160 (by decide) ?_
  exact hk5 _ _ _ _ H locs ls hG (lv_sub hl [1, 2, 3, 0] rfl) hF
theorem bM_worked_123 {N : Nat} (C0 : mCx p s m args meth c cX2_worked 6 (some .int) L A) (hRo : 1 ≤ R.frames ∧ 22 ≤ R.locals) {σ' : mS} {r : Int32} {k5 : mS → Int32 → Int32 → Int32 → Option (mS × Int32)} (hk5 : ∀ (σ : mS) (x2 : Int32) (x3 : Int32) (x4 : Int32) (H : Heap) (locs : List Loc) (ls : Array Slot), mG A L s σ H locs → lv_has ls 6 [(0, .ref L.1), (2, .int x2), (3, .int x3), (4, .int x4)] → k5 σ x2 x3 x4 = some (σ', r) → W p l e R s m args below meth c H locs 0 0 (mZ below L A s args σ' (some (.int r))) (F0 m 5 ls [])) (σ : mS) (y0 : Int32) (y1 : Int32) (x2 : Int32) (x3 : Int32) (x4 : Int32) (H : Heap) (locs : List Loc) (ls : Array Slot) (hG : mG A L s σ H locs) (hl : lv_has ls 6 [(0, .ref L.1), (2, .int x2), (3, .int x3), (4, .int x4)]) (hF : fM_worked_b123 N k5 σ y0 y1 x2 x3 x4 = some (σ', r)) : W p l e R s m args below meth c H locs 0 0 (mZ below L A s args σ' (some (.int r))) (F0 m 123 ls [.int y0, .int y1, .ref (L.2.1 26)]) := by
  have hx := C0.1
  have hb := C0.2.1
  unfold fM_worked_b123 at hF
  refine m_st C0 hG 26 ⟨by decide, rfl, by decide⟩ dX2_worked_123 hF (fun σ_27 H locs hG hF => ?_)
  refine lv_goto (tgt := 157) hx hb dX2_worked_124 (by decide) ?_
  exact bM_worked_157 C0 hRo hk5 _ _ _ _ H locs ls hG (lv_sub hl [0, 1, 2, 3] rfl) hF
theorem bM_worked_81 {N : Nat} (C0 : mCx p s m args meth c cX2_worked 6 (some .int) L A) (hRo : 1 ≤ R.frames ∧ 22 ≤ R.locals) {σ' : mS} {r : Int32} {k5 : mS → Int32 → Int32 → Int32 → Option (mS × Int32)} (hk5 : ∀ (σ : mS) (x2 : Int32) (x3 : Int32) (x4 : Int32) (H : Heap) (locs : List Loc) (ls : Array Slot), mG A L s σ H locs → lv_has ls 6 [(0, .ref L.1), (2, .int x2), (3, .int x3), (4, .int x4)] → k5 σ x2 x3 x4 = some (σ', r) → W p l e R s m args below meth c H locs 0 0 (mZ below L A s args σ' (some (.int r))) (F0 m 5 ls [])) (σ : mS) (x2 : Int32) (x3 : Int32) (x4 : Int32) (x5 : Int32) (H : Heap) (locs : List Loc) (ls : Array Slot) (hG : mG A L s σ H locs) (hl : lv_has ls 6 [(0, .ref L.1), (2, .int x2), (3, .int x3), (4, .int x4), (5, .int x5)]) (hF : fM_worked_b81 N k5 σ x2 x3 x4 x5 = some (σ', r)) : W p l e R s m args below meth c H locs 0 0 (mZ below L A s args σ' (some (.int r))) (F0 m 81 ls []) := by
  have hx := C0.1
  have hb := C0.2.1
  unfold fM_worked_b81 at hF
  refine lv_aload_n hx hb dX2_worked_81 rfl (lv_at hl 0 rfl) ?_
  refine m_geta C0 hG 26 (by decide) rfl q1604 dX2_worked_82 ?_
  refine lv_iload_n hx hb dX2_worked_85 rfl (lv_at hl 2 rfl) ?_
  refine lv_iconst (v := 1) hx hb dX2_worked_86 (by decide) ?_
  refine lv_isub hx hb dX2_worked_87 ?_
  refine lv_iload hx hb dX2_worked_88 (lv_at hl 4 rfl) ?_
  refine lv_bipush (v := 17) hx hb dX2_worked_90 (by decide) ?_
  refine lv_icmp_ne (tgt := 107) hx hb dX2_worked_92 (by decide) (fun c_19 => ?_) (fun c_19 => ?_)
  · have hF := ifn hF c_19
    refine lv_aload_n hx hb dX2_worked_107 rfl (lv_at hl 0 rfl) ?_
    refine m_geta C0 hG 26 (by decide) rfl q1604 dX2_worked_108 ?_
    refine lv_iload_n hx hb dX2_worked_111 rfl (lv_at hl 2 rfl) ?_
    refine lv_iconst (v := 1) hx hb dX2_worked_112 (by decide) ?_
    refine lv_isub hx hb dX2_worked_113 ?_
    refine w_nm hF (fun x_20 hF => ?_)
    refine m_ld C0 hG 26 ⟨by decide, rfl, by decide⟩ dX2_worked_114 hF (fun x_21 hF => ?_)
    refine lv_if_ne (tgt := 122) hx hb dX2_worked_115 (by decide) (fun c_22 => ?_) (fun c_22 => ?_)
    · have hF := ifn hF c_22
      refine lv_iconst (v := 0) hx hb dX2_worked_122 (by decide) ?_
      exact bM_worked_123 C0 hRo hk5 _ _ _ _ _ _ H locs ls hG (lv_sub hl [0, 1, 2, 3] rfl) hF
    · have hF := ifp hF c_22
      refine lv_iconst (v := 1) hx hb dX2_worked_118 (by decide) ?_
      refine lv_goto (tgt := 123) hx hb dX2_worked_119 (by decide) ?_
      exact bM_worked_123 C0 hRo hk5 _ _ _ _ _ _ H locs ls hG (lv_sub hl [0, 1, 2, 3] rfl) hF
  · have hF := ifp hF c_19
    refine lv_aload_n hx hb dX2_worked_95 rfl (lv_at hl 0 rfl) ?_
    refine m_geta C0 hG 26 (by decide) rfl q1604 dX2_worked_96 ?_
    refine lv_iload_n hx hb dX2_worked_99 rfl (lv_at hl 2 rfl) ?_
    refine lv_iconst (v := 1) hx hb dX2_worked_100 (by decide) ?_
    refine lv_isub hx hb dX2_worked_101 ?_
    refine w_nm hF (fun x_23 hF => ?_)
    refine m_ld C0 hG 26 ⟨by decide, rfl, by decide⟩ dX2_worked_102 hF (fun x_24 hF => ?_)
    refine lv_ineg hx hb dX2_worked_103 ?_
    refine lv_goto (tgt := 123) hx hb dX2_worked_104 (by decide) ?_
    exact bM_worked_123 C0 hRo hk5 _ _ _ _ _ _ H locs ls hG (lv_sub hl [0, 1, 2, 3] rfl) hF
theorem bM_worked_63 {N : Nat} (C0 : mCx p s m args meth c cX2_worked 6 (some .int) L A) (hRo : 1 ≤ R.frames ∧ 22 ≤ R.locals) {σ' : mS} {r : Int32} {k5 : mS → Int32 → Int32 → Int32 → Option (mS × Int32)} (hk5 : ∀ (σ : mS) (x2 : Int32) (x3 : Int32) (x4 : Int32) (H : Heap) (locs : List Loc) (ls : Array Slot), mG A L s σ H locs → lv_has ls 6 [(0, .ref L.1), (2, .int x2), (3, .int x3), (4, .int x4)] → k5 σ x2 x3 x4 = some (σ', r) → W p l e R s m args below meth c H locs 0 0 (mZ below L A s args σ' (some (.int r))) (F0 m 5 ls [])) (σ : mS) (y0 : Int32) (y1 : Int32) (x2 : Int32) (x3 : Int32) (x4 : Int32) (H : Heap) (locs : List Loc) (ls : Array Slot) (hG : mG A L s σ H locs) (hl : lv_has ls 6 [(0, .ref L.1), (2, .int x2), (3, .int x3), (4, .int x4)]) (hF : fM_worked_b63 N k5 σ y0 y1 x2 x3 x4 = some (σ', r)) : W p l e R s m args below meth c H locs 0 0 (mZ below L A s args σ' (some (.int r))) (F0 m 63 ls [.int y0, .int y1, .ref (L.2.1 26)]) := by
  have hx := C0.1
  have hb := C0.2.1
  unfold fM_worked_b63 at hF
  refine m_st C0 hG 26 ⟨by decide, rfl, by decide⟩ dX2_worked_63 hF (fun σ_26 H locs hG hF => ?_)
  refine lv_goto (tgt := 157) hx hb dX2_worked_64 (by decide) ?_
  exact bM_worked_157 C0 hRo hk5 _ _ _ _ H locs ls hG (lv_sub hl [0, 1, 2, 3] rfl) hF
theorem bM_worked_33 {N : Nat} (C0 : mCx p s m args meth c cX2_worked 6 (some .int) L A) (hRo : 1 ≤ R.frames ∧ 22 ≤ R.locals) {σ' : mS} {r : Int32} {k5 : mS → Int32 → Int32 → Int32 → Option (mS × Int32)} (hk5 : ∀ (σ : mS) (x2 : Int32) (x3 : Int32) (x4 : Int32) (H : Heap) (locs : List Loc) (ls : Array Slot), mG A L s σ H locs → lv_has ls 6 [(0, .ref L.1), (2, .int x2), (3, .int x3), (4, .int x4)] → k5 σ x2 x3 x4 = some (σ', r) → W p l e R s m args below meth c H locs 0 0 (mZ below L A s args σ' (some (.int r))) (F0 m 5 ls [])) (σ : mS) (x2 : Int32) (x3 : Int32) (x4 : Int32) (x5 : Int32) (H : Heap) (locs : List Loc) (ls : Array Slot) (hG : mG A L s σ H locs) (hl : lv_has ls 6 [(0, .ref L.1), (2, .int x2), (3, .int x3), (4, .int x4), (5, .int x5)]) (hF : fM_worked_b33 N k5 σ x2 x3 x4 x5 = some (σ', r)) : W p l e R s m args below meth c H locs 0 0 (mZ below L A s args σ' (some (.int r))) (F0 m 33 ls []) := by
  have hx := C0.1
  have hb := C0.2.1
  unfold fM_worked_b33 at hF
  refine lv_aload_n hx hb dX2_worked_33 rfl (lv_at hl 0 rfl) ?_
  refine m_geta C0 hG 26 (by decide) rfl q1604 dX2_worked_34 ?_
  refine lv_iload_n hx hb dX2_worked_37 rfl (lv_at hl 2 rfl) ?_
  refine w_iinc hx hb dX2_worked_38 hl 2 rfl (v := 1) (by decide) (by decide) hF (fun x_16 ls hl hF => ?_)
  have hl : lv_has ls 6 [(3, .int x_16), (0, .ref L.1), (2, .int x2), (4, .int x4), (5, .int x5)] := hl
  refine lv_iload hx hb dX2_worked_41 (lv_at hl 4 rfl) ?_
  refine lv_bipush (v := 18) hx hb dX2_worked_43 (by decide) ?_
  refine lv_icmp_lt (tgt := 56) hx hb dX2_worked_45 (by decide) (fun c_17 => ?_) (fun c_17 => ?_)
  · have hF := ifp hF c_17
    refine lv_aload_n hx hb dX2_worked_56 rfl (lv_at hl 1 rfl) ?_
    refine m_geta C0 hG 27 (by decide) rfl q1605 dX2_worked_57 ?_
    refine lv_iload hx hb dX2_worked_60 (lv_at hl 4 rfl) ?_
    refine m_ld C0 hG 27 ⟨by decide, rfl, by decide⟩ dX2_worked_62 hF (fun x_18 hF => ?_)
    exact bM_worked_63 C0 hRo hk5 _ _ _ _ _ _ H locs ls hG (lv_sub hl [1, 2, 0, 3] rfl) hF
  · have hF := ifn hF c_17
    refine lv_iload hx hb dX2_worked_48 (lv_at hl 4 rfl) ?_
    refine lv_bipush (v := 18) hx hb dX2_worked_50 (by decide) ?_
    refine lv_isub hx hb dX2_worked_52 ?_
    refine lv_goto (tgt := 63) hx hb dX2_worked_53 (by decide) ?_
    exact bM_worked_63 C0 hRo hk5 _ _ _ _ _ _ H locs ls hG (lv_sub hl [1, 2, 0, 3] rfl) hF
theorem bM_worked_5 {N : Nat} (C0 : mCx p s m args meth c cX2_worked 6 (some .int) L A) (hRo : 1 ≤ R.frames ∧ 22 ≤ R.locals) {σ' : mS} {r : Int32} : ∀ (n : Nat) (σ : mS) (x2 : Int32) (x3 : Int32) (x4 : Int32) (H : Heap) (locs : List Loc) (ls : Array Slot), mG A L s σ H locs → lv_has ls 6 [(0, .ref L.1), (2, .int x2), (3, .int x3), (4, .int x4)] → fM_worked_b5 N n σ x2 x3 x4 = some (σ', r) → W p l e R s m args below meth c H locs 0 0 (mZ below L A s args σ' (some (.int r))) (F0 m 5 ls []) := by
  have hx := C0.1
  have hb := C0.2.1
  intro n
  induction n with
  | zero => intro σ x2 x3 x4 H locs ls hG hl hF; cases hF
  | succ n ih =>
    intro σ x2 x3 x4 H locs ls hG hl hF
    unfold fM_worked_b5 at hF
    refine lv_iload hx hb dX2_worked_5 (lv_at hl 3 rfl) ?_
    refine lv_iload_n hx hb dX2_worked_7 rfl (lv_at hl 1 rfl) ?_
    refine lv_icmp_ge (tgt := 163) hx hb dX2_worked_8 (by decide) (fun c_1 => ?_) (fun c_1 => ?_)
    · have hF := ifp hF c_1
      refine lv_aload_n hx hb dX2_worked_163 rfl (lv_at hl 0 rfl) ?_
      refine m_geta C0 hG 26 (by decide) rfl q1604 dX2_worked_164 ?_
      refine lv_iconst (v := 0) hx hb dX2_worked_167 (by decide) ?_
      refine m_ld C0 hG 26 ⟨by decide, rfl, by decide⟩ dX2_worked_168 hF (fun x_2 hF => ?_)
      exact m_iret C0 hG dX2_worked_169 hF
    · have hF := ifn hF c_1
      refine lv_aload_n hx hb dX2_worked_11 rfl (lv_at hl 0 rfl) ?_
      refine m_geta C0 hG 17 (by decide) rfl q1595 dX2_worked_12 ?_
      refine lv_iload hx hb dX2_worked_15 (lv_at hl 3 rfl) ?_
      refine m_ld C0 hG 17 ⟨by decide, rfl, by decide⟩ dX2_worked_17 hF (fun x_3 hF => ?_)
      refine lv_istore (lv' := [(5, .int x_3), (0, .ref L.1), (2, .int x2), (3, .int x3), (4, .int x4)]) hx hb dX2_worked_18 hl (by decide) rfl (fun ls hl => ?_)
      refine lv_iload hx hb dX2_worked_20 (lv_at hl 0 rfl) ?_
      refine lv_bipush (v := 18) hx hb dX2_worked_22 (by decide) ?_
      refine lv_icmp_ge (tgt := 33) hx hb dX2_worked_24 (by decide) (fun c_4 => ?_) (fun c_4 => ?_)
      · have hF := ifp hF c_4
        exact bM_worked_33 C0 hRo ih _ _ _ _ _ H locs ls hG (lv_sub hl [1, 2, 3, 4, 0] rfl) hF
      · have hF := ifn hF c_4
        refine lv_iload hx hb dX2_worked_27 (lv_at hl 0 rfl) ?_
        refine lv_iconst (v := 5) hx hb dX2_worked_29 (by decide) ?_
        refine lv_icmp_gt (tgt := 67) hx hb dX2_worked_30 (by decide) (fun c_5 => ?_) (fun c_5 => ?_)
        · have hF := ifp hF c_5
          refine lv_iload hx hb dX2_worked_67 (lv_at hl 0 rfl) ?_
          refine lv_bipush (v := 16) hx hb dX2_worked_69 (by decide) ?_
          refine lv_icmp_eq (tgt := 81) hx hb dX2_worked_71 (by decide) (fun c_6 => ?_) (fun c_6 => ?_)
          · have hF := ifp hF c_6
            exact bM_worked_81 C0 hRo ih _ _ _ _ _ H locs ls hG (lv_sub hl [1, 2, 3, 4, 0] rfl) hF
          · have hF := ifn hF c_6
            refine lv_iload hx hb dX2_worked_74 (lv_at hl 0 rfl) ?_
            refine lv_bipush (v := 17) hx hb dX2_worked_76 (by decide) ?_
            refine lv_icmp_ne (tgt := 127) hx hb dX2_worked_78 (by decide) (fun c_7 => ?_) (fun c_7 => ?_)
            · have hF := ifn hF c_7
              refine w_iinc hx hb dX2_worked_127 hl 3 rfl (v := (-1)) (by decide) (by decide) hF (fun x_8 ls hl hF => ?_)
              have hl : lv_has ls 6 [(3, .int x_8), (5, .int x_3), (0, .ref L.1), (2, .int x2), (4, .int x4)] := hl
              refine lv_aload_n hx hb dX2_worked_130 rfl (lv_at hl 2 rfl) ?_
              refine m_geta C0 hG 26 (by decide) rfl q1604 dX2_worked_131 ?_
              refine lv_iload_n hx hb dX2_worked_134 rfl (lv_at hl 0 rfl) ?_
              refine lv_iconst (v := 1) hx hb dX2_worked_135 (by decide) ?_
              refine lv_isub hx hb dX2_worked_136 ?_
              refine lv_iload hx hb dX2_worked_137 (lv_at hl 1 rfl) ?_
              refine lv_aload_n hx hb dX2_worked_139 rfl (lv_at hl 2 rfl) ?_
              refine m_geta C0 hG 26 (by decide) rfl q1604 dX2_worked_140 ?_
              refine lv_iload_n hx hb dX2_worked_143 rfl (lv_at hl 0 rfl) ?_
              refine lv_iconst (v := 1) hx hb dX2_worked_144 (by decide) ?_
              refine lv_isub hx hb dX2_worked_145 ?_
              refine w_nm hF (fun x_9 hF => ?_)
              refine m_ld C0 hG 26 ⟨by decide, rfl, by decide⟩ dX2_worked_146 hF (fun x_10 hF => ?_)
              refine lv_aload_n hx hb dX2_worked_147 rfl (lv_at hl 2 rfl) ?_
              refine m_geta C0 hG 26 (by decide) rfl q1604 dX2_worked_148 ?_
              refine lv_iload_n hx hb dX2_worked_151 rfl (lv_at hl 0 rfl) ?_
              refine m_ld C0 hG 26 ⟨by decide, rfl, by decide⟩ dX2_worked_152 hF (fun x_11 hF => ?_)
              obtain ⟨σ_12, r_13, e_14, hF⟩ := obi_of hF
              refine m_cSi (As := [.int x_3, .int x_10, .int x_11]) (rest := [.int (x_8 - 1), .ref (L.2.1 26)]) C0 hG (mtM_both l e_14) (lw_S q1875 q1876 q102 q1877) yd_X2_both ⟨by omega, by omega⟩ rfl rfl hl.1 (Nat.le_of_ble_eq_true rfl) dX2_worked_153 (fun H locs hG => ?_)
              refine m_st C0 hG 26 ⟨by decide, rfl, by decide⟩ dX2_worked_156 hF (fun σ_15 H locs hG hF => ?_)
              exact bM_worked_157 C0 hRo ih _ _ _ _ H locs ls hG (lv_sub hl [2, 3, 0, 4] rfl) hF
            · have hF := ifp hF c_7
              exact bM_worked_81 C0 hRo ih _ _ _ _ _ H locs ls hG (lv_sub hl [1, 2, 3, 4, 0] rfl) hF
        · have hF := ifn hF c_5
          exact bM_worked_33 C0 hRo ih _ _ _ _ _ H locs ls hG (lv_sub hl [1, 2, 3, 4, 0] rfl) hF
theorem bM_worked_e {N : Nat} (C0 : mCx p s m args meth c cX2_worked 6 (some .int) L A) (hRo : 1 ≤ R.frames ∧ 22 ≤ R.locals) {σ' : mS} {r : Int32} (σ : mS) (a0 : Int32) (a1 : Int32) (H : Heap) (locs : List Loc) (ls : Array Slot) (hG : mG A L s σ H locs) (hl : lv_has ls 6 [(0, .ref L.1), (1, .int a0), (2, .int a1)]) (hF : fM_worked N σ a0 a1 = some (σ', r)) : W p l e R s m args below meth c H locs 0 0 (mZ below L A s args σ' (some (.int r))) (F0 m 0 ls []) := by
  have hx := C0.1
  have hb := C0.2.1
  unfold fM_worked at hF
  refine lv_iconst (v := 0) hx hb dX2_worked_0 (by decide) ?_
  refine lv_istore_n (lv' := [(3, .int 0), (0, .ref L.1), (1, .int a0), (2, .int a1)]) hx hb dX2_worked_1 rfl hl (by decide) rfl (fun ls hl => ?_)
  refine lv_iload_n hx hb dX2_worked_2 rfl (lv_at hl 2 rfl) ?_
  refine lv_istore (lv' := [(4, .int a0), (3, .int 0), (0, .ref L.1), (1, .int a0), (2, .int a1)]) hx hb dX2_worked_3 hl (by decide) rfl (fun ls hl => ?_)
  exact bM_worked_5 C0 hRo N _ _ _ _ H locs ls hG (lv_sub hl [2, 4, 1, 0] rfl) hF
theorem mtM_worked (l : Launch) {N : Nat} {L : mL} {σ σ' : mS} {r : Int32} {a0 : Int32} {a1 : Int32} (hF : fM_worked N σ a0 a1 = some (σ', r)) : mMet l yX2_worked cX2_worked 6 (some .int) (1) (22) [.ref L.1, .int a0, .int a1] L σ (some (.int r)) σ' := by
  refine m_head (by decide) rfl ?_
  intro p e s m below meth c A C0 hG
  have hl := lv_entry ([.ref L.1, .int a0, .int a1]) (n := 6) (Nat.le_of_ble_eq_true rfl)
  rw [lg_entry_eq]
  generalize (lg_sl ([.ref L.1, .int a0, .int a1]) ++ List.replicate (6 - (lg_sl ([.ref L.1, .int a0, .int a1])).length) Slot.unset).toArray = ls at hl ⊢
  have hl : lv_has ls 6 [(0, .ref L.1), (1, .int a0), (2, .int a1)] := hl
  exact bM_worked_e C0 ⟨Nat.le_refl _, Nat.le_refl _⟩ _ _ _ _ [] ls hG hl hF
def fM_loss_b182 (N : Nat) (σ : mS) (x6 : Int32) : Option (mS × Int32) :=
  chk x6 60 <| nmv (σ.2.1 15 x6.toNatClampNeg) fun x_35 =>
  chk x6 60 <| nmv (σ.2.1 16 x6.toNatClampNeg) fun x_36 =>
  obi (fM_worked N σ x_35 x_36) fun σ_37 r_38 =>
  nmv (if r_38 < 99 then r_38 else 99) fun x_40 =>
  nmv (if 0 < x_40 then x_40 else 0) fun x_41 =>
  some (σ_37, x_41)
def fM_loss_b132 (N : Nat) : Nat → mS → Int32 → Option (mS × Int32)
  | 0, _, _ => none
  | n + 1, σ, x6 =>
    nmv (σ.1 13) fun x_22 =>
    if x_22 ≤ x6 then (
      some (σ, 0))
    else (
      chk x6 60 <| nmv (σ.2.1 15 x6.toNatClampNeg) fun x_24 =>
      chk x6 60 <| nmv (σ.2.1 14 x6.toNatClampNeg) fun x_25 =>
      if x_24 ≤ x_25 then (
        fM_loss_b182 N σ x6)
      else (
        chk x6 60 <| nmv (σ.2.1 14 x6.toNatClampNeg) fun x_27 =>
        chk x6 60 <| nmv (σ.2.1 15 x6.toNatClampNeg) fun x_28 =>
        obi (fM_worked N σ x_27 x_28) fun σ_29 r_30 =>
        if r_30 = 0 then (
          nmv (x6 + 1) fun x_33 =>
          (fM_loss_b132 N n) σ_29 x_33)
        else (
          fM_loss_b182 N σ_29 x6)))
def fM_loss_b28 (N : Nat) (σ : mS) (y0 : Int32) (y1 : Int32) (y2 : Int32) : Option (mS × Int32) :=
  nmv (if (y1 * y0) < y2 then (y1 * y0) else y2) fun x_34 =>
  some (σ, x_34)
def fM_loss (N : Nat) (σ : mS) (a0 : Int32) (a1 : Int32) (a2 : Int32) (a3 : Int32) (a4 : Int32) : Option (mS × Int32) :=
  nmv (σ.1 12) fun x_1 =>
  if x_1 = 0 then (
    chk 1 3 <| nmv (σ.2.1 7 (1 : Int32).toNatClampNeg) fun x_19 =>
    chz x_19 <|
    if a3 = 2 then (
      fM_loss_b28 N σ 2 (a2 / x_19) 99)
    else (
      fM_loss_b28 N σ 1 (a2 / x_19) 99))
  else (
    chk 0 6 <| nmv (mSj σ 27 (0 : Int32).toNatClampNeg a2) fun σ_3 =>
    chk 1 6 <| nmv (mSj σ_3 27 (1 : Int32).toNatClampNeg a3) fun σ_4 =>
    chk a0 8 <| nmv (σ_4.2.1 1 a0.toNatClampNeg) fun x_5 =>
    chk a1 8 <| nmv (σ_4.2.1 1 a1.toNatClampNeg) fun x_6 =>
    nmv (if 0 ≤ (x_5 - x_6) then (x_5 - x_6) else 0 - (x_5 - x_6)) fun x_7 =>
    chk a0 8 <| nmv (σ_4.2.1 2 a0.toNatClampNeg) fun x_8 =>
    chk a1 8 <| nmv (σ_4.2.1 2 a1.toNatClampNeg) fun x_9 =>
    nmv (if 0 ≤ (x_8 - x_9) then (x_8 - x_9) else 0 - (x_8 - x_9)) fun x_10 =>
    chk 2 6 <| nmv (mSj σ_4 27 (2 : Int32).toNatClampNeg (x_7 + x_10)) fun σ_11 =>
    chk a0 8 <| nmv (σ_11.2.1 3 a0.toNatClampNeg) fun x_12 =>
    chk a1 8 <| nmv (σ_11.2.1 3 a1.toNatClampNeg) fun x_13 =>
    nmv (if 0 ≤ (x_12 - x_13) then (x_12 - x_13) else 0 - (x_12 - x_13)) fun x_14 =>
    chk 3 6 <| nmv (mSj σ_11 27 (3 : Int32).toNatClampNeg x_14) fun σ_15 =>
    chk 4 6 <| nmv (mSj σ_15 27 (4 : Int32).toNatClampNeg a4) fun σ_16 =>
    chk 1 3 <| nmv (σ_16.2.1 7 (1 : Int32).toNatClampNeg) fun x_17 =>
    chk 5 6 <| nmv (mSj σ_16 27 (5 : Int32).toNatClampNeg x_17) fun σ_18 =>
    fM_loss_b132 N N σ_18 0)
theorem bM_loss_182 {N : Nat} (C0 : mCx p s m args meth c cX2_loss 7 (some .int) L A) (hRo : 2 ≤ R.frames ∧ 47 ≤ R.locals) {σ' : mS} {r : Int32} (σ : mS) (x6 : Int32) (H : Heap) (locs : List Loc) (ls : Array Slot) (hG : mG A L s σ H locs) (hl : lv_has ls 7 [(0, .ref L.1), (6, .int x6)]) (hF : fM_loss_b182 N σ x6 = some (σ', r)) : W p l e R s m args below meth c H locs 0 0 (mZ below L A s args σ' (some (.int r))) (F0 m 182 ls []) := by
  have hx := C0.1
  have hb := C0.2.1
  unfold fM_loss_b182 at hF
  refine lv_iconst (v := 0) hx hb dX2_loss_182 (by decide) ?_
  refine lv_bipush (v := 99) hx hb dX2_loss_183 (by decide) ?_
  refine lv_aload_n hx hb dX2_loss_185 rfl (lv_at hl 0 rfl) ?_
  refine lv_aload_n hx hb dX2_loss_186 rfl (lv_at hl 0 rfl) ?_
  refine m_geta C0 hG 15 (by decide) rfl q1593 dX2_loss_187 ?_
  refine lv_iload hx hb dX2_loss_190 (lv_at hl 1 rfl) ?_
  refine m_ld C0 hG 15 ⟨by decide, rfl, by decide⟩ dX2_loss_192 hF (fun x_35 hF => ?_)
  refine lv_aload_n hx hb dX2_loss_193 rfl (lv_at hl 0 rfl) ?_
  refine m_geta C0 hG 16 (by decide) rfl q1594 dX2_loss_194 ?_
  refine lv_iload hx hb dX2_loss_197 (lv_at hl 1 rfl) ?_
  refine m_ld C0 hG 16 ⟨by decide, rfl, by decide⟩ dX2_loss_199 hF (fun x_36 hF => ?_)
  obtain ⟨σ_37, r_38, e_39, hF⟩ := obi_of hF
  refine m_cVi (As := [.int x_35, .int x_36]) (rest := [.int 99, .int 0]) C0 hG (mtM_worked l e_39) (lw_V q1871 q1873 qs70 q102 q1874) yd_X2_worked ⟨by omega, by omega⟩ rfl rfl hl.1 (Nat.le_of_ble_eq_true rfl) dX2_loss_200 (fun H locs hG => ?_)
  refine m_min C0 hl.1 q1869 q679 q116 q680 ⟨by omega, by omega⟩ (Nat.le_of_ble_eq_true rfl) dX2_loss_203 hF (fun x_40 hF => ?_)
  refine m_max C0 hl.1 q1878 q676 q116 q677 ⟨by omega, by omega⟩ (Nat.le_of_ble_eq_true rfl) dX2_loss_206 hF (fun x_41 hF => ?_)
  exact m_iret C0 hG dX2_loss_209 hF
theorem bM_loss_132 {N : Nat} (C0 : mCx p s m args meth c cX2_loss 7 (some .int) L A) (hRo : 2 ≤ R.frames ∧ 47 ≤ R.locals) {σ' : mS} {r : Int32} : ∀ (n : Nat) (σ : mS) (x6 : Int32) (H : Heap) (locs : List Loc) (ls : Array Slot), mG A L s σ H locs → lv_has ls 7 [(0, .ref L.1), (6, .int x6)] → fM_loss_b132 N n σ x6 = some (σ', r) → W p l e R s m args below meth c H locs 0 0 (mZ below L A s args σ' (some (.int r))) (F0 m 132 ls []) := by
  have hx := C0.1
  have hb := C0.2.1
  intro n
  induction n with
  | zero => intro σ x6 H locs ls hG hl hF; cases hF
  | succ n ih =>
    intro σ x6 H locs ls hG hl hF
    unfold fM_loss_b132 at hF
    refine lv_iload hx hb dX2_loss_132 (lv_at hl 1 rfl) ?_
    refine lv_aload_n hx hb dX2_loss_134 rfl (lv_at hl 0 rfl) ?_
    refine m_geti C0 hG 13 (by decide) rfl q1591 dX2_loss_135 hF (fun x_22 hF => ?_)
    refine lv_icmp_ge (tgt := 216) hx hb dX2_loss_138 (by decide) (fun c_23 => ?_) (fun c_23 => ?_)
    · have hF := ifp hF c_23
      refine lv_iconst (v := 0) hx hb dX2_loss_216 (by decide) ?_
      exact m_iret C0 hG dX2_loss_217 hF
    · have hF := ifn hF c_23
      refine lv_aload_n hx hb dX2_loss_141 rfl (lv_at hl 0 rfl) ?_
      refine m_geta C0 hG 15 (by decide) rfl q1593 dX2_loss_142 ?_
      refine lv_iload hx hb dX2_loss_145 (lv_at hl 1 rfl) ?_
      refine m_ld C0 hG 15 ⟨by decide, rfl, by decide⟩ dX2_loss_147 hF (fun x_24 hF => ?_)
      refine lv_aload_n hx hb dX2_loss_148 rfl (lv_at hl 0 rfl) ?_
      refine m_geta C0 hG 14 (by decide) rfl q1592 dX2_loss_149 ?_
      refine lv_iload hx hb dX2_loss_152 (lv_at hl 1 rfl) ?_
      refine m_ld C0 hG 14 ⟨by decide, rfl, by decide⟩ dX2_loss_154 hF (fun x_25 hF => ?_)
      refine lv_icmp_le (tgt := 182) hx hb dX2_loss_155 (by decide) (fun c_26 => ?_) (fun c_26 => ?_)
      · have hF := ifp hF c_26
        exact bM_loss_182 C0 hRo _ _ H locs ls hG (lv_sub hl [0, 1] rfl) hF
      · have hF := ifn hF c_26
        refine lv_aload_n hx hb dX2_loss_158 rfl (lv_at hl 0 rfl) ?_
        refine lv_aload_n hx hb dX2_loss_159 rfl (lv_at hl 0 rfl) ?_
        refine m_geta C0 hG 14 (by decide) rfl q1592 dX2_loss_160 ?_
        refine lv_iload hx hb dX2_loss_163 (lv_at hl 1 rfl) ?_
        refine m_ld C0 hG 14 ⟨by decide, rfl, by decide⟩ dX2_loss_165 hF (fun x_27 hF => ?_)
        refine lv_aload_n hx hb dX2_loss_166 rfl (lv_at hl 0 rfl) ?_
        refine m_geta C0 hG 15 (by decide) rfl q1593 dX2_loss_167 ?_
        refine lv_iload hx hb dX2_loss_170 (lv_at hl 1 rfl) ?_
        refine m_ld C0 hG 15 ⟨by decide, rfl, by decide⟩ dX2_loss_172 hF (fun x_28 hF => ?_)
        obtain ⟨σ_29, r_30, e_31, hF⟩ := obi_of hF
        refine m_cVi (As := [.int x_27, .int x_28]) (rest := []) C0 hG (mtM_worked l e_31) (lw_V q1871 q1873 qs70 q102 q1874) yd_X2_worked ⟨by omega, by omega⟩ rfl rfl hl.1 (Nat.le_of_ble_eq_true rfl) dX2_loss_173 (fun H locs hG => ?_)
        refine lv_if_ne (tgt := 182) hx hb dX2_loss_176 (by decide) (fun c_32 => ?_) (fun c_32 => ?_)
        · have hF := ifn hF c_32
          exact bM_loss_182 C0 hRo _ _ H locs ls hG (lv_sub hl [0, 1] rfl) hF
        · have hF := ifp hF c_32
          refine lv_goto (tgt := 210) hx hb dX2_loss_179 (by decide) ?_
          refine w_iinc hx hb dX2_loss_210 hl 1 rfl (v := 1) (by decide) (by decide) hF (fun x_33 ls hl hF => ?_)
          have hl : lv_has ls 7 [(6, .int x_33), (0, .ref L.1)] := hl
          refine lv_goto (tgt := 132) hx hb dX2_loss_213 (by decide) ?_
          exact ih _ _ H locs ls hG (lv_sub hl [1, 0] rfl) hF
theorem bM_loss_28 {N : Nat} (C0 : mCx p s m args meth c cX2_loss 7 (some .int) L A) (hRo : 2 ≤ R.frames ∧ 47 ≤ R.locals) {σ' : mS} {r : Int32} (σ : mS) (y0 : Int32) (y1 : Int32) (y2 : Int32) (H : Heap) (locs : List Loc) (ls : Array Slot) (hG : mG A L s σ H locs) (hl : lv_has ls 7 []) (hF : fM_loss_b28 N σ y0 y1 y2 = some (σ', r)) : W p l e R s m args below meth c H locs 0 0 (mZ below L A s args σ' (some (.int r))) (F0 m 28 ls [.int y0, .int y1, .int y2]) := by
  have hx := C0.1
  have hb := C0.2.1
  unfold fM_loss_b28 at hF
  refine lv_imul hx hb dX2_loss_28 ?_
  refine m_min C0 hl.1 q1869 q679 q116 q680 ⟨by omega, by omega⟩ (Nat.le_of_ble_eq_true rfl) dX2_loss_29 hF (fun x_34 hF => ?_)
  exact m_iret C0 hG dX2_loss_32 hF
theorem bM_loss_e {N : Nat} (C0 : mCx p s m args meth c cX2_loss 7 (some .int) L A) (hRo : 2 ≤ R.frames ∧ 47 ≤ R.locals) {σ' : mS} {r : Int32} (σ : mS) (a0 : Int32) (a1 : Int32) (a2 : Int32) (a3 : Int32) (a4 : Int32) (H : Heap) (locs : List Loc) (ls : Array Slot) (hG : mG A L s σ H locs) (hl : lv_has ls 7 [(0, .ref L.1), (1, .int a0), (2, .int a1), (3, .int a2), (4, .int a3), (5, .int a4)]) (hF : fM_loss N σ a0 a1 a2 a3 a4 = some (σ', r)) : W p l e R s m args below meth c H locs 0 0 (mZ below L A s args σ' (some (.int r))) (F0 m 0 ls []) := by
  have hx := C0.1
  have hb := C0.2.1
  unfold fM_loss at hF
  refine lv_aload_n hx hb dX2_loss_0 rfl (lv_at hl 0 rfl) ?_
  refine m_geti C0 hG 12 (by decide) rfl q1590 dX2_loss_1 hF (fun x_1 hF => ?_)
  refine lv_if_ne (tgt := 33) hx hb dX2_loss_4 (by decide) (fun c_2 => ?_) (fun c_2 => ?_)
  · have hF := ifn hF c_2
    refine lv_aload_n hx hb dX2_loss_33 rfl (lv_at hl 0 rfl) ?_
    refine m_geta C0 hG 27 (by decide) rfl q1605 dX2_loss_34 ?_
    refine lv_iconst (v := 0) hx hb dX2_loss_37 (by decide) ?_
    refine lv_iload_n hx hb dX2_loss_38 rfl (lv_at hl 3 rfl) ?_
    refine m_st C0 hG 27 ⟨by decide, rfl, by decide⟩ dX2_loss_39 hF (fun σ_3 H locs hG hF => ?_)
    refine lv_aload_n hx hb dX2_loss_40 rfl (lv_at hl 0 rfl) ?_
    refine m_geta C0 hG 27 (by decide) rfl q1605 dX2_loss_41 ?_
    refine lv_iconst (v := 1) hx hb dX2_loss_44 (by decide) ?_
    refine lv_iload hx hb dX2_loss_45 (lv_at hl 4 rfl) ?_
    refine m_st C0 hG 27 ⟨by decide, rfl, by decide⟩ dX2_loss_47 hF (fun σ_4 H locs hG hF => ?_)
    refine lv_aload_n hx hb dX2_loss_48 rfl (lv_at hl 0 rfl) ?_
    refine m_geta C0 hG 27 (by decide) rfl q1605 dX2_loss_49 ?_
    refine lv_iconst (v := 2) hx hb dX2_loss_52 (by decide) ?_
    refine lv_aload_n hx hb dX2_loss_53 rfl (lv_at hl 0 rfl) ?_
    refine m_geta C0 hG 1 (by decide) rfl q1579 dX2_loss_54 ?_
    refine lv_iload_n hx hb dX2_loss_57 rfl (lv_at hl 1 rfl) ?_
    refine m_ld C0 hG 1 ⟨by decide, rfl, by decide⟩ dX2_loss_58 hF (fun x_5 hF => ?_)
    refine lv_aload_n hx hb dX2_loss_59 rfl (lv_at hl 0 rfl) ?_
    refine m_geta C0 hG 1 (by decide) rfl q1579 dX2_loss_60 ?_
    refine lv_iload_n hx hb dX2_loss_63 rfl (lv_at hl 2 rfl) ?_
    refine m_ld C0 hG 1 ⟨by decide, rfl, by decide⟩ dX2_loss_64 hF (fun x_6 hF => ?_)
    refine lv_isub hx hb dX2_loss_65 ?_
    refine m_abs C0 hl.1 q1870 q825 q116 q826 ⟨by omega, by omega⟩ (Nat.le_of_ble_eq_true rfl) dX2_loss_66 hF (fun x_7 hF => ?_)
    refine lv_aload_n hx hb dX2_loss_69 rfl (lv_at hl 0 rfl) ?_
    refine m_geta C0 hG 2 (by decide) rfl q1580 dX2_loss_70 ?_
    refine lv_iload_n hx hb dX2_loss_73 rfl (lv_at hl 1 rfl) ?_
    refine m_ld C0 hG 2 ⟨by decide, rfl, by decide⟩ dX2_loss_74 hF (fun x_8 hF => ?_)
    refine lv_aload_n hx hb dX2_loss_75 rfl (lv_at hl 0 rfl) ?_
    refine m_geta C0 hG 2 (by decide) rfl q1580 dX2_loss_76 ?_
    refine lv_iload_n hx hb dX2_loss_79 rfl (lv_at hl 2 rfl) ?_
    refine m_ld C0 hG 2 ⟨by decide, rfl, by decide⟩ dX2_loss_80 hF (fun x_9 hF => ?_)
    refine lv_isub hx hb dX2_loss_81 ?_
    refine m_abs C0 hl.1 q1870 q825 q116 q826 ⟨by omega, by omega⟩ (Nat.le_of_ble_eq_true rfl) dX2_loss_82 hF (fun x_10 hF => ?_)
    refine lv_iadd hx hb dX2_loss_85 ?_
    refine m_st C0 hG 27 ⟨by decide, rfl, by decide⟩ dX2_loss_86 hF (fun σ_11 H locs hG hF => ?_)
    refine lv_aload_n hx hb dX2_loss_87 rfl (lv_at hl 0 rfl) ?_
    refine m_geta C0 hG 27 (by decide) rfl q1605 dX2_loss_88 ?_
    refine lv_iconst (v := 3) hx hb dX2_loss_91 (by decide) ?_
    refine lv_aload_n hx hb dX2_loss_92 rfl (lv_at hl 0 rfl) ?_
    refine m_geta C0 hG 3 (by decide) rfl q1581 dX2_loss_93 ?_
    refine lv_iload_n hx hb dX2_loss_96 rfl (lv_at hl 1 rfl) ?_
    refine m_ld C0 hG 3 ⟨by decide, rfl, by decide⟩ dX2_loss_97 hF (fun x_12 hF => ?_)
    refine lv_aload_n hx hb dX2_loss_98 rfl (lv_at hl 0 rfl) ?_
    refine m_geta C0 hG 3 (by decide) rfl q1581 dX2_loss_99 ?_
    refine lv_iload_n hx hb dX2_loss_102 rfl (lv_at hl 2 rfl) ?_
    refine m_ld C0 hG 3 ⟨by decide, rfl, by decide⟩ dX2_loss_103 hF (fun x_13 hF => ?_)
    refine lv_isub hx hb dX2_loss_104 ?_
    refine m_abs C0 hl.1 q1870 q825 q116 q826 ⟨by omega, by omega⟩ (Nat.le_of_ble_eq_true rfl) dX2_loss_105 hF (fun x_14 hF => ?_)
    refine m_st C0 hG 27 ⟨by decide, rfl, by decide⟩ dX2_loss_108 hF (fun σ_15 H locs hG hF => ?_)
    refine lv_aload_n hx hb dX2_loss_109 rfl (lv_at hl 0 rfl) ?_
    refine m_geta C0 hG 27 (by decide) rfl q1605 dX2_loss_110 ?_
    refine lv_iconst (v := 4) hx hb dX2_loss_113 (by decide) ?_
    refine lv_iload hx hb dX2_loss_114 (lv_at hl 5 rfl) ?_
    refine m_st C0 hG 27 ⟨by decide, rfl, by decide⟩ dX2_loss_116 hF (fun σ_16 H locs hG hF => ?_)
    refine lv_aload_n hx hb dX2_loss_117 rfl (lv_at hl 0 rfl) ?_
    refine m_geta C0 hG 27 (by decide) rfl q1605 dX2_loss_118 ?_
    refine lv_iconst (v := 5) hx hb dX2_loss_121 (by decide) ?_
    refine lv_aload_n hx hb dX2_loss_122 rfl (lv_at hl 0 rfl) ?_
    refine m_geta C0 hG 7 (by decide) rfl q1585 dX2_loss_123 ?_
    refine lv_iconst (v := 1) hx hb dX2_loss_126 (by decide) ?_
    refine m_ld C0 hG 7 ⟨by decide, rfl, by decide⟩ dX2_loss_127 hF (fun x_17 hF => ?_)
    refine m_st C0 hG 27 ⟨by decide, rfl, by decide⟩ dX2_loss_128 hF (fun σ_18 H locs hG hF => ?_)
    refine lv_iconst (v := 0) hx hb dX2_loss_129 (by decide) ?_
    refine lv_istore (lv' := [(6, .int 0), (0, .ref L.1), (1, .int a0), (2, .int a1), (3, .int a2), (4, .int a3), (5, .int a4)]) hx hb dX2_loss_130 hl (by decide) rfl (fun ls hl => ?_)
    exact bM_loss_132 C0 hRo N _ _ H locs ls hG (lv_sub hl [1, 0] rfl) hF
  · have hF := ifp hF c_2
    refine lv_bipush (v := 99) hx hb dX2_loss_7 (by decide) ?_
    refine lv_iload_n hx hb dX2_loss_9 rfl (lv_at hl 3 rfl) ?_
    refine lv_aload_n hx hb dX2_loss_10 rfl (lv_at hl 0 rfl) ?_
    refine m_geta C0 hG 7 (by decide) rfl q1585 dX2_loss_11 ?_
    refine lv_iconst (v := 1) hx hb dX2_loss_14 (by decide) ?_
    refine m_ld C0 hG 7 ⟨by decide, rfl, by decide⟩ dX2_loss_15 hF (fun x_19 hF => ?_)
    obtain ⟨h_20, hF⟩ := chz_of hF
    refine lv_idiv hx hb dX2_loss_16 h_20 ?_
    refine lv_iload hx hb dX2_loss_17 (lv_at hl 4 rfl) ?_
    refine lv_iconst (v := 2) hx hb dX2_loss_19 (by decide) ?_
    refine lv_icmp_ne (tgt := 27) hx hb dX2_loss_20 (by decide) (fun c_21 => ?_) (fun c_21 => ?_)
    · have hF := ifn hF c_21
      refine lv_iconst (v := 1) hx hb dX2_loss_27 (by decide) ?_
      exact bM_loss_28 C0 hRo _ _ _ _ H locs ls hG (lv_sub hl [] rfl) hF
    · have hF := ifp hF c_21
      refine lv_iconst (v := 2) hx hb dX2_loss_23 (by decide) ?_
      refine lv_goto (tgt := 28) hx hb dX2_loss_24 (by decide) ?_
      exact bM_loss_28 C0 hRo _ _ _ _ H locs ls hG (lv_sub hl [] rfl) hF
theorem mtM_loss (l : Launch) {N : Nat} {L : mL} {σ σ' : mS} {r : Int32} {a0 : Int32} {a1 : Int32} {a2 : Int32} {a3 : Int32} {a4 : Int32} (hF : fM_loss N σ a0 a1 a2 a3 a4 = some (σ', r)) : mMet l yX2_loss cX2_loss 7 (some .int) (2) (47) [.ref L.1, .int a0, .int a1, .int a2, .int a3, .int a4] L σ (some (.int r)) σ' := by
  refine m_head (by decide) rfl ?_
  intro p e s m below meth c A C0 hG
  have hl := lv_entry ([.ref L.1, .int a0, .int a1, .int a2, .int a3, .int a4]) (n := 7) (Nat.le_of_ble_eq_true rfl)
  rw [lg_entry_eq]
  generalize (lg_sl ([.ref L.1, .int a0, .int a1, .int a2, .int a3, .int a4]) ++ List.replicate (7 - (lg_sl ([.ref L.1, .int a0, .int a1, .int a2, .int a3, .int a4])).length) Slot.unset).toArray = ls at hl ⊢
  have hl : lv_has ls 7 [(0, .ref L.1), (1, .int a0), (2, .int a1), (3, .int a2), (4, .int a3), (5, .int a4)] := hl
  exact bM_loss_e C0 ⟨Nat.le_refl _, Nat.le_refl _⟩ _ _ _ _ _ _ _ [] ls hG hl hF
def fM_loses (N : Nat) (σ : mS) (a0 : Int32) (a1 : Int32) (a2 : Int32) : Option (mS × Int32) :=
  obi (fM_areTwo N σ a0) fun σ_1 r_2 =>
  if r_2 = 0 then (
    some (σ_1, (-1)))
  else (
    obi (fM_within N σ_1 a1 0 9999) fun σ_5 r_6 =>
    if r_6 = 0 then (
      some (σ_5, (-1)))
    else (
      if a2 < 0 then (
        some (σ_5, (-1)))
      else (
        chz 100 <|
        if 4 < (a2 / 100) then (
          some (σ_5, (-1)))
        else (
          chz 100 <|
          if (a2 - a2 / 100 * 100) ≤ 59 then (
            chz 10 <|
            chz 10 <|
            chz 100 <|
            chz 100 <|
            obi (fM_loss N σ_5 (a0 / 10) (a0 - a0 / 10 * 10) a1 (a2 / 100) (a2 - a2 / 100 * 100)) fun σ_18 r_19 =>
            some (σ_18, r_19))
          else (
            some (σ_5, (-1)))))))
theorem bM_loses_e {N : Nat} (C0 : mCx p s m args meth c cX2_loses 4 (some .int) L A) (hRo : 3 ≤ R.frames ∧ 73 ≤ R.locals) {σ' : mS} {r : Int32} (σ : mS) (a0 : Int32) (a1 : Int32) (a2 : Int32) (H : Heap) (locs : List Loc) (ls : Array Slot) (hG : mG A L s σ H locs) (hl : lv_has ls 4 [(0, .ref L.1), (1, .int a0), (2, .int a1), (3, .int a2)]) (hF : fM_loses N σ a0 a1 a2 = some (σ', r)) : W p l e R s m args below meth c H locs 0 0 (mZ below L A s args σ' (some (.int r))) (F0 m 0 ls []) := by
  have hx := C0.1
  have hb := C0.2.1
  unfold fM_loses at hF
  refine lv_aload_n hx hb dX2_loses_0 rfl (lv_at hl 0 rfl) ?_
  refine lv_iload_n hx hb dX2_loses_1 rfl (lv_at hl 1 rfl) ?_
  obtain ⟨σ_1, r_2, e_3, hF⟩ := obi_of hF
  refine m_cVi (As := [.int a0]) (rest := []) C0 hG (mtM_areTwo l e_3) (lw_V q1861 q1863 qs68 q102 q1864) yd_X2_areTwo ⟨by omega, by omega⟩ rfl rfl hl.1 (Nat.le_of_ble_eq_true rfl) dX2_loses_2 (fun H locs hG => ?_)
  refine lv_if_eq (tgt := 40) hx hb dX2_loses_5 (by decide) (fun c_4 => ?_) (fun c_4 => ?_)
  · have hF := ifp hF c_4
    refine lv_iconst (v := (-1)) hx hb dX2_loses_40 (by decide) ?_
    exact m_iret C0 hG dX2_loses_41 hF
  · have hF := ifn hF c_4
    refine lv_iload_n hx hb dX2_loses_8 rfl (lv_at hl 2 rfl) ?_
    refine lv_iconst (v := 0) hx hb dX2_loses_9 (by decide) ?_
    refine lv_sipush (v := 9999) hx hb dX2_loses_10 (by decide) ?_
    obtain ⟨σ_5, r_6, e_7, hF⟩ := obi_of hF
    refine m_cSi (As := [.int a1, .int 0, .int 9999]) (rest := []) C0 hG (mtM_within l e_7) (lw_S q1751 q1752 q102 q1753) yd_X2_within ⟨by omega, by omega⟩ rfl rfl hl.1 (Nat.le_of_ble_eq_true rfl) dX2_loses_13 (fun H locs hG => ?_)
    refine lv_if_eq (tgt := 40) hx hb dX2_loses_16 (by decide) (fun c_8 => ?_) (fun c_8 => ?_)
    · have hF := ifp hF c_8
      refine lv_iconst (v := (-1)) hx hb dX2_loses_40 (by decide) ?_
      exact m_iret C0 hG dX2_loses_41 hF
    · have hF := ifn hF c_8
      refine lv_iload_n hx hb dX2_loses_19 rfl (lv_at hl 3 rfl) ?_
      refine lv_if_lt (tgt := 40) hx hb dX2_loses_20 (by decide) (fun c_9 => ?_) (fun c_9 => ?_)
      · have hF := ifp hF c_9
        refine lv_iconst (v := (-1)) hx hb dX2_loses_40 (by decide) ?_
        exact m_iret C0 hG dX2_loses_41 hF
      · have hF := ifn hF c_9
        refine lv_iload_n hx hb dX2_loses_23 rfl (lv_at hl 3 rfl) ?_
        refine lv_bipush (v := 100) hx hb dX2_loses_24 (by decide) ?_
        obtain ⟨h_10, hF⟩ := chz_of hF
        refine lv_idiv hx hb dX2_loses_26 h_10 ?_
        refine lv_iconst (v := 4) hx hb dX2_loses_27 (by decide) ?_
        refine lv_icmp_gt (tgt := 40) hx hb dX2_loses_28 (by decide) (fun c_11 => ?_) (fun c_11 => ?_)
        · have hF := ifp hF c_11
          refine lv_iconst (v := (-1)) hx hb dX2_loses_40 (by decide) ?_
          exact m_iret C0 hG dX2_loses_41 hF
        · have hF := ifn hF c_11
          refine lv_iload_n hx hb dX2_loses_31 rfl (lv_at hl 3 rfl) ?_
          refine lv_bipush (v := 100) hx hb dX2_loses_32 (by decide) ?_
          obtain ⟨h_12, hF⟩ := chz_of hF
          refine lv_irem hx hb dX2_loses_34 h_12 ?_
          refine lv_bipush (v := 59) hx hb dX2_loses_35 (by decide) ?_
          refine lv_icmp_le (tgt := 42) hx hb dX2_loses_37 (by decide) (fun c_13 => ?_) (fun c_13 => ?_)
          · have hF := ifp hF c_13
            refine lv_aload_n hx hb dX2_loses_42 rfl (lv_at hl 0 rfl) ?_
            refine lv_iload_n hx hb dX2_loses_43 rfl (lv_at hl 1 rfl) ?_
            refine lv_bipush (v := 10) hx hb dX2_loses_44 (by decide) ?_
            obtain ⟨h_14, hF⟩ := chz_of hF
            refine lv_idiv hx hb dX2_loses_46 h_14 ?_
            refine lv_iload_n hx hb dX2_loses_47 rfl (lv_at hl 1 rfl) ?_
            refine lv_bipush (v := 10) hx hb dX2_loses_48 (by decide) ?_
            obtain ⟨h_15, hF⟩ := chz_of hF
            refine lv_irem hx hb dX2_loses_50 h_15 ?_
            refine lv_iload_n hx hb dX2_loses_51 rfl (lv_at hl 2 rfl) ?_
            refine lv_iload_n hx hb dX2_loses_52 rfl (lv_at hl 3 rfl) ?_
            refine lv_bipush (v := 100) hx hb dX2_loses_53 (by decide) ?_
            obtain ⟨h_16, hF⟩ := chz_of hF
            refine lv_idiv hx hb dX2_loses_55 h_16 ?_
            refine lv_iload_n hx hb dX2_loses_56 rfl (lv_at hl 3 rfl) ?_
            refine lv_bipush (v := 100) hx hb dX2_loses_57 (by decide) ?_
            obtain ⟨h_17, hF⟩ := chz_of hF
            refine lv_irem hx hb dX2_loses_59 h_17 ?_
            obtain ⟨σ_18, r_19, e_20, hF⟩ := obi_of hF
            refine m_cVi (As := [.int (a0 / 10), .int (a0 - a0 / 10 * 10), .int a1, .int (a2 / 100), .int (a2 - a2 / 100 * 100)]) (rest := []) C0 hG (mtM_loss l e_20) (lw_V q1865 q1867 qs69 q102 q1868) yd_X2_loss ⟨by omega, by omega⟩ rfl rfl hl.1 (Nat.le_of_ble_eq_true rfl) dX2_loses_60 (fun H locs hG => ?_)
            exact m_iret C0 hG dX2_loses_63 hF
          · have hF := ifn hF c_13
            refine lv_iconst (v := (-1)) hx hb dX2_loses_40 (by decide) ?_
            exact m_iret C0 hG dX2_loses_41 hF
theorem mtM_loses (l : Launch) {N : Nat} {L : mL} {σ σ' : mS} {r : Int32} {a0 : Int32} {a1 : Int32} {a2 : Int32} (hF : fM_loses N σ a0 a1 a2 = some (σ', r)) : mMet l yX2_loses cX2_loses 4 (some .int) (3) (73) [.ref L.1, .int a0, .int a1, .int a2] L σ (some (.int r)) σ' := by
  refine m_head (by decide) rfl ?_
  intro p e s m below meth c A C0 hG
  have hl := lv_entry ([.ref L.1, .int a0, .int a1, .int a2]) (n := 4) (Nat.le_of_ble_eq_true rfl)
  rw [lg_entry_eq]
  generalize (lg_sl ([.ref L.1, .int a0, .int a1, .int a2]) ++ List.replicate (4 - (lg_sl ([.ref L.1, .int a0, .int a1, .int a2])).length) Slot.unset).toArray = ls at hl ⊢
  have hl : lv_has ls 4 [(0, .ref L.1), (1, .int a0), (2, .int a1), (3, .int a2)] := hl
  exact bM_loses_e C0 ⟨Nat.le_refl _, Nat.le_refl _⟩ _ _ _ _ _ [] ls hG hl hF
def fM_noRow (N : Nat) (σ : mS) (a0 : Int32) (a1 : Int32) : Option (mS × Int32) :=
  chk a0 6 <| nmv (σ.2.1 41 a0.toNatClampNeg) fun x_1 =>
  if x_1 = (-1) then (
    some (σ, (-11)))
  else (
    chk a0 6 <| nmv (σ.2.1 41 a0.toNatClampNeg) fun x_3 =>
    if x_3 = a1 then (
      some (σ, 0))
    else (
      some (σ, (-12))))
theorem bM_noRow_e {N : Nat} (C0 : mCx p s m args meth c cX2_noRow 3 (some .int) L A) (hRo : 0 ≤ R.frames ∧ 0 ≤ R.locals) {σ' : mS} {r : Int32} (σ : mS) (a0 : Int32) (a1 : Int32) (H : Heap) (locs : List Loc) (ls : Array Slot) (hG : mG A L s σ H locs) (hl : lv_has ls 3 [(0, .ref L.1), (1, .int a0), (2, .int a1)]) (hF : fM_noRow N σ a0 a1 = some (σ', r)) : W p l e R s m args below meth c H locs 0 0 (mZ below L A s args σ' (some (.int r))) (F0 m 0 ls []) := by
  have hx := C0.1
  have hb := C0.2.1
  unfold fM_noRow at hF
  refine lv_aload_n hx hb dX2_noRow_0 rfl (lv_at hl 0 rfl) ?_
  refine m_geta C0 hG 41 (by decide) rfl q1619 dX2_noRow_1 ?_
  refine lv_iload_n hx hb dX2_noRow_4 rfl (lv_at hl 1 rfl) ?_
  refine m_ld C0 hG 41 ⟨by decide, rfl, by decide⟩ dX2_noRow_5 hF (fun x_1 hF => ?_)
  refine lv_iconst (v := (-1)) hx hb dX2_noRow_6 (by decide) ?_
  refine lv_icmp_ne (tgt := 15) hx hb dX2_noRow_7 (by decide) (fun c_2 => ?_) (fun c_2 => ?_)
  · have hF := ifn hF c_2
    refine lv_aload_n hx hb dX2_noRow_15 rfl (lv_at hl 0 rfl) ?_
    refine m_geta C0 hG 41 (by decide) rfl q1619 dX2_noRow_16 ?_
    refine lv_iload_n hx hb dX2_noRow_19 rfl (lv_at hl 1 rfl) ?_
    refine m_ld C0 hG 41 ⟨by decide, rfl, by decide⟩ dX2_noRow_20 hF (fun x_3 hF => ?_)
    refine lv_iload_n hx hb dX2_noRow_21 rfl (lv_at hl 2 rfl) ?_
    refine lv_icmp_eq (tgt := 30) hx hb dX2_noRow_22 (by decide) (fun c_4 => ?_) (fun c_4 => ?_)
    · have hF := ifp hF c_4
      refine lv_iconst (v := 0) hx hb dX2_noRow_30 (by decide) ?_
      exact m_iret C0 hG dX2_noRow_31 hF
    · have hF := ifn hF c_4
      refine lv_bipush (v := (-12)) hx hb dX2_noRow_25 (by decide) ?_
      refine lv_goto (tgt := 31) hx hb dX2_noRow_27 (by decide) ?_
      exact m_iret C0 hG dX2_noRow_31 hF
  · have hF := ifp hF c_2
    refine lv_bipush (v := (-11)) hx hb dX2_noRow_10 (by decide) ?_
    refine lv_goto (tgt := 31) hx hb dX2_noRow_12 (by decide) ?_
    exact m_iret C0 hG dX2_noRow_31 hF
theorem mtM_noRow (l : Launch) {N : Nat} {L : mL} {σ σ' : mS} {r : Int32} {a0 : Int32} {a1 : Int32} (hF : fM_noRow N σ a0 a1 = some (σ', r)) : mMet l yX2_noRow cX2_noRow 3 (some .int) (0) (0) [.ref L.1, .int a0, .int a1] L σ (some (.int r)) σ' := by
  refine m_head (by decide) rfl ?_
  intro p e s m below meth c A C0 hG
  have hl := lv_entry ([.ref L.1, .int a0, .int a1]) (n := 3) (Nat.le_of_ble_eq_true rfl)
  rw [lg_entry_eq]
  generalize (lg_sl ([.ref L.1, .int a0, .int a1]) ++ List.replicate (3 - (lg_sl ([.ref L.1, .int a0, .int a1])).length) Slot.unset).toArray = ls at hl ⊢
  have hl : lv_has ls 3 [(0, .ref L.1), (1, .int a0), (2, .int a1)] := hl
  exact bM_noRow_e C0 ⟨Nat.le_refl _, Nat.le_refl _⟩ _ _ _ _ [] ls hG hl hF
end MWALK4
