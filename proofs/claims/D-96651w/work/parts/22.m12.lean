section MWALK12
variable {p : Program} {l : Launch} {e : Env} {R : Room} {s : State} {m : MethodId} {args : Array Value} {below : List Frame} {meth : Method} {c : Code} {A : Nat → Prop}
variable {L : mL}
def fM_back_b74 (N : Nat) : Nat → mS → Int32 → Option (mS × Int32)
  | 0, _, _ => none
  | n + 1, σ, x1 =>
    if 5 ≤ x1 then (
      chk 0 5 <| nmv (σ.2.1 28 (0 : Int32).toNatClampNeg) fun x_8 =>
      some (σ, x_8))
    else (
      chk x1 5 <| nmv (σ.2.1 33 x1.toNatClampNeg) fun x_9 =>
      chk x1 5 <| nmv (mSj σ 28 x1.toNatClampNeg x_9) fun σ_10 =>
      nmv (x1 + 1) fun x_11 =>
      (fM_back_b74 N n) σ_10 x_11)
def fM_back_b65 (N : Nat) (k12 : mS → Int32 → Option (mS × Int32)) (σ : mS) (y0 : Int32) (y1 : Int32) (x1 : Int32) : Option (mS × Int32) :=
  chk y1 8 <| nmv (mSj σ 9 y1.toNatClampNeg y0) fun σ_16 =>
  nmv (x1 + 1) fun x_17 =>
  k12 σ_16 x_17
def fM_back_b41 (N : Nat) (k12 : mS → Int32 → Option (mS × Int32)) (σ : mS) (y0 : Int32) (y1 : Int32) (x1 : Int32) : Option (mS × Int32) :=
  chk y1 8 <| nmv (mSj σ 8 y1.toNatClampNeg y0) fun σ_12 =>
  nmv (σ_12.1 30) fun x_13 =>
  if x_13 ≤ x1 then (
    fM_back_b65 N k12 σ_12 0 x1 x1)
  else (
    chk x1 8 <| nmv (σ_12.2.1 32 x1.toNatClampNeg) fun x_15 =>
    fM_back_b65 N k12 σ_12 x_15 x1 x1)
def fM_back_b12 (N : Nat) : Nat → mS → Int32 → Option (mS × Int32)
  | 0, _, _ => none
  | n + 1, σ, x1 =>
    if 8 ≤ x1 then (
      fM_back_b74 N N σ 0)
    else (
      nmv (σ.1 30) fun x_4 =>
      if x_4 ≤ x1 then (
        fM_back_b41 N (fM_back_b12 N n) σ 0 x1 x1)
      else (
        chk x1 8 <| nmv (σ.2.1 31 x1.toNatClampNeg) fun x_6 =>
        fM_back_b41 N (fM_back_b12 N n) σ x_6 x1 x1))
def fM_back (N : Nat) (σ : mS) : Option (mS × Int32) :=
  nmv (σ.1 29) fun x_1 =>
  if x_1 = 0 then (
    some (σ, (-5)))
  else (
    fM_back_b12 N N σ 0)
theorem bM_back_74 {N : Nat} (C0 : mCx p s m args meth c cX2_back 2 (some .int) L A) (hRo : 0 ≤ R.frames ∧ 0 ≤ R.locals) {σ' : mS} {r : Int32} : ∀ (n : Nat) (σ : mS) (x1 : Int32) (H : Heap) (locs : List Loc) (ls : Array Slot), mG A L s σ H locs → lv_has ls 2 [(0, .ref L.1), (1, .int x1)] → fM_back_b74 N n σ x1 = some (σ', r) → W p l e R s m args below meth c H locs 0 0 (mZ below L A s args σ' (some (.int r))) (F0 m 74 ls []) := by
  have hx := C0.1
  have hb := C0.2.1
  intro n
  induction n with
  | zero => intro σ x1 H locs ls hG hl hF; cases hF
  | succ n ih =>
    intro σ x1 H locs ls hG hl hF
    unfold fM_back_b74 at hF
    refine lv_iload_n hx hb dX2_back_74 rfl (lv_at hl 1 rfl) ?_
    refine lv_iconst (v := 5) hx hb dX2_back_75 (by decide) ?_
    refine lv_icmp_ge (tgt := 97) hx hb dX2_back_76 (by decide) (fun c_7 => ?_) (fun c_7 => ?_)
    · have hF := ifp hF c_7
      refine lv_aload_n hx hb dX2_back_97 rfl (lv_at hl 0 rfl) ?_
      refine m_geta C0 hG 28 (by decide) rfl q1606 dX2_back_98 ?_
      refine lv_iconst (v := 0) hx hb dX2_back_101 (by decide) ?_
      refine m_ld C0 hG 28 ⟨by decide, rfl, by decide⟩ dX2_back_102 hF (fun x_8 hF => ?_)
      exact m_iret C0 hG dX2_back_103 hF
    · have hF := ifn hF c_7
      refine lv_aload_n hx hb dX2_back_79 rfl (lv_at hl 0 rfl) ?_
      refine m_geta C0 hG 28 (by decide) rfl q1606 dX2_back_80 ?_
      refine lv_iload_n hx hb dX2_back_83 rfl (lv_at hl 1 rfl) ?_
      refine lv_aload_n hx hb dX2_back_84 rfl (lv_at hl 0 rfl) ?_
      refine m_geta C0 hG 33 (by decide) rfl q1611 dX2_back_85 ?_
      refine lv_iload_n hx hb dX2_back_88 rfl (lv_at hl 1 rfl) ?_
      refine m_ld C0 hG 33 ⟨by decide, rfl, by decide⟩ dX2_back_89 hF (fun x_9 hF => ?_)
      refine m_st C0 hG 28 ⟨by decide, rfl, by decide⟩ dX2_back_90 hF (fun σ_10 H locs hG hF => ?_)
      refine w_iinc hx hb dX2_back_91 hl 1 rfl (v := 1) (by decide) (by decide) hF (fun x_11 ls hl hF => ?_)
      have hl : lv_has ls 2 [(1, .int x_11), (0, .ref L.1)] := hl
      refine lv_goto (tgt := 74) hx hb dX2_back_94 (by decide) ?_
      exact ih _ _ H locs ls hG (lv_sub hl [1, 0] rfl) hF
theorem bM_back_65 {N : Nat} (C0 : mCx p s m args meth c cX2_back 2 (some .int) L A) (hRo : 0 ≤ R.frames ∧ 0 ≤ R.locals) {σ' : mS} {r : Int32} {k12 : mS → Int32 → Option (mS × Int32)} (hk12 : ∀ (σ : mS) (x1 : Int32) (H : Heap) (locs : List Loc) (ls : Array Slot), mG A L s σ H locs → lv_has ls 2 [(0, .ref L.1), (1, .int x1)] → k12 σ x1 = some (σ', r) → W p l e R s m args below meth c H locs 0 0 (mZ below L A s args σ' (some (.int r))) (F0 m 12 ls [])) (σ : mS) (y0 : Int32) (y1 : Int32) (x1 : Int32) (H : Heap) (locs : List Loc) (ls : Array Slot) (hG : mG A L s σ H locs) (hl : lv_has ls 2 [(0, .ref L.1), (1, .int x1)]) (hF : fM_back_b65 N k12 σ y0 y1 x1 = some (σ', r)) : W p l e R s m args below meth c H locs 0 0 (mZ below L A s args σ' (some (.int r))) (F0 m 65 ls [.int y0, .int y1, .ref (L.2.1 9)]) := by
  have hx := C0.1
  have hb := C0.2.1
  unfold fM_back_b65 at hF
  refine m_st C0 hG 9 ⟨by decide, rfl, by decide⟩ dX2_back_65 hF (fun σ_16 H locs hG hF => ?_)
  refine w_iinc hx hb dX2_back_66 hl 1 rfl (v := 1) (by decide) (by decide) hF (fun x_17 ls hl hF => ?_)
  have hl : lv_has ls 2 [(1, .int x_17), (0, .ref L.1)] := hl
  refine lv_goto (tgt := 12) hx hb dX2_back_69 (by decide) ?_
  exact hk12 _ _ H locs ls hG (lv_sub hl [1, 0] rfl) hF
theorem bM_back_41 {N : Nat} (C0 : mCx p s m args meth c cX2_back 2 (some .int) L A) (hRo : 0 ≤ R.frames ∧ 0 ≤ R.locals) {σ' : mS} {r : Int32} {k12 : mS → Int32 → Option (mS × Int32)} (hk12 : ∀ (σ : mS) (x1 : Int32) (H : Heap) (locs : List Loc) (ls : Array Slot), mG A L s σ H locs → lv_has ls 2 [(0, .ref L.1), (1, .int x1)] → k12 σ x1 = some (σ', r) → W p l e R s m args below meth c H locs 0 0 (mZ below L A s args σ' (some (.int r))) (F0 m 12 ls [])) (σ : mS) (y0 : Int32) (y1 : Int32) (x1 : Int32) (H : Heap) (locs : List Loc) (ls : Array Slot) (hG : mG A L s σ H locs) (hl : lv_has ls 2 [(0, .ref L.1), (1, .int x1)]) (hF : fM_back_b41 N k12 σ y0 y1 x1 = some (σ', r)) : W p l e R s m args below meth c H locs 0 0 (mZ below L A s args σ' (some (.int r))) (F0 m 41 ls [.int y0, .int y1, .ref (L.2.1 8)]) := by
  have hx := C0.1
  have hb := C0.2.1
  unfold fM_back_b41 at hF
  refine m_st C0 hG 8 ⟨by decide, rfl, by decide⟩ dX2_back_41 hF (fun σ_12 H locs hG hF => ?_)
  refine lv_aload_n hx hb dX2_back_42 rfl (lv_at hl 0 rfl) ?_
  refine m_geta C0 hG 9 (by decide) rfl q1587 dX2_back_43 ?_
  refine lv_iload_n hx hb dX2_back_46 rfl (lv_at hl 1 rfl) ?_
  refine lv_iload_n hx hb dX2_back_47 rfl (lv_at hl 1 rfl) ?_
  refine lv_aload_n hx hb dX2_back_48 rfl (lv_at hl 0 rfl) ?_
  refine m_geti C0 hG 30 (by decide) rfl q1608 dX2_back_49 hF (fun x_13 hF => ?_)
  refine lv_icmp_ge (tgt := 64) hx hb dX2_back_52 (by decide) (fun c_14 => ?_) (fun c_14 => ?_)
  · have hF := ifp hF c_14
    refine lv_iconst (v := 0) hx hb dX2_back_64 (by decide) ?_
    exact bM_back_65 C0 hRo hk12 _ _ _ _ H locs ls hG (lv_sub hl [0, 1] rfl) hF
  · have hF := ifn hF c_14
    refine lv_aload_n hx hb dX2_back_55 rfl (lv_at hl 0 rfl) ?_
    refine m_geta C0 hG 32 (by decide) rfl q1610 dX2_back_56 ?_
    refine lv_iload_n hx hb dX2_back_59 rfl (lv_at hl 1 rfl) ?_
    refine m_ld C0 hG 32 ⟨by decide, rfl, by decide⟩ dX2_back_60 hF (fun x_15 hF => ?_)
    refine lv_goto (tgt := 65) hx hb dX2_back_61 (by decide) ?_
    exact bM_back_65 C0 hRo hk12 _ _ _ _ H locs ls hG (lv_sub hl [0, 1] rfl) hF
theorem bM_back_12 {N : Nat} (C0 : mCx p s m args meth c cX2_back 2 (some .int) L A) (hRo : 0 ≤ R.frames ∧ 0 ≤ R.locals) {σ' : mS} {r : Int32} : ∀ (n : Nat) (σ : mS) (x1 : Int32) (H : Heap) (locs : List Loc) (ls : Array Slot), mG A L s σ H locs → lv_has ls 2 [(0, .ref L.1), (1, .int x1)] → fM_back_b12 N n σ x1 = some (σ', r) → W p l e R s m args below meth c H locs 0 0 (mZ below L A s args σ' (some (.int r))) (F0 m 12 ls []) := by
  have hx := C0.1
  have hb := C0.2.1
  intro n
  induction n with
  | zero => intro σ x1 H locs ls hG hl hF; cases hF
  | succ n ih =>
    intro σ x1 H locs ls hG hl hF
    unfold fM_back_b12 at hF
    refine lv_iload_n hx hb dX2_back_12 rfl (lv_at hl 1 rfl) ?_
    refine lv_bipush (v := 8) hx hb dX2_back_13 (by decide) ?_
    refine lv_icmp_ge (tgt := 72) hx hb dX2_back_15 (by decide) (fun c_3 => ?_) (fun c_3 => ?_)
    · have hF := ifp hF c_3
      refine lv_iconst (v := 0) hx hb dX2_back_72 (by decide) ?_
      refine lv_istore_n (lv' := [(1, .int 0), (0, .ref L.1)]) hx hb dX2_back_73 rfl hl (by decide) rfl (fun ls hl => ?_)
      exact bM_back_74 C0 hRo N _ _ H locs ls hG (lv_sub hl [1, 0] rfl) hF
    · have hF := ifn hF c_3
      refine lv_aload_n hx hb dX2_back_18 rfl (lv_at hl 0 rfl) ?_
      refine m_geta C0 hG 8 (by decide) rfl q1586 dX2_back_19 ?_
      refine lv_iload_n hx hb dX2_back_22 rfl (lv_at hl 1 rfl) ?_
      refine lv_iload_n hx hb dX2_back_23 rfl (lv_at hl 1 rfl) ?_
      refine lv_aload_n hx hb dX2_back_24 rfl (lv_at hl 0 rfl) ?_
      refine m_geti C0 hG 30 (by decide) rfl q1608 dX2_back_25 hF (fun x_4 hF => ?_)
      refine lv_icmp_ge (tgt := 40) hx hb dX2_back_28 (by decide) (fun c_5 => ?_) (fun c_5 => ?_)
      · have hF := ifp hF c_5
        refine lv_iconst (v := 0) hx hb dX2_back_40 (by decide) ?_
        exact bM_back_41 C0 hRo ih _ _ _ _ H locs ls hG (lv_sub hl [0, 1] rfl) hF
      · have hF := ifn hF c_5
        refine lv_aload_n hx hb dX2_back_31 rfl (lv_at hl 0 rfl) ?_
        refine m_geta C0 hG 31 (by decide) rfl q1609 dX2_back_32 ?_
        refine lv_iload_n hx hb dX2_back_35 rfl (lv_at hl 1 rfl) ?_
        refine m_ld C0 hG 31 ⟨by decide, rfl, by decide⟩ dX2_back_36 hF (fun x_6 hF => ?_)
        refine lv_goto (tgt := 41) hx hb dX2_back_37 (by decide) ?_
        exact bM_back_41 C0 hRo ih _ _ _ _ H locs ls hG (lv_sub hl [0, 1] rfl) hF
theorem bM_back_e {N : Nat} (C0 : mCx p s m args meth c cX2_back 2 (some .int) L A) (hRo : 0 ≤ R.frames ∧ 0 ≤ R.locals) {σ' : mS} {r : Int32} (σ : mS) (H : Heap) (locs : List Loc) (ls : Array Slot) (hG : mG A L s σ H locs) (hl : lv_has ls 2 [(0, .ref L.1)]) (hF : fM_back N σ = some (σ', r)) : W p l e R s m args below meth c H locs 0 0 (mZ below L A s args σ' (some (.int r))) (F0 m 0 ls []) := by
  have hx := C0.1
  have hb := C0.2.1
  unfold fM_back at hF
  refine lv_aload_n hx hb dX2_back_0 rfl (lv_at hl 0 rfl) ?_
  refine m_geti C0 hG 29 (by decide) rfl q1607 dX2_back_1 hF (fun x_1 hF => ?_)
  refine lv_if_ne (tgt := 10) hx hb dX2_back_4 (by decide) (fun c_2 => ?_) (fun c_2 => ?_)
  · have hF := ifn hF c_2
    refine lv_iconst (v := 0) hx hb dX2_back_10 (by decide) ?_
    refine lv_istore_n (lv' := [(1, .int 0), (0, .ref L.1)]) hx hb dX2_back_11 rfl hl (by decide) rfl (fun ls hl => ?_)
    exact bM_back_12 C0 hRo N _ _ H locs ls hG (lv_sub hl [1, 0] rfl) hF
  · have hF := ifp hF c_2
    refine lv_bipush (v := (-5)) hx hb dX2_back_7 (by decide) ?_
    exact m_iret C0 hG dX2_back_9 hF
theorem mtM_back (l : Launch) {N : Nat} {L : mL} {σ σ' : mS} {r : Int32} (hF : fM_back N σ = some (σ', r)) : mMet l yX2_back cX2_back 2 (some .int) (0) (0) [.ref L.1] L σ (some (.int r)) σ' := by
  refine m_head (by decide) rfl ?_
  intro p e s m below meth c A C0 hG
  have hl := lv_entry ([.ref L.1]) (n := 2) (Nat.le_of_ble_eq_true rfl)
  rw [lg_entry_eq]
  generalize (lg_sl ([.ref L.1]) ++ List.replicate (2 - (lg_sl ([.ref L.1])).length) Slot.unset).toArray = ls at hl ⊢
  have hl : lv_has ls 2 [(0, .ref L.1)] := hl
  exact bM_back_e C0 ⟨Nat.le_refl _, Nat.le_refl _⟩ _ _ [] ls hG hl hF
def fM_above (N : Nat) (σ : mS) (a0 : Int32) : Option (mS × Int32) :=
  if a0 = 3 then (
    some (σ, 2))
  else (
  if a0 = 4 then (
    some (σ, 1))
  else (
  if a0 = 5 then (
    some (σ, 3))
  else (
  if a0 = 6 then (
    some (σ, 0))
  else (
  if a0 = 7 then (
    some (σ, 4))
  else (
    some (σ, 0))))))
theorem bM_above_e {N : Nat} (C0 : mCx p s m args meth c cX2_above 1 (some .int) L A) (hRo : 0 ≤ R.frames ∧ 0 ≤ R.locals) {σ' : mS} {r : Int32} (σ : mS) (a0 : Int32) (H : Heap) (locs : List Loc) (ls : Array Slot) (hG : mG A L s σ H locs) (hl : lv_has ls 1 [(0, .int a0)]) (hF : fM_above N σ a0 = some (σ', r)) : W p l e R s m args below meth c H locs 0 0 (mZ below L A s args σ' (some (.int r))) (F0 m 0 ls []) := by
  have hx := C0.1
  have hb := C0.2.1
  unfold fM_above at hF
  refine lv_iload_n hx hb dX2_above_0 rfl (lv_at hl 0 rfl) ?_
  by_cases c_1 : a0 = 3
  · have hF := ifp hF c_1
    refine lv_tableIn (off := 35) (tgt := 36) hx hb dX2_above_1 (by rw [c_1]; decide) (by rw [c_1]; decide) (by rw [c_1]; rfl) (by decide) ?_
    refine lv_iconst (v := 2) hx hb dX2_above_36 (by decide) ?_
    exact m_iret C0 hG dX2_above_37 hF
  have hF := ifn hF c_1
  by_cases c_2 : a0 = 4
  · have hF := ifp hF c_2
    refine lv_tableIn (off := 37) (tgt := 38) hx hb dX2_above_1 (by rw [c_2]; decide) (by rw [c_2]; decide) (by rw [c_2]; rfl) (by decide) ?_
    refine lv_iconst (v := 1) hx hb dX2_above_38 (by decide) ?_
    exact m_iret C0 hG dX2_above_39 hF
  have hF := ifn hF c_2
  by_cases c_3 : a0 = 5
  · have hF := ifp hF c_3
    refine lv_tableIn (off := 39) (tgt := 40) hx hb dX2_above_1 (by rw [c_3]; decide) (by rw [c_3]; decide) (by rw [c_3]; rfl) (by decide) ?_
    refine lv_iconst (v := 3) hx hb dX2_above_40 (by decide) ?_
    exact m_iret C0 hG dX2_above_41 hF
  have hF := ifn hF c_3
  by_cases c_4 : a0 = 6
  · have hF := ifp hF c_4
    refine lv_tableIn (off := 43) (tgt := 44) hx hb dX2_above_1 (by rw [c_4]; decide) (by rw [c_4]; decide) (by rw [c_4]; rfl) (by decide) ?_
    refine lv_iconst (v := 0) hx hb dX2_above_44 (by decide) ?_
    exact m_iret C0 hG dX2_above_45 hF
  have hF := ifn hF c_4
  by_cases c_5 : a0 = 7
  · have hF := ifp hF c_5
    refine lv_tableIn (off := 41) (tgt := 42) hx hb dX2_above_1 (by rw [c_5]; decide) (by rw [c_5]; decide) (by rw [c_5]; rfl) (by decide) ?_
    refine lv_iconst (v := 4) hx hb dX2_above_42 (by decide) ?_
    exact m_iret C0 hG dX2_above_43 hF
  have hF := ifn hF c_5
  refine lv_tableOut (tgt := 44) hx hb dX2_above_1 (sw_out (fun q_ => by
      have zc_1 := lv_neT c_1 (show ((3 : Int32)).toInt = 3 from by decide)
      have zc_2 := lv_neT c_2 (show ((4 : Int32)).toInt = 4 from by decide)
      have zc_3 := lv_neT c_3 (show ((5 : Int32)).toInt = 5 from by decide)
      have zc_4 := lv_neT c_4 (show ((6 : Int32)).toInt = 6 from by decide)
      have zc_5 := lv_neT c_5 (show ((7 : Int32)).toInt = 7 from by decide)
      omega)) (by decide) ?_
  refine lv_iconst (v := 0) hx hb dX2_above_44 (by decide) ?_
  exact m_iret C0 hG dX2_above_45 hF
theorem mtM_above (l : Launch) {N : Nat} {L : mL} {σ σ' : mS} {r : Int32} {a0 : Int32} (hF : fM_above N σ a0 = some (σ', r)) : mMet l yX2_above cX2_above 1 (some .int) (0) (0) [.int a0] L σ (some (.int r)) σ' := by
  refine m_head (by decide) rfl ?_
  intro p e s m below meth c A C0 hG
  have hl := lv_entry ([.int a0]) (n := 1) (Nat.le_of_ble_eq_true rfl)
  rw [lg_entry_eq]
  generalize (lg_sl ([.int a0]) ++ List.replicate (1 - (lg_sl ([.int a0])).length) Slot.unset).toArray = ls at hl ⊢
  have hl : lv_has ls 1 [(0, .int a0)] := hl
  exact bM_above_e C0 ⟨Nat.le_refl _, Nat.le_refl _⟩ _ _ _ [] ls hG hl hF
def fM_ran_b19 (N : Nat) (σ : mS) : Option (mS × Unit) :=
  nmv (σ.1 39) fun x_5 =>
  nmv (mSi σ 39 (x_5 + 1)) fun σ_6 =>
  some (σ_6, ())
def fM_ran (N : Nat) (σ : mS) (a0 : Int32) : Option (mS × Unit) :=
  nmv (σ.1 39) fun x_1 =>
  if 24 ≤ x_1 then (
    fM_ran_b19 N σ)
  else (
    nmv (σ.1 39) fun x_3 =>
    chk x_3 24 <| nmv (mSj σ 40 x_3.toNatClampNeg a0) fun σ_4 =>
    fM_ran_b19 N σ_4)
theorem bM_ran_19 {N : Nat} (C0 : mCx p s m args meth c cX2_ran 2 none L A) (hRo : 0 ≤ R.frames ∧ 0 ≤ R.locals) {σ' : mS} {r : Unit} (σ : mS) (H : Heap) (locs : List Loc) (ls : Array Slot) (hG : mG A L s σ H locs) (hl : lv_has ls 2 [(0, .ref L.1)]) (hF : fM_ran_b19 N σ = some (σ', r)) : W p l e R s m args below meth c H locs 0 0 (mZ below L A s args σ' none) (F0 m 19 ls []) := by
  have hx := C0.1
  have hb := C0.2.1
  unfold fM_ran_b19 at hF
  refine lv_aload_n hx hb dX2_ran_19 rfl (lv_at hl 0 rfl) ?_
  refine lv_dup hx hb dX2_ran_20 rfl ?_
  refine m_geti C0 hG 39 (by decide) rfl q1617 dX2_ran_21 hF (fun x_5 hF => ?_)
  refine lv_iconst (v := 1) hx hb dX2_ran_24 (by decide) ?_
  refine lv_iadd hx hb dX2_ran_25 ?_
  refine m_puti C0 hG 39 (by decide) rfl q1617 dX2_ran_26 (Or.inl ⟨by decide, by decide⟩) hF (fun σ_6 H locs hG hF => ?_)
  exact m_vret C0 hG dX2_ran_29 hF
theorem bM_ran_e {N : Nat} (C0 : mCx p s m args meth c cX2_ran 2 none L A) (hRo : 0 ≤ R.frames ∧ 0 ≤ R.locals) {σ' : mS} {r : Unit} (σ : mS) (a0 : Int32) (H : Heap) (locs : List Loc) (ls : Array Slot) (hG : mG A L s σ H locs) (hl : lv_has ls 2 [(0, .ref L.1), (1, .int a0)]) (hF : fM_ran N σ a0 = some (σ', r)) : W p l e R s m args below meth c H locs 0 0 (mZ below L A s args σ' none) (F0 m 0 ls []) := by
  have hx := C0.1
  have hb := C0.2.1
  unfold fM_ran at hF
  refine lv_aload_n hx hb dX2_ran_0 rfl (lv_at hl 0 rfl) ?_
  refine m_geti C0 hG 39 (by decide) rfl q1617 dX2_ran_1 hF (fun x_1 hF => ?_)
  refine lv_bipush (v := 24) hx hb dX2_ran_4 (by decide) ?_
  refine lv_icmp_ge (tgt := 19) hx hb dX2_ran_6 (by decide) (fun c_2 => ?_) (fun c_2 => ?_)
  · have hF := ifp hF c_2
    exact bM_ran_19 C0 hRo _  H locs ls hG (lv_sub hl [0] rfl) hF
  · have hF := ifn hF c_2
    refine lv_aload_n hx hb dX2_ran_9 rfl (lv_at hl 0 rfl) ?_
    refine m_geta C0 hG 40 (by decide) rfl q1618 dX2_ran_10 ?_
    refine lv_aload_n hx hb dX2_ran_13 rfl (lv_at hl 0 rfl) ?_
    refine m_geti C0 hG 39 (by decide) rfl q1617 dX2_ran_14 hF (fun x_3 hF => ?_)
    refine lv_iload_n hx hb dX2_ran_17 rfl (lv_at hl 1 rfl) ?_
    refine m_st C0 hG 40 ⟨by decide, rfl, by decide⟩ dX2_ran_18 hF (fun σ_4 H locs hG hF => ?_)
    exact bM_ran_19 C0 hRo _  H locs ls hG (lv_sub hl [0] rfl) hF
theorem mtM_ran (l : Launch) {N : Nat} {L : mL} {σ σ' : mS} {r : Unit} {a0 : Int32} (hF : fM_ran N σ a0 = some (σ', r)) : mMet l yX2_ran cX2_ran 2 none (0) (0) [.ref L.1, .int a0] L σ none σ' := by
  refine m_head (by decide) rfl ?_
  intro p e s m below meth c A C0 hG
  have hl := lv_entry ([.ref L.1, .int a0]) (n := 2) (Nat.le_of_ble_eq_true rfl)
  rw [lg_entry_eq]
  generalize (lg_sl ([.ref L.1, .int a0]) ++ List.replicate (2 - (lg_sl ([.ref L.1, .int a0])).length) Slot.unset).toArray = ls at hl ⊢
  have hl : lv_has ls 2 [(0, .ref L.1), (1, .int a0)] := hl
  exact bM_ran_e C0 ⟨Nat.le_refl _, Nat.le_refl _⟩ _ _ _ [] ls hG hl hF
def fM_countsBy_e (N : Nat) (rc : mS → Int32 → Int32 → Int32 → Option (mS × Int32)) (σ : mS) (a0 : Int32) (a1 : Int32) (a2 : Int32) : Option (mS × Int32) :=
  if a1 = 0 then (
    obi (fM_ran N σ 1) fun σ_2 r_3 =>
    some (σ_2, a2 + a0))
  else (
  if a1 = 1 then (
    obi (fM_ran N σ 20) fun σ_6 r_7 =>
    obi (rc σ_6 a0 0 a2) fun σ_9 r_10 =>
    some (σ_9, r_10 + 3))
  else (
  if a1 = 6 then (
    obi (fM_ran N σ 70) fun σ_13 r_14 =>
    obi (rc σ_13 a0 0 a2) fun σ_16 r_17 =>
    some (σ_16, r_17 * 2))
  else (
    obi (fM_above N σ a1) fun σ_19 r_20 =>
    obi (rc σ_19 a0 r_20 a2) fun σ_22 r_23 =>
    some (σ_22, r_23))))
def fM_countsBy (N : Nat) : Nat → mS → Int32 → Int32 → Int32 → Option (mS × Int32)
  | 0, _, _, _, _ => none
  | d + 1, σ, a0, a1, a2 => fM_countsBy_e N (fM_countsBy N d) σ a0 a1 a2
theorem bM_countsBy_e {N : Nat} {rc : mS → Int32 → Int32 → Int32 → Option (mS × Int32)} {fr lo : Nat} (C0 : mCx p s m args meth c cX2_countsBy 4 (some .int) L A) (hRo : fr + 1 ≤ R.frames ∧ lo + 23 ≤ R.locals) (hrc : ∀ {σ σ1 : mS} {a0 a1 a2 : Int32} {r : Int32}, rc σ a0 a1 a2 = some (σ1, r) → mMet l yX2_countsBy cX2_countsBy 4 (some .int) (fr) (lo) [.ref L.1, .int a0, .int a1, .int a2] L σ (some (.int r)) σ1) {σ' : mS} {r : Int32} (σ : mS) (a0 : Int32) (a1 : Int32) (a2 : Int32) (H : Heap) (locs : List Loc) (ls : Array Slot) (hG : mG A L s σ H locs) (hl : lv_has ls 4 [(0, .ref L.1), (1, .int a0), (2, .int a1), (3, .int a2)]) (hF : fM_countsBy_e N rc σ a0 a1 a2 = some (σ', r)) : W p l e R s m args below meth c H locs 0 0 (mZ below L A s args σ' (some (.int r))) (F0 m 0 ls []) := by
  have hx := C0.1
  have hb := C0.2.1
  unfold fM_countsBy_e at hF
  refine lv_iload_n hx hb dX2_countsBy_0 rfl (lv_at hl 2 rfl) ?_
  by_cases c_1 : a1 = 0
  · have hF := ifp hF c_1
    refine lv_lookup (off := 35) (tgt := 36) hx hb dX2_countsBy_1 (by decide) (by rw [c_1]; decide) (by decide) ?_
    refine lv_aload_n hx hb dX2_countsBy_36 rfl (lv_at hl 0 rfl) ?_
    refine lv_iconst (v := 1) hx hb dX2_countsBy_37 (by decide) ?_
    obtain ⟨σ_2, r_3, e_4, hF⟩ := obi_of hF
    refine m_cVv (As := [.int 1]) (rest := []) C0 hG (mtM_ran l e_4) (lw_V q2078 q2080 qs94 q102 q2081) yd_X2_ran ⟨by omega, by omega⟩ rfl rfl hl.1 (Nat.le_of_ble_eq_true rfl) dX2_countsBy_38 (fun H locs hG => ?_)
    refine lv_iload_n hx hb dX2_countsBy_41 rfl (lv_at hl 3 rfl) ?_
    refine lv_iload_n hx hb dX2_countsBy_42 rfl (lv_at hl 1 rfl) ?_
    refine lv_iadd hx hb dX2_countsBy_43 ?_
    exact m_iret C0 hG dX2_countsBy_44 hF
  have hF := ifn hF c_1
  by_cases c_5 : a1 = 1
  · have hF := ifp hF c_5
    refine lv_lookup (off := 44) (tgt := 45) hx hb dX2_countsBy_1 (by decide) (by rw [c_5]; decide) (by decide) ?_
    refine lv_aload_n hx hb dX2_countsBy_45 rfl (lv_at hl 0 rfl) ?_
    refine lv_bipush (v := 20) hx hb dX2_countsBy_46 (by decide) ?_
    obtain ⟨σ_6, r_7, e_8, hF⟩ := obi_of hF
    refine m_cVv (As := [.int 20]) (rest := []) C0 hG (mtM_ran l e_8) (lw_V q2078 q2080 qs94 q102 q2081) yd_X2_ran ⟨by omega, by omega⟩ rfl rfl hl.1 (Nat.le_of_ble_eq_true rfl) dX2_countsBy_48 (fun H locs hG => ?_)
    refine lv_aload_n hx hb dX2_countsBy_51 rfl (lv_at hl 0 rfl) ?_
    refine lv_iload_n hx hb dX2_countsBy_52 rfl (lv_at hl 1 rfl) ?_
    refine lv_iconst (v := 0) hx hb dX2_countsBy_53 (by decide) ?_
    refine lv_iload_n hx hb dX2_countsBy_54 rfl (lv_at hl 3 rfl) ?_
    obtain ⟨σ_9, r_10, e_11, hF⟩ := obi_of hF
    refine m_cVi (As := [.int a0, .int 0, .int a2]) (rest := []) C0 hG (hrc e_11) (lw_V q2074 q2076 qs93 q102 q2077) yd_X2_countsBy ⟨by omega, by omega⟩ rfl rfl hl.1 (Nat.le_of_ble_eq_true rfl) dX2_countsBy_55 (fun H locs hG => ?_)
    refine lv_iconst (v := 3) hx hb dX2_countsBy_58 (by decide) ?_
    refine lv_iadd hx hb dX2_countsBy_59 ?_
    exact m_iret C0 hG dX2_countsBy_60 hF
  have hF := ifn hF c_5
  by_cases c_12 : a1 = 6
  · have hF := ifp hF c_12
    refine lv_lookup (off := 60) (tgt := 61) hx hb dX2_countsBy_1 (by decide) (by rw [c_12]; decide) (by decide) ?_
    refine lv_aload_n hx hb dX2_countsBy_61 rfl (lv_at hl 0 rfl) ?_
    refine lv_bipush (v := 70) hx hb dX2_countsBy_62 (by decide) ?_
    obtain ⟨σ_13, r_14, e_15, hF⟩ := obi_of hF
    refine m_cVv (As := [.int 70]) (rest := []) C0 hG (mtM_ran l e_15) (lw_V q2078 q2080 qs94 q102 q2081) yd_X2_ran ⟨by omega, by omega⟩ rfl rfl hl.1 (Nat.le_of_ble_eq_true rfl) dX2_countsBy_64 (fun H locs hG => ?_)
    refine lv_aload_n hx hb dX2_countsBy_67 rfl (lv_at hl 0 rfl) ?_
    refine lv_iload_n hx hb dX2_countsBy_68 rfl (lv_at hl 1 rfl) ?_
    refine lv_iconst (v := 0) hx hb dX2_countsBy_69 (by decide) ?_
    refine lv_iload_n hx hb dX2_countsBy_70 rfl (lv_at hl 3 rfl) ?_
    obtain ⟨σ_16, r_17, e_18, hF⟩ := obi_of hF
    refine m_cVi (As := [.int a0, .int 0, .int a2]) (rest := []) C0 hG (hrc e_18) (lw_V q2074 q2076 qs93 q102 q2077) yd_X2_countsBy ⟨by omega, by omega⟩ rfl rfl hl.1 (Nat.le_of_ble_eq_true rfl) dX2_countsBy_71 (fun H locs hG => ?_)
    refine lv_iconst (v := 2) hx hb dX2_countsBy_74 (by decide) ?_
    refine lv_imul hx hb dX2_countsBy_75 ?_
    exact m_iret C0 hG dX2_countsBy_76 hF
  have hF := ifn hF c_12
  refine lv_lookup (off := 76) (tgt := 77) hx hb dX2_countsBy_1 (by decide) ((lv_osw c_1 (show ((0 : Int32)).toInt = 0 from by decide)).trans <| (lv_osw c_5 (show ((1 : Int32)).toInt = 1 from by decide)).trans <| (lv_osw c_12 (show ((6 : Int32)).toInt = 6 from by decide)).trans <| rfl) (by decide) ?_
  refine lv_aload_n hx hb dX2_countsBy_77 rfl (lv_at hl 0 rfl) ?_
  refine lv_iload_n hx hb dX2_countsBy_78 rfl (lv_at hl 1 rfl) ?_
  refine lv_iload_n hx hb dX2_countsBy_79 rfl (lv_at hl 2 rfl) ?_
  obtain ⟨σ_19, r_20, e_21, hF⟩ := obi_of hF
  refine m_cSi (As := [.int a1]) (rest := [.int a0, .ref L.1]) C0 hG (mtM_above l e_21) (lw_S q2082 q2083 q102 q2084) yd_X2_above ⟨by omega, by omega⟩ rfl rfl hl.1 (Nat.le_of_ble_eq_true rfl) dX2_countsBy_80 (fun H locs hG => ?_)
  refine lv_iload_n hx hb dX2_countsBy_83 rfl (lv_at hl 3 rfl) ?_
  obtain ⟨σ_22, r_23, e_24, hF⟩ := obi_of hF
  refine m_cVi (As := [.int a0, .int r_20, .int a2]) (rest := []) C0 hG (hrc e_24) (lw_V q2074 q2076 qs93 q102 q2077) yd_X2_countsBy ⟨by omega, by omega⟩ rfl rfl hl.1 (Nat.le_of_ble_eq_true rfl) dX2_countsBy_84 (fun H locs hG => ?_)
  exact m_iret C0 hG dX2_countsBy_87 hF
theorem mtM_countsBy_e (l : Launch) {N : Nat} {L : mL} {rc : mS → Int32 → Int32 → Int32 → Option (mS × Int32)} {fr lo : Nat} (hrc : ∀ {σ σ1 : mS} {a0 a1 a2 : Int32} {r : Int32}, rc σ a0 a1 a2 = some (σ1, r) → mMet l yX2_countsBy cX2_countsBy 4 (some .int) (fr) (lo) [.ref L.1, .int a0, .int a1, .int a2] L σ (some (.int r)) σ1) {σ σ' : mS} {r : Int32} {a0 : Int32} {a1 : Int32} {a2 : Int32} (hF : fM_countsBy_e N rc σ a0 a1 a2 = some (σ', r)) : mMet l yX2_countsBy cX2_countsBy 4 (some .int) (fr + 1) (lo + 23) [.ref L.1, .int a0, .int a1, .int a2] L σ (some (.int r)) σ' := by
  refine m_head (by decide) rfl ?_
  intro p e s m below meth c A C0 hG
  have hl := lv_entry ([.ref L.1, .int a0, .int a1, .int a2]) (n := 4) (Nat.le_of_ble_eq_true rfl)
  rw [lg_entry_eq]
  generalize (lg_sl ([.ref L.1, .int a0, .int a1, .int a2]) ++ List.replicate (4 - (lg_sl ([.ref L.1, .int a0, .int a1, .int a2])).length) Slot.unset).toArray = ls at hl ⊢
  have hl : lv_has ls 4 [(0, .ref L.1), (1, .int a0), (2, .int a1), (3, .int a2)] := hl
  exact bM_countsBy_e C0 ⟨Nat.le_refl _, Nat.le_refl _⟩ hrc _ _ _ _ _ [] ls hG hl hF
theorem mtM_countsBy (l : Launch) {N : Nat} {L : mL} : ∀ (d : Nat) {σ σ' : mS} { a0 a1 a2 r : Int32}, fM_countsBy N d σ a0 a1 a2 = some (σ', r) → mMet l yX2_countsBy cX2_countsBy 4 (some .int) (1 * d) (23 * d) [.ref L.1, .int a0, .int a1, .int a2] L σ (some (.int r)) σ' := by
  intro d
  induction d with
  | zero => intro σ σ' a0 a1 a2 r hF; cases hF
  | succ d ih =>
    intro σ σ' a0 a1 a2 r hF
    unfold fM_countsBy at hF
    simp only [Nat.mul_succ]
    exact mtM_countsBy_e l ih hF
def fM_sinksBy_e (N : Nat) (rc : mS → Int32 → Int32 → Int32 → Option (mS × Int32)) (σ : mS) (a0 : Int32) (a1 : Int32) (a2 : Int32) : Option (mS × Int32) :=
  if a1 = 0 then (
    obi (fM_ran N σ 11) fun σ_2 r_3 =>
    some (σ_2, a2 ^^^ a0))
  else (
  if a1 = 1 then (
    obi (fM_above N σ a1) fun σ_6 r_7 =>
    obi (rc σ_6 a0 r_7 a2) fun σ_9 r_10 =>
    some (σ_9, r_10))
  else (
  if a1 = 2 then (
    obi (fM_above N σ a1) fun σ_13 r_14 =>
    obi (rc σ_13 a0 r_14 a2) fun σ_16 r_17 =>
    some (σ_16, r_17))
  else (
  if a1 = 3 then (
    obi (fM_ran N σ 40) fun σ_20 r_21 =>
    obi (rc σ_20 a0 2 a2) fun σ_23 r_24 =>
    some (σ_23, r_24 * 3))
  else (
  if a1 = 4 then (
    obi (fM_ran N σ 50) fun σ_27 r_28 =>
    obi (rc σ_27 a0 1 a2) fun σ_30 r_31 =>
    chk a0 50 <| nmv (σ_30.2.1 38 a0.toNatClampNeg) fun x_33 =>
    obi (fM_countsBy N 8 σ_30 a0 x_33 2) fun σ_34 r_35 =>
    some (σ_34, r_31 - r_35))
  else (
    obi (fM_above N σ a1) fun σ_37 r_38 =>
    obi (rc σ_37 a0 r_38 a2) fun σ_40 r_41 =>
    some (σ_40, r_41))))))
def fM_sinksBy (N : Nat) : Nat → mS → Int32 → Int32 → Int32 → Option (mS × Int32)
  | 0, _, _, _, _ => none
  | d + 1, σ, a0, a1, a2 => fM_sinksBy_e N (fM_sinksBy N d) σ a0 a1 a2
theorem bM_sinksBy_e {N : Nat} {rc : mS → Int32 → Int32 → Int32 → Option (mS × Int32)} {fr lo : Nat} (C0 : mCx p s m args meth c cX2_sinksBy 5 (some .int) L A) (hRo : fr + 9 ≤ R.frames ∧ lo + 207 ≤ R.locals) (hrc : ∀ {σ σ1 : mS} {a0 a1 a2 : Int32} {r : Int32}, rc σ a0 a1 a2 = some (σ1, r) → mMet l yX2_sinksBy cX2_sinksBy 5 (some .int) (fr) (lo) [.ref L.1, .int a0, .int a1, .int a2] L σ (some (.int r)) σ1) {σ' : mS} {r : Int32} (σ : mS) (a0 : Int32) (a1 : Int32) (a2 : Int32) (H : Heap) (locs : List Loc) (ls : Array Slot) (hG : mG A L s σ H locs) (hl : lv_has ls 5 [(0, .ref L.1), (1, .int a0), (2, .int a1), (3, .int a2)]) (hF : fM_sinksBy_e N rc σ a0 a1 a2 = some (σ', r)) : W p l e R s m args below meth c H locs 0 0 (mZ below L A s args σ' (some (.int r))) (F0 m 0 ls []) := by
  have hx := C0.1
  have hb := C0.2.1
  unfold fM_sinksBy_e at hF
  refine lv_iload_n hx hb dX2_sinksBy_0 rfl (lv_at hl 2 rfl) ?_
  by_cases c_1 : a1 = 0
  · have hF := ifp hF c_1
    refine lv_tableIn (off := 35) (tgt := 36) hx hb dX2_sinksBy_1 (by rw [c_1]; decide) (by rw [c_1]; decide) (by rw [c_1]; rfl) (by decide) ?_
    refine lv_aload_n hx hb dX2_sinksBy_36 rfl (lv_at hl 0 rfl) ?_
    refine lv_bipush (v := 11) hx hb dX2_sinksBy_37 (by decide) ?_
    obtain ⟨σ_2, r_3, e_4, hF⟩ := obi_of hF
    refine m_cVv (As := [.int 11]) (rest := []) C0 hG (mtM_ran l e_4) (lw_V q2078 q2080 qs94 q102 q2081) yd_X2_ran ⟨by omega, by omega⟩ rfl rfl hl.1 (Nat.le_of_ble_eq_true rfl) dX2_sinksBy_39 (fun H locs hG => ?_)
    refine lv_iload_n hx hb dX2_sinksBy_42 rfl (lv_at hl 3 rfl) ?_
    refine lv_iload_n hx hb dX2_sinksBy_43 rfl (lv_at hl 1 rfl) ?_
    refine lv_ixor hx hb dX2_sinksBy_44 ?_
    exact m_iret C0 hG dX2_sinksBy_45 hF
  have hF := ifn hF c_1
  by_cases c_5 : a1 = 1
  · have hF := ifp hF c_5
    refine lv_tableIn (off := 92) (tgt := 93) hx hb dX2_sinksBy_1 (by rw [c_5]; decide) (by rw [c_5]; decide) (by rw [c_5]; rfl) (by decide) ?_
    refine lv_aload_n hx hb dX2_sinksBy_93 rfl (lv_at hl 0 rfl) ?_
    refine lv_iload_n hx hb dX2_sinksBy_94 rfl (lv_at hl 1 rfl) ?_
    refine lv_iload_n hx hb dX2_sinksBy_95 rfl (lv_at hl 2 rfl) ?_
    obtain ⟨σ_6, r_7, e_8, hF⟩ := obi_of hF
    refine m_cSi (As := [.int a1]) (rest := [.int a0, .ref L.1]) C0 hG (mtM_above l e_8) (lw_S q2082 q2083 q102 q2084) yd_X2_above ⟨by omega, by omega⟩ rfl rfl hl.1 (Nat.le_of_ble_eq_true rfl) dX2_sinksBy_96 (fun H locs hG => ?_)
    refine lv_iload_n hx hb dX2_sinksBy_99 rfl (lv_at hl 3 rfl) ?_
    obtain ⟨σ_9, r_10, e_11, hF⟩ := obi_of hF
    refine m_cVi (As := [.int a0, .int r_7, .int a2]) (rest := []) C0 hG (hrc e_11) (lw_V q2089 q2091 qs96 q102 q2092) yd_X2_sinksBy ⟨by omega, by omega⟩ rfl rfl hl.1 (Nat.le_of_ble_eq_true rfl) dX2_sinksBy_100 (fun H locs hG => ?_)
    exact m_iret C0 hG dX2_sinksBy_103 hF
  have hF := ifn hF c_5
  by_cases c_12 : a1 = 2
  · have hF := ifp hF c_12
    refine lv_tableIn (off := 92) (tgt := 93) hx hb dX2_sinksBy_1 (by rw [c_12]; decide) (by rw [c_12]; decide) (by rw [c_12]; rfl) (by decide) ?_
    refine lv_aload_n hx hb dX2_sinksBy_93 rfl (lv_at hl 0 rfl) ?_
    refine lv_iload_n hx hb dX2_sinksBy_94 rfl (lv_at hl 1 rfl) ?_
    refine lv_iload_n hx hb dX2_sinksBy_95 rfl (lv_at hl 2 rfl) ?_
    obtain ⟨σ_13, r_14, e_15, hF⟩ := obi_of hF
    refine m_cSi (As := [.int a1]) (rest := [.int a0, .ref L.1]) C0 hG (mtM_above l e_15) (lw_S q2082 q2083 q102 q2084) yd_X2_above ⟨by omega, by omega⟩ rfl rfl hl.1 (Nat.le_of_ble_eq_true rfl) dX2_sinksBy_96 (fun H locs hG => ?_)
    refine lv_iload_n hx hb dX2_sinksBy_99 rfl (lv_at hl 3 rfl) ?_
    obtain ⟨σ_16, r_17, e_18, hF⟩ := obi_of hF
    refine m_cVi (As := [.int a0, .int r_14, .int a2]) (rest := []) C0 hG (hrc e_18) (lw_V q2089 q2091 qs96 q102 q2092) yd_X2_sinksBy ⟨by omega, by omega⟩ rfl rfl hl.1 (Nat.le_of_ble_eq_true rfl) dX2_sinksBy_100 (fun H locs hG => ?_)
    exact m_iret C0 hG dX2_sinksBy_103 hF
  have hF := ifn hF c_12
  by_cases c_19 : a1 = 3
  · have hF := ifp hF c_19
    refine lv_tableIn (off := 45) (tgt := 46) hx hb dX2_sinksBy_1 (by rw [c_19]; decide) (by rw [c_19]; decide) (by rw [c_19]; rfl) (by decide) ?_
    refine lv_aload_n hx hb dX2_sinksBy_46 rfl (lv_at hl 0 rfl) ?_
    refine lv_bipush (v := 40) hx hb dX2_sinksBy_47 (by decide) ?_
    obtain ⟨σ_20, r_21, e_22, hF⟩ := obi_of hF
    refine m_cVv (As := [.int 40]) (rest := []) C0 hG (mtM_ran l e_22) (lw_V q2078 q2080 qs94 q102 q2081) yd_X2_ran ⟨by omega, by omega⟩ rfl rfl hl.1 (Nat.le_of_ble_eq_true rfl) dX2_sinksBy_49 (fun H locs hG => ?_)
    refine lv_aload_n hx hb dX2_sinksBy_52 rfl (lv_at hl 0 rfl) ?_
    refine lv_iload_n hx hb dX2_sinksBy_53 rfl (lv_at hl 1 rfl) ?_
    refine lv_iconst (v := 2) hx hb dX2_sinksBy_54 (by decide) ?_
    refine lv_iload_n hx hb dX2_sinksBy_55 rfl (lv_at hl 3 rfl) ?_
    obtain ⟨σ_23, r_24, e_25, hF⟩ := obi_of hF
    refine m_cVi (As := [.int a0, .int 2, .int a2]) (rest := []) C0 hG (hrc e_25) (lw_V q2089 q2091 qs96 q102 q2092) yd_X2_sinksBy ⟨by omega, by omega⟩ rfl rfl hl.1 (Nat.le_of_ble_eq_true rfl) dX2_sinksBy_56 (fun H locs hG => ?_)
    refine lv_iconst (v := 3) hx hb dX2_sinksBy_59 (by decide) ?_
    refine lv_imul hx hb dX2_sinksBy_60 ?_
    exact m_iret C0 hG dX2_sinksBy_61 hF
  have hF := ifn hF c_19
  by_cases c_26 : a1 = 4
  · have hF := ifp hF c_26
    refine lv_tableIn (off := 61) (tgt := 62) hx hb dX2_sinksBy_1 (by rw [c_26]; decide) (by rw [c_26]; decide) (by rw [c_26]; rfl) (by decide) ?_
    refine lv_aload_n hx hb dX2_sinksBy_62 rfl (lv_at hl 0 rfl) ?_
    refine lv_bipush (v := 50) hx hb dX2_sinksBy_63 (by decide) ?_
    obtain ⟨σ_27, r_28, e_29, hF⟩ := obi_of hF
    refine m_cVv (As := [.int 50]) (rest := []) C0 hG (mtM_ran l e_29) (lw_V q2078 q2080 qs94 q102 q2081) yd_X2_ran ⟨by omega, by omega⟩ rfl rfl hl.1 (Nat.le_of_ble_eq_true rfl) dX2_sinksBy_65 (fun H locs hG => ?_)
    refine lv_aload_n hx hb dX2_sinksBy_68 rfl (lv_at hl 0 rfl) ?_
    refine lv_iload_n hx hb dX2_sinksBy_69 rfl (lv_at hl 1 rfl) ?_
    refine lv_iconst (v := 1) hx hb dX2_sinksBy_70 (by decide) ?_
    refine lv_iload_n hx hb dX2_sinksBy_71 rfl (lv_at hl 3 rfl) ?_
    obtain ⟨σ_30, r_31, e_32, hF⟩ := obi_of hF
    refine m_cVi (As := [.int a0, .int 1, .int a2]) (rest := []) C0 hG (hrc e_32) (lw_V q2089 q2091 qs96 q102 q2092) yd_X2_sinksBy ⟨by omega, by omega⟩ rfl rfl hl.1 (Nat.le_of_ble_eq_true rfl) dX2_sinksBy_72 (fun H locs hG => ?_)
    refine lv_istore (lv' := [(4, .int r_31), (0, .ref L.1), (1, .int a0), (2, .int a1), (3, .int a2)]) hx hb dX2_sinksBy_75 hl (by decide) rfl (fun ls hl => ?_)
    refine lv_iload hx hb dX2_sinksBy_77 (lv_at hl 0 rfl) ?_
    refine lv_aload_n hx hb dX2_sinksBy_79 rfl (lv_at hl 1 rfl) ?_
    refine lv_iload_n hx hb dX2_sinksBy_80 rfl (lv_at hl 2 rfl) ?_
    refine lv_aload_n hx hb dX2_sinksBy_81 rfl (lv_at hl 1 rfl) ?_
    refine m_geta C0 hG 38 (by decide) rfl q1616 dX2_sinksBy_82 ?_
    refine lv_iload_n hx hb dX2_sinksBy_85 rfl (lv_at hl 2 rfl) ?_
    refine m_ld C0 hG 38 ⟨by decide, rfl, by decide⟩ dX2_sinksBy_86 hF (fun x_33 hF => ?_)
    refine lv_iconst (v := 2) hx hb dX2_sinksBy_87 (by decide) ?_
    obtain ⟨σ_34, r_35, e_36, hF⟩ := obi_of hF
    refine m_cVi (As := [.int a0, .int x_33, .int 2]) (rest := [.int r_31]) C0 hG (mtM_countsBy l 8 e_36) (lw_V q2074 q2076 qs93 q102 q2077) yd_X2_countsBy ⟨by omega, by omega⟩ rfl rfl hl.1 (Nat.le_of_ble_eq_true rfl) dX2_sinksBy_88 (fun H locs hG => ?_)
    refine lv_isub hx hb dX2_sinksBy_91 ?_
    exact m_iret C0 hG dX2_sinksBy_92 hF
  have hF := ifn hF c_26
  refine lv_tableOut (tgt := 93) hx hb dX2_sinksBy_1 (sw_out (fun q_ => by
      have zc_1 := lv_neT c_1 (show ((0 : Int32)).toInt = 0 from by decide)
      have zc_5 := lv_neT c_5 (show ((1 : Int32)).toInt = 1 from by decide)
      have zc_12 := lv_neT c_12 (show ((2 : Int32)).toInt = 2 from by decide)
      have zc_19 := lv_neT c_19 (show ((3 : Int32)).toInt = 3 from by decide)
      have zc_26 := lv_neT c_26 (show ((4 : Int32)).toInt = 4 from by decide)
      omega)) (by decide) ?_
  refine lv_aload_n hx hb dX2_sinksBy_93 rfl (lv_at hl 0 rfl) ?_
  refine lv_iload_n hx hb dX2_sinksBy_94 rfl (lv_at hl 1 rfl) ?_
  refine lv_iload_n hx hb dX2_sinksBy_95 rfl (lv_at hl 2 rfl) ?_
  obtain ⟨σ_37, r_38, e_39, hF⟩ := obi_of hF
  refine m_cSi (As := [.int a1]) (rest := [.int a0, .ref L.1]) C0 hG (mtM_above l e_39) (lw_S q2082 q2083 q102 q2084) yd_X2_above ⟨by omega, by omega⟩ rfl rfl hl.1 (Nat.le_of_ble_eq_true rfl) dX2_sinksBy_96 (fun H locs hG => ?_)
  refine lv_iload_n hx hb dX2_sinksBy_99 rfl (lv_at hl 3 rfl) ?_
  obtain ⟨σ_40, r_41, e_42, hF⟩ := obi_of hF
  refine m_cVi (As := [.int a0, .int r_38, .int a2]) (rest := []) C0 hG (hrc e_42) (lw_V q2089 q2091 qs96 q102 q2092) yd_X2_sinksBy ⟨by omega, by omega⟩ rfl rfl hl.1 (Nat.le_of_ble_eq_true rfl) dX2_sinksBy_100 (fun H locs hG => ?_)
  exact m_iret C0 hG dX2_sinksBy_103 hF
theorem mtM_sinksBy_e (l : Launch) {N : Nat} {L : mL} {rc : mS → Int32 → Int32 → Int32 → Option (mS × Int32)} {fr lo : Nat} (hrc : ∀ {σ σ1 : mS} {a0 a1 a2 : Int32} {r : Int32}, rc σ a0 a1 a2 = some (σ1, r) → mMet l yX2_sinksBy cX2_sinksBy 5 (some .int) (fr) (lo) [.ref L.1, .int a0, .int a1, .int a2] L σ (some (.int r)) σ1) {σ σ' : mS} {r : Int32} {a0 : Int32} {a1 : Int32} {a2 : Int32} (hF : fM_sinksBy_e N rc σ a0 a1 a2 = some (σ', r)) : mMet l yX2_sinksBy cX2_sinksBy 5 (some .int) (fr + 9) (lo + 207) [.ref L.1, .int a0, .int a1, .int a2] L σ (some (.int r)) σ' := by
  refine m_head (by decide) rfl ?_
  intro p e s m below meth c A C0 hG
  have hl := lv_entry ([.ref L.1, .int a0, .int a1, .int a2]) (n := 5) (Nat.le_of_ble_eq_true rfl)
  rw [lg_entry_eq]
  generalize (lg_sl ([.ref L.1, .int a0, .int a1, .int a2]) ++ List.replicate (5 - (lg_sl ([.ref L.1, .int a0, .int a1, .int a2])).length) Slot.unset).toArray = ls at hl ⊢
  have hl : lv_has ls 5 [(0, .ref L.1), (1, .int a0), (2, .int a1), (3, .int a2)] := hl
  exact bM_sinksBy_e C0 ⟨Nat.le_refl _, Nat.le_refl _⟩ hrc _ _ _ _ _ [] ls hG hl hF
theorem mtM_sinksBy (l : Launch) {N : Nat} {L : mL} : ∀ (d : Nat) {σ σ' : mS} { a0 a1 a2 r : Int32}, fM_sinksBy N d σ a0 a1 a2 = some (σ', r) → mMet l yX2_sinksBy cX2_sinksBy 5 (some .int) (9 * d) (207 * d) [.ref L.1, .int a0, .int a1, .int a2] L σ (some (.int r)) σ' := by
  intro d
  induction d with
  | zero => intro σ σ' a0 a1 a2 r hF; cases hF
  | succ d ih =>
    intro σ σ' a0 a1 a2 r hF
    unfold fM_sinksBy at hF
    simp only [Nat.mul_succ]
    exact mtM_sinksBy_e l ih hF
def fM_turnsBy_e (N : Nat) (rc : mS → Int32 → Int32 → Int32 → Option (mS × Int32)) (σ : mS) (a0 : Int32) (a1 : Int32) (a2 : Int32) : Option (mS × Int32) :=
  if a1 = 0 then (
    obi (fM_ran N σ 10) fun σ_2 r_3 =>
    chk a0 50 <| nmv (σ_2.2.1 38 a0.toNatClampNeg) fun x_5 =>
    obi (fM_countsBy N 8 σ_2 a0 x_5 a2) fun σ_6 r_7 =>
    some (σ_6, r_7 * 2))
  else (
  if a1 = 1 then (
    obi (fM_above N σ a1) fun σ_10 r_11 =>
    obi (rc σ_10 a0 r_11 a2) fun σ_13 r_14 =>
    some (σ_13, r_14))
  else (
  if a1 = 2 then (
    obi (fM_ran N σ 30) fun σ_17 r_18 =>
    obi (rc σ_17 a0 0 a2) fun σ_20 r_21 =>
    some (σ_20, -r_21))
  else (
  if a1 = 3 then (
    obi (fM_ran N σ 41) fun σ_24 r_25 =>
    obi (rc σ_24 a0 2 (a2 + 1)) fun σ_27 r_28 =>
    some (σ_27, r_28))
  else (
  if a1 = 4 then (
    obi (fM_above N σ a1) fun σ_31 r_32 =>
    obi (rc σ_31 a0 r_32 a2) fun σ_34 r_35 =>
    some (σ_34, r_35))
  else (
  if a1 = 5 then (
    obi (fM_above N σ a1) fun σ_38 r_39 =>
    obi (rc σ_38 a0 r_39 a2) fun σ_41 r_42 =>
    some (σ_41, r_42))
  else (
  if a1 = 6 then (
    obi (fM_above N σ a1) fun σ_45 r_46 =>
    obi (rc σ_45 a0 r_46 a2) fun σ_48 r_49 =>
    some (σ_48, r_49))
  else (
  if a1 = 7 then (
    obi (fM_ran N σ 80) fun σ_52 r_53 =>
    obi (rc σ_52 a0 4 a2) fun σ_55 r_56 =>
    chk a0 50 <| nmv (σ_55.2.1 38 a0.toNatClampNeg) fun x_58 =>
    obi (fM_sinksBy N 8 σ_55 a0 x_58 2) fun σ_59 r_60 =>
    some (σ_59, r_56 + r_60))
  else (
    obi (fM_above N σ a1) fun σ_62 r_63 =>
    obi (rc σ_62 a0 r_63 a2) fun σ_65 r_66 =>
    some (σ_65, r_66)))))))))
def fM_turnsBy (N : Nat) : Nat → mS → Int32 → Int32 → Int32 → Option (mS × Int32)
  | 0, _, _, _, _ => none
  | d + 1, σ, a0, a1, a2 => fM_turnsBy_e N (fM_turnsBy N d) σ a0 a1 a2
theorem bM_turnsBy_e {N : Nat} {rc : mS → Int32 → Int32 → Int32 → Option (mS × Int32)} {fr lo : Nat} (C0 : mCx p s m args meth c cX2_turnsBy 5 (some .int) L A) (hRo : fr + 73 ≤ R.frames ∧ lo + 1680 ≤ R.locals) (hrc : ∀ {σ σ1 : mS} {a0 a1 a2 : Int32} {r : Int32}, rc σ a0 a1 a2 = some (σ1, r) → mMet l yX2_turnsBy cX2_turnsBy 5 (some .int) (fr) (lo) [.ref L.1, .int a0, .int a1, .int a2] L σ (some (.int r)) σ1) {σ' : mS} {r : Int32} (σ : mS) (a0 : Int32) (a1 : Int32) (a2 : Int32) (H : Heap) (locs : List Loc) (ls : Array Slot) (hG : mG A L s σ H locs) (hl : lv_has ls 5 [(0, .ref L.1), (1, .int a0), (2, .int a1), (3, .int a2)]) (hF : fM_turnsBy_e N rc σ a0 a1 a2 = some (σ', r)) : W p l e R s m args below meth c H locs 0 0 (mZ below L A s args σ' (some (.int r))) (F0 m 0 ls []) := by
  have hx := C0.1
  have hb := C0.2.1
  unfold fM_turnsBy_e at hF
  refine lv_iload_n hx hb dX2_turnsBy_0 rfl (lv_at hl 2 rfl) ?_
  by_cases c_1 : a1 = 0
  · have hF := ifp hF c_1
    refine lv_tableIn (off := 47) (tgt := 48) hx hb dX2_turnsBy_1 (by rw [c_1]; decide) (by rw [c_1]; decide) (by rw [c_1]; rfl) (by decide) ?_
    refine lv_aload_n hx hb dX2_turnsBy_48 rfl (lv_at hl 0 rfl) ?_
    refine lv_bipush (v := 10) hx hb dX2_turnsBy_49 (by decide) ?_
    obtain ⟨σ_2, r_3, e_4, hF⟩ := obi_of hF
    refine m_cVv (As := [.int 10]) (rest := []) C0 hG (mtM_ran l e_4) (lw_V q2078 q2080 qs94 q102 q2081) yd_X2_ran ⟨by omega, by omega⟩ rfl rfl hl.1 (Nat.le_of_ble_eq_true rfl) dX2_turnsBy_51 (fun H locs hG => ?_)
    refine lv_aload_n hx hb dX2_turnsBy_54 rfl (lv_at hl 0 rfl) ?_
    refine lv_iload_n hx hb dX2_turnsBy_55 rfl (lv_at hl 1 rfl) ?_
    refine lv_aload_n hx hb dX2_turnsBy_56 rfl (lv_at hl 0 rfl) ?_
    refine m_geta C0 hG 38 (by decide) rfl q1616 dX2_turnsBy_57 ?_
    refine lv_iload_n hx hb dX2_turnsBy_60 rfl (lv_at hl 1 rfl) ?_
    refine m_ld C0 hG 38 ⟨by decide, rfl, by decide⟩ dX2_turnsBy_61 hF (fun x_5 hF => ?_)
    refine lv_iload_n hx hb dX2_turnsBy_62 rfl (lv_at hl 3 rfl) ?_
    obtain ⟨σ_6, r_7, e_8, hF⟩ := obi_of hF
    refine m_cVi (As := [.int a0, .int x_5, .int a2]) (rest := []) C0 hG (mtM_countsBy l 8 e_8) (lw_V q2074 q2076 qs93 q102 q2077) yd_X2_countsBy ⟨by omega, by omega⟩ rfl rfl hl.1 (Nat.le_of_ble_eq_true rfl) dX2_turnsBy_63 (fun H locs hG => ?_)
    refine lv_iconst (v := 2) hx hb dX2_turnsBy_66 (by decide) ?_
    refine lv_imul hx hb dX2_turnsBy_67 ?_
    exact m_iret C0 hG dX2_turnsBy_68 hF
  have hF := ifn hF c_1
  by_cases c_9 : a1 = 1
  · have hF := ifp hF c_9
    refine lv_tableIn (off := 130) (tgt := 131) hx hb dX2_turnsBy_1 (by rw [c_9]; decide) (by rw [c_9]; decide) (by rw [c_9]; rfl) (by decide) ?_
    refine lv_aload_n hx hb dX2_turnsBy_131 rfl (lv_at hl 0 rfl) ?_
    refine lv_iload_n hx hb dX2_turnsBy_132 rfl (lv_at hl 1 rfl) ?_
    refine lv_iload_n hx hb dX2_turnsBy_133 rfl (lv_at hl 2 rfl) ?_
    obtain ⟨σ_10, r_11, e_12, hF⟩ := obi_of hF
    refine m_cSi (As := [.int a1]) (rest := [.int a0, .ref L.1]) C0 hG (mtM_above l e_12) (lw_S q2082 q2083 q102 q2084) yd_X2_above ⟨by omega, by omega⟩ rfl rfl hl.1 (Nat.le_of_ble_eq_true rfl) dX2_turnsBy_134 (fun H locs hG => ?_)
    refine lv_iload_n hx hb dX2_turnsBy_137 rfl (lv_at hl 3 rfl) ?_
    obtain ⟨σ_13, r_14, e_15, hF⟩ := obi_of hF
    refine m_cVi (As := [.int a0, .int r_11, .int a2]) (rest := []) C0 hG (hrc e_15) (lw_V q2085 q2087 qs95 q102 q2088) yd_X2_turnsBy ⟨by omega, by omega⟩ rfl rfl hl.1 (Nat.le_of_ble_eq_true rfl) dX2_turnsBy_138 (fun H locs hG => ?_)
    exact m_iret C0 hG dX2_turnsBy_141 hF
  have hF := ifn hF c_9
  by_cases c_16 : a1 = 2
  · have hF := ifp hF c_16
    refine lv_tableIn (off := 68) (tgt := 69) hx hb dX2_turnsBy_1 (by rw [c_16]; decide) (by rw [c_16]; decide) (by rw [c_16]; rfl) (by decide) ?_
    refine lv_aload_n hx hb dX2_turnsBy_69 rfl (lv_at hl 0 rfl) ?_
    refine lv_bipush (v := 30) hx hb dX2_turnsBy_70 (by decide) ?_
    obtain ⟨σ_17, r_18, e_19, hF⟩ := obi_of hF
    refine m_cVv (As := [.int 30]) (rest := []) C0 hG (mtM_ran l e_19) (lw_V q2078 q2080 qs94 q102 q2081) yd_X2_ran ⟨by omega, by omega⟩ rfl rfl hl.1 (Nat.le_of_ble_eq_true rfl) dX2_turnsBy_72 (fun H locs hG => ?_)
    refine lv_aload_n hx hb dX2_turnsBy_75 rfl (lv_at hl 0 rfl) ?_
    refine lv_iload_n hx hb dX2_turnsBy_76 rfl (lv_at hl 1 rfl) ?_
    refine lv_iconst (v := 0) hx hb dX2_turnsBy_77 (by decide) ?_
    refine lv_iload_n hx hb dX2_turnsBy_78 rfl (lv_at hl 3 rfl) ?_
    obtain ⟨σ_20, r_21, e_22, hF⟩ := obi_of hF
    refine m_cVi (As := [.int a0, .int 0, .int a2]) (rest := []) C0 hG (hrc e_22) (lw_V q2085 q2087 qs95 q102 q2088) yd_X2_turnsBy ⟨by omega, by omega⟩ rfl rfl hl.1 (Nat.le_of_ble_eq_true rfl) dX2_turnsBy_79 (fun H locs hG => ?_)
    refine lv_ineg hx hb dX2_turnsBy_82 ?_
    exact m_iret C0 hG dX2_turnsBy_83 hF
  have hF := ifn hF c_16
  by_cases c_23 : a1 = 3
  · have hF := ifp hF c_23
    refine lv_tableIn (off := 83) (tgt := 84) hx hb dX2_turnsBy_1 (by rw [c_23]; decide) (by rw [c_23]; decide) (by rw [c_23]; rfl) (by decide) ?_
    refine lv_aload_n hx hb dX2_turnsBy_84 rfl (lv_at hl 0 rfl) ?_
    refine lv_bipush (v := 41) hx hb dX2_turnsBy_85 (by decide) ?_
    obtain ⟨σ_24, r_25, e_26, hF⟩ := obi_of hF
    refine m_cVv (As := [.int 41]) (rest := []) C0 hG (mtM_ran l e_26) (lw_V q2078 q2080 qs94 q102 q2081) yd_X2_ran ⟨by omega, by omega⟩ rfl rfl hl.1 (Nat.le_of_ble_eq_true rfl) dX2_turnsBy_87 (fun H locs hG => ?_)
    refine lv_aload_n hx hb dX2_turnsBy_90 rfl (lv_at hl 0 rfl) ?_
    refine lv_iload_n hx hb dX2_turnsBy_91 rfl (lv_at hl 1 rfl) ?_
    refine lv_iconst (v := 2) hx hb dX2_turnsBy_92 (by decide) ?_
    refine lv_iload_n hx hb dX2_turnsBy_93 rfl (lv_at hl 3 rfl) ?_
    refine lv_iconst (v := 1) hx hb dX2_turnsBy_94 (by decide) ?_
    refine lv_iadd hx hb dX2_turnsBy_95 ?_
    obtain ⟨σ_27, r_28, e_29, hF⟩ := obi_of hF
    refine m_cVi (As := [.int a0, .int 2, .int (a2 + 1)]) (rest := []) C0 hG (hrc e_29) (lw_V q2085 q2087 qs95 q102 q2088) yd_X2_turnsBy ⟨by omega, by omega⟩ rfl rfl hl.1 (Nat.le_of_ble_eq_true rfl) dX2_turnsBy_96 (fun H locs hG => ?_)
    exact m_iret C0 hG dX2_turnsBy_99 hF
  have hF := ifn hF c_23
  by_cases c_30 : a1 = 4
  · have hF := ifp hF c_30
    refine lv_tableIn (off := 130) (tgt := 131) hx hb dX2_turnsBy_1 (by rw [c_30]; decide) (by rw [c_30]; decide) (by rw [c_30]; rfl) (by decide) ?_
    refine lv_aload_n hx hb dX2_turnsBy_131 rfl (lv_at hl 0 rfl) ?_
    refine lv_iload_n hx hb dX2_turnsBy_132 rfl (lv_at hl 1 rfl) ?_
    refine lv_iload_n hx hb dX2_turnsBy_133 rfl (lv_at hl 2 rfl) ?_
    obtain ⟨σ_31, r_32, e_33, hF⟩ := obi_of hF
    refine m_cSi (As := [.int a1]) (rest := [.int a0, .ref L.1]) C0 hG (mtM_above l e_33) (lw_S q2082 q2083 q102 q2084) yd_X2_above ⟨by omega, by omega⟩ rfl rfl hl.1 (Nat.le_of_ble_eq_true rfl) dX2_turnsBy_134 (fun H locs hG => ?_)
    refine lv_iload_n hx hb dX2_turnsBy_137 rfl (lv_at hl 3 rfl) ?_
    obtain ⟨σ_34, r_35, e_36, hF⟩ := obi_of hF
    refine m_cVi (As := [.int a0, .int r_32, .int a2]) (rest := []) C0 hG (hrc e_36) (lw_V q2085 q2087 qs95 q102 q2088) yd_X2_turnsBy ⟨by omega, by omega⟩ rfl rfl hl.1 (Nat.le_of_ble_eq_true rfl) dX2_turnsBy_138 (fun H locs hG => ?_)
    exact m_iret C0 hG dX2_turnsBy_141 hF
  have hF := ifn hF c_30
  by_cases c_37 : a1 = 5
  · have hF := ifp hF c_37
    refine lv_tableIn (off := 130) (tgt := 131) hx hb dX2_turnsBy_1 (by rw [c_37]; decide) (by rw [c_37]; decide) (by rw [c_37]; rfl) (by decide) ?_
    refine lv_aload_n hx hb dX2_turnsBy_131 rfl (lv_at hl 0 rfl) ?_
    refine lv_iload_n hx hb dX2_turnsBy_132 rfl (lv_at hl 1 rfl) ?_
    refine lv_iload_n hx hb dX2_turnsBy_133 rfl (lv_at hl 2 rfl) ?_
    obtain ⟨σ_38, r_39, e_40, hF⟩ := obi_of hF
    refine m_cSi (As := [.int a1]) (rest := [.int a0, .ref L.1]) C0 hG (mtM_above l e_40) (lw_S q2082 q2083 q102 q2084) yd_X2_above ⟨by omega, by omega⟩ rfl rfl hl.1 (Nat.le_of_ble_eq_true rfl) dX2_turnsBy_134 (fun H locs hG => ?_)
    refine lv_iload_n hx hb dX2_turnsBy_137 rfl (lv_at hl 3 rfl) ?_
    obtain ⟨σ_41, r_42, e_43, hF⟩ := obi_of hF
    refine m_cVi (As := [.int a0, .int r_39, .int a2]) (rest := []) C0 hG (hrc e_43) (lw_V q2085 q2087 qs95 q102 q2088) yd_X2_turnsBy ⟨by omega, by omega⟩ rfl rfl hl.1 (Nat.le_of_ble_eq_true rfl) dX2_turnsBy_138 (fun H locs hG => ?_)
    exact m_iret C0 hG dX2_turnsBy_141 hF
  have hF := ifn hF c_37
  by_cases c_44 : a1 = 6
  · have hF := ifp hF c_44
    refine lv_tableIn (off := 130) (tgt := 131) hx hb dX2_turnsBy_1 (by rw [c_44]; decide) (by rw [c_44]; decide) (by rw [c_44]; rfl) (by decide) ?_
    refine lv_aload_n hx hb dX2_turnsBy_131 rfl (lv_at hl 0 rfl) ?_
    refine lv_iload_n hx hb dX2_turnsBy_132 rfl (lv_at hl 1 rfl) ?_
    refine lv_iload_n hx hb dX2_turnsBy_133 rfl (lv_at hl 2 rfl) ?_
    obtain ⟨σ_45, r_46, e_47, hF⟩ := obi_of hF
    refine m_cSi (As := [.int a1]) (rest := [.int a0, .ref L.1]) C0 hG (mtM_above l e_47) (lw_S q2082 q2083 q102 q2084) yd_X2_above ⟨by omega, by omega⟩ rfl rfl hl.1 (Nat.le_of_ble_eq_true rfl) dX2_turnsBy_134 (fun H locs hG => ?_)
    refine lv_iload_n hx hb dX2_turnsBy_137 rfl (lv_at hl 3 rfl) ?_
    obtain ⟨σ_48, r_49, e_50, hF⟩ := obi_of hF
    refine m_cVi (As := [.int a0, .int r_46, .int a2]) (rest := []) C0 hG (hrc e_50) (lw_V q2085 q2087 qs95 q102 q2088) yd_X2_turnsBy ⟨by omega, by omega⟩ rfl rfl hl.1 (Nat.le_of_ble_eq_true rfl) dX2_turnsBy_138 (fun H locs hG => ?_)
    exact m_iret C0 hG dX2_turnsBy_141 hF
  have hF := ifn hF c_44
  by_cases c_51 : a1 = 7
  · have hF := ifp hF c_51
    refine lv_tableIn (off := 99) (tgt := 100) hx hb dX2_turnsBy_1 (by rw [c_51]; decide) (by rw [c_51]; decide) (by rw [c_51]; rfl) (by decide) ?_
    refine lv_aload_n hx hb dX2_turnsBy_100 rfl (lv_at hl 0 rfl) ?_
    refine lv_bipush (v := 80) hx hb dX2_turnsBy_101 (by decide) ?_
    obtain ⟨σ_52, r_53, e_54, hF⟩ := obi_of hF
    refine m_cVv (As := [.int 80]) (rest := []) C0 hG (mtM_ran l e_54) (lw_V q2078 q2080 qs94 q102 q2081) yd_X2_ran ⟨by omega, by omega⟩ rfl rfl hl.1 (Nat.le_of_ble_eq_true rfl) dX2_turnsBy_103 (fun H locs hG => ?_)
    refine lv_aload_n hx hb dX2_turnsBy_106 rfl (lv_at hl 0 rfl) ?_
    refine lv_iload_n hx hb dX2_turnsBy_107 rfl (lv_at hl 1 rfl) ?_
    refine lv_iconst (v := 4) hx hb dX2_turnsBy_108 (by decide) ?_
    refine lv_iload_n hx hb dX2_turnsBy_109 rfl (lv_at hl 3 rfl) ?_
    obtain ⟨σ_55, r_56, e_57, hF⟩ := obi_of hF
    refine m_cVi (As := [.int a0, .int 4, .int a2]) (rest := []) C0 hG (hrc e_57) (lw_V q2085 q2087 qs95 q102 q2088) yd_X2_turnsBy ⟨by omega, by omega⟩ rfl rfl hl.1 (Nat.le_of_ble_eq_true rfl) dX2_turnsBy_110 (fun H locs hG => ?_)
    refine lv_istore (lv' := [(4, .int r_56), (0, .ref L.1), (1, .int a0), (2, .int a1), (3, .int a2)]) hx hb dX2_turnsBy_113 hl (by decide) rfl (fun ls hl => ?_)
    refine lv_iload hx hb dX2_turnsBy_115 (lv_at hl 0 rfl) ?_
    refine lv_aload_n hx hb dX2_turnsBy_117 rfl (lv_at hl 1 rfl) ?_
    refine lv_iload_n hx hb dX2_turnsBy_118 rfl (lv_at hl 2 rfl) ?_
    refine lv_aload_n hx hb dX2_turnsBy_119 rfl (lv_at hl 1 rfl) ?_
    refine m_geta C0 hG 38 (by decide) rfl q1616 dX2_turnsBy_120 ?_
    refine lv_iload_n hx hb dX2_turnsBy_123 rfl (lv_at hl 2 rfl) ?_
    refine m_ld C0 hG 38 ⟨by decide, rfl, by decide⟩ dX2_turnsBy_124 hF (fun x_58 hF => ?_)
    refine lv_iconst (v := 2) hx hb dX2_turnsBy_125 (by decide) ?_
    obtain ⟨σ_59, r_60, e_61, hF⟩ := obi_of hF
    refine m_cVi (As := [.int a0, .int x_58, .int 2]) (rest := [.int r_56]) C0 hG (mtM_sinksBy l 8 e_61) (lw_V q2089 q2091 qs96 q102 q2092) yd_X2_sinksBy ⟨by omega, by omega⟩ rfl rfl hl.1 (Nat.le_of_ble_eq_true rfl) dX2_turnsBy_126 (fun H locs hG => ?_)
    refine lv_iadd hx hb dX2_turnsBy_129 ?_
    exact m_iret C0 hG dX2_turnsBy_130 hF
  have hF := ifn hF c_51
  refine lv_tableOut (tgt := 131) hx hb dX2_turnsBy_1 (sw_out (fun q_ => by
      have zc_1 := lv_neT c_1 (show ((0 : Int32)).toInt = 0 from by decide)
      have zc_9 := lv_neT c_9 (show ((1 : Int32)).toInt = 1 from by decide)
      have zc_16 := lv_neT c_16 (show ((2 : Int32)).toInt = 2 from by decide)
      have zc_23 := lv_neT c_23 (show ((3 : Int32)).toInt = 3 from by decide)
      have zc_30 := lv_neT c_30 (show ((4 : Int32)).toInt = 4 from by decide)
      have zc_37 := lv_neT c_37 (show ((5 : Int32)).toInt = 5 from by decide)
      have zc_44 := lv_neT c_44 (show ((6 : Int32)).toInt = 6 from by decide)
      have zc_51 := lv_neT c_51 (show ((7 : Int32)).toInt = 7 from by decide)
      omega)) (by decide) ?_
  refine lv_aload_n hx hb dX2_turnsBy_131 rfl (lv_at hl 0 rfl) ?_
  refine lv_iload_n hx hb dX2_turnsBy_132 rfl (lv_at hl 1 rfl) ?_
  refine lv_iload_n hx hb dX2_turnsBy_133 rfl (lv_at hl 2 rfl) ?_
  obtain ⟨σ_62, r_63, e_64, hF⟩ := obi_of hF
  refine m_cSi (As := [.int a1]) (rest := [.int a0, .ref L.1]) C0 hG (mtM_above l e_64) (lw_S q2082 q2083 q102 q2084) yd_X2_above ⟨by omega, by omega⟩ rfl rfl hl.1 (Nat.le_of_ble_eq_true rfl) dX2_turnsBy_134 (fun H locs hG => ?_)
  refine lv_iload_n hx hb dX2_turnsBy_137 rfl (lv_at hl 3 rfl) ?_
  obtain ⟨σ_65, r_66, e_67, hF⟩ := obi_of hF
  refine m_cVi (As := [.int a0, .int r_63, .int a2]) (rest := []) C0 hG (hrc e_67) (lw_V q2085 q2087 qs95 q102 q2088) yd_X2_turnsBy ⟨by omega, by omega⟩ rfl rfl hl.1 (Nat.le_of_ble_eq_true rfl) dX2_turnsBy_138 (fun H locs hG => ?_)
  exact m_iret C0 hG dX2_turnsBy_141 hF
theorem mtM_turnsBy_e (l : Launch) {N : Nat} {L : mL} {rc : mS → Int32 → Int32 → Int32 → Option (mS × Int32)} {fr lo : Nat} (hrc : ∀ {σ σ1 : mS} {a0 a1 a2 : Int32} {r : Int32}, rc σ a0 a1 a2 = some (σ1, r) → mMet l yX2_turnsBy cX2_turnsBy 5 (some .int) (fr) (lo) [.ref L.1, .int a0, .int a1, .int a2] L σ (some (.int r)) σ1) {σ σ' : mS} {r : Int32} {a0 : Int32} {a1 : Int32} {a2 : Int32} (hF : fM_turnsBy_e N rc σ a0 a1 a2 = some (σ', r)) : mMet l yX2_turnsBy cX2_turnsBy 5 (some .int) (fr + 73) (lo + 1680) [.ref L.1, .int a0, .int a1, .int a2] L σ (some (.int r)) σ' := by
  refine m_head (by decide) rfl ?_
  intro p e s m below meth c A C0 hG
  have hl := lv_entry ([.ref L.1, .int a0, .int a1, .int a2]) (n := 5) (Nat.le_of_ble_eq_true rfl)
  rw [lg_entry_eq]
  generalize (lg_sl ([.ref L.1, .int a0, .int a1, .int a2]) ++ List.replicate (5 - (lg_sl ([.ref L.1, .int a0, .int a1, .int a2])).length) Slot.unset).toArray = ls at hl ⊢
  have hl : lv_has ls 5 [(0, .ref L.1), (1, .int a0), (2, .int a1), (3, .int a2)] := hl
  exact bM_turnsBy_e C0 ⟨Nat.le_refl _, Nat.le_refl _⟩ hrc _ _ _ _ _ [] ls hG hl hF
theorem mtM_turnsBy (l : Launch) {N : Nat} {L : mL} : ∀ (d : Nat) {σ σ' : mS} { a0 a1 a2 r : Int32}, fM_turnsBy N d σ a0 a1 a2 = some (σ', r) → mMet l yX2_turnsBy cX2_turnsBy 5 (some .int) (73 * d) (1680 * d) [.ref L.1, .int a0, .int a1, .int a2] L σ (some (.int r)) σ' := by
  intro d
  induction d with
  | zero => intro σ σ' a0 a1 a2 r hF; cases hF
  | succ d ih =>
    intro σ σ' a0 a1 a2 r hF
    unfold fM_turnsBy at hF
    simp only [Nat.mul_succ]
    exact mtM_turnsBy_e l ih hF
end MWALK12
