section MWALK7
variable {p : Program} {l : Launch} {e : Env} {R : Room} {s : State} {m : MethodId} {args : Array Value} {below : List Frame} {meth : Method} {c : Code} {A : Nat → Prop}
variable {L : mL}
def fM_goneAt_b57 (N : Nat) (k7 : mS → Int32 → Int32 → Int32 → Int32 → Option (mS × Int32)) (σ : mS) (x1 : Int32) (x2 : Int32) (x3 : Int32) (x4 : Int32) : Option (mS × Int32) :=
  nmv (x4 + 1) fun x_13 =>
  k7 σ x1 x2 x3 x_13
def fM_goneAt_b7 (N : Nat) : Nat → mS → Int32 → Int32 → Int32 → Int32 → Option (mS × Int32)
  | 0, _, _, _, _, _ => none
  | n + 1, σ, x1, x2, x3, x4 =>
    nmv (σ.1 44) fun x_1 =>
    if x_1 ≤ x4 then (
      some (σ, (-2)))
    else (
      chk x4 60 <| nmv (σ.2.1 45 x4.toNatClampNeg) fun x_3 =>
      obi (fM_isUnder N σ x_3) fun σ_4 r_5 =>
      if r_5 = 0 then (
        nmv (x3 + 1) fun x_8 =>
        chk 2 3 <| nmv (σ_4.2.1 7 (2 : Int32).toNatClampNeg) fun x_9 =>
        if x_8 < x_9 then (
          fM_goneAt_b57 N (fM_goneAt_b7 N n) σ_4 x1 x2 x_8 x4)
        else (
          fM_goneAt_b57 N (fM_goneAt_b7 N n) σ_4 x1 0 x_8 x4))
      else (
        nmv (x2 + 1) fun x_11 =>
        if x_11 ≤ x1 then (
          fM_goneAt_b57 N (fM_goneAt_b7 N n) σ_4 x1 x_11 0 x4)
        else (
          some (σ_4, x4))))
def fM_goneAt (N : Nat) (σ : mS) (a0 : Int32) : Option (mS × Int32) :=
  fM_goneAt_b7 N N σ a0 0 0 0
theorem bM_goneAt_57 {N : Nat} (C0 : mCx p s m args meth c cX2_goneAt 5 (some .int) L A) (hRo : 1 ≤ R.frames ∧ 20 ≤ R.locals) {σ' : mS} {r : Int32} {k7 : mS → Int32 → Int32 → Int32 → Int32 → Option (mS × Int32)} (hk7 : ∀ (σ : mS) (x1 : Int32) (x2 : Int32) (x3 : Int32) (x4 : Int32) (H : Heap) (locs : List Loc) (ls : Array Slot), mG A L s σ H locs → lv_has ls 5 [(0, .ref L.1), (1, .int x1), (2, .int x2), (3, .int x3), (4, .int x4)] → k7 σ x1 x2 x3 x4 = some (σ', r) → W p l e R s m args below meth c H locs 0 0 (mZ below L A s args σ' (some (.int r))) (F0 m 7 ls [])) (σ : mS) (x1 : Int32) (x2 : Int32) (x3 : Int32) (x4 : Int32) (H : Heap) (locs : List Loc) (ls : Array Slot) (hG : mG A L s σ H locs) (hl : lv_has ls 5 [(0, .ref L.1), (1, .int x1), (2, .int x2), (3, .int x3), (4, .int x4)]) (hF : fM_goneAt_b57 N k7 σ x1 x2 x3 x4 = some (σ', r)) : W p l e R s m args below meth c H locs 0 0 (mZ below L A s args σ' (some (.int r))) (F0 m 57 ls []) := by
  have hx := C0.1
  have hb := C0.2.1
  unfold fM_goneAt_b57 at hF
  refine w_iinc hx hb dX2_goneAt_57 hl 4 rfl (v := 1) (by decide) (by decide) hF (fun x_13 ls hl hF => ?_)
  have hl : lv_has ls 5 [(4, .int x_13), (0, .ref L.1), (1, .int x1), (2, .int x2), (3, .int x3)] := hl
  refine lv_goto (tgt := 7) hx hb dX2_goneAt_60 (by decide) ?_
  exact hk7 _ _ _ _ _ H locs ls hG (lv_sub hl [1, 2, 3, 4, 0] rfl) hF
theorem bM_goneAt_7 {N : Nat} (C0 : mCx p s m args meth c cX2_goneAt 5 (some .int) L A) (hRo : 1 ≤ R.frames ∧ 20 ≤ R.locals) {σ' : mS} {r : Int32} : ∀ (n : Nat) (σ : mS) (x1 : Int32) (x2 : Int32) (x3 : Int32) (x4 : Int32) (H : Heap) (locs : List Loc) (ls : Array Slot), mG A L s σ H locs → lv_has ls 5 [(0, .ref L.1), (1, .int x1), (2, .int x2), (3, .int x3), (4, .int x4)] → fM_goneAt_b7 N n σ x1 x2 x3 x4 = some (σ', r) → W p l e R s m args below meth c H locs 0 0 (mZ below L A s args σ' (some (.int r))) (F0 m 7 ls []) := by
  have hx := C0.1
  have hb := C0.2.1
  intro n
  induction n with
  | zero => intro σ x1 x2 x3 x4 H locs ls hG hl hF; cases hF
  | succ n ih =>
    intro σ x1 x2 x3 x4 H locs ls hG hl hF
    unfold fM_goneAt_b7 at hF
    refine lv_iload hx hb dX2_goneAt_7 (lv_at hl 4 rfl) ?_
    refine lv_aload_n hx hb dX2_goneAt_9 rfl (lv_at hl 0 rfl) ?_
    refine m_geti C0 hG 44 (by decide) rfl q1622 dX2_goneAt_10 hF (fun x_1 hF => ?_)
    refine lv_icmp_ge (tgt := 63) hx hb dX2_goneAt_13 (by decide) (fun c_2 => ?_) (fun c_2 => ?_)
    · have hF := ifp hF c_2
      refine lv_bipush (v := (-2)) hx hb dX2_goneAt_63 (by decide) ?_
      exact m_iret C0 hG dX2_goneAt_65 hF
    · have hF := ifn hF c_2
      refine lv_aload_n hx hb dX2_goneAt_16 rfl (lv_at hl 0 rfl) ?_
      refine m_geta C0 hG 45 (by decide) rfl q1623 dX2_goneAt_17 ?_
      refine lv_iload hx hb dX2_goneAt_20 (lv_at hl 4 rfl) ?_
      refine m_ld C0 hG 45 ⟨by decide, rfl, by decide⟩ dX2_goneAt_22 hF (fun x_3 hF => ?_)
      obtain ⟨σ_4, r_5, e_6, hF⟩ := obi_of hF
      refine m_cSi (As := [.int x_3]) (rest := []) C0 hG (mtM_isUnder l e_6) (lw_S q1948 q1949 q102 q1950) yd_X2_isUnder ⟨by omega, by omega⟩ rfl rfl hl.1 (Nat.le_of_ble_eq_true rfl) dX2_goneAt_23 (fun H locs hG => ?_)
      refine lv_if_eq (tgt := 42) hx hb dX2_goneAt_26 (by decide) (fun c_7 => ?_) (fun c_7 => ?_)
      · have hF := ifp hF c_7
        refine w_iinc hx hb dX2_goneAt_42 hl 3 rfl (v := 1) (by decide) (by decide) hF (fun x_8 ls hl hF => ?_)
        have hl : lv_has ls 5 [(3, .int x_8), (0, .ref L.1), (1, .int x1), (2, .int x2), (4, .int x4)] := hl
        refine lv_iload_n hx hb dX2_goneAt_45 rfl (lv_at hl 0 rfl) ?_
        refine lv_aload_n hx hb dX2_goneAt_46 rfl (lv_at hl 1 rfl) ?_
        refine m_geta C0 hG 7 (by decide) rfl q1585 dX2_goneAt_47 ?_
        refine lv_iconst (v := 2) hx hb dX2_goneAt_50 (by decide) ?_
        refine m_ld C0 hG 7 ⟨by decide, rfl, by decide⟩ dX2_goneAt_51 hF (fun x_9 hF => ?_)
        refine lv_icmp_lt (tgt := 57) hx hb dX2_goneAt_52 (by decide) (fun c_10 => ?_) (fun c_10 => ?_)
        · have hF := ifp hF c_10
          exact bM_goneAt_57 C0 hRo ih _ _ _ _ _ H locs ls hG (lv_sub hl [1, 2, 3, 0, 4] rfl) hF
        · have hF := ifn hF c_10
          refine lv_iconst (v := 0) hx hb dX2_goneAt_55 (by decide) ?_
          refine lv_istore_n (lv' := [(2, .int 0), (3, .int x_8), (0, .ref L.1), (1, .int x1), (4, .int x4)]) hx hb dX2_goneAt_56 rfl hl (by decide) rfl (fun ls hl => ?_)
          exact bM_goneAt_57 C0 hRo ih _ _ _ _ _ H locs ls hG (lv_sub hl [2, 3, 0, 1, 4] rfl) hF
      · have hF := ifn hF c_7
        refine lv_iconst (v := 0) hx hb dX2_goneAt_29 (by decide) ?_
        refine lv_istore_n (lv' := [(3, .int 0), (0, .ref L.1), (1, .int x1), (2, .int x2), (4, .int x4)]) hx hb dX2_goneAt_30 rfl hl (by decide) rfl (fun ls hl => ?_)
        refine w_iinc hx hb dX2_goneAt_31 hl 3 rfl (v := 1) (by decide) (by decide) hF (fun x_11 ls hl hF => ?_)
        have hl : lv_has ls 5 [(2, .int x_11), (3, .int 0), (0, .ref L.1), (1, .int x1), (4, .int x4)] := hl
        refine lv_iload_n hx hb dX2_goneAt_34 rfl (lv_at hl 0 rfl) ?_
        refine lv_iload_n hx hb dX2_goneAt_35 rfl (lv_at hl 3 rfl) ?_
        refine lv_icmp_le (tgt := 57) hx hb dX2_goneAt_36 (by decide) (fun c_12 => ?_) (fun c_12 => ?_)
        · have hF := ifp hF c_12
          exact bM_goneAt_57 C0 hRo ih _ _ _ _ _ H locs ls hG (lv_sub hl [2, 3, 0, 1, 4] rfl) hF
        · have hF := ifn hF c_12
          refine lv_iload hx hb dX2_goneAt_39 (lv_at hl 4 rfl) ?_
          exact m_iret C0 hG dX2_goneAt_41 hF
theorem bM_goneAt_e {N : Nat} (C0 : mCx p s m args meth c cX2_goneAt 5 (some .int) L A) (hRo : 1 ≤ R.frames ∧ 20 ≤ R.locals) {σ' : mS} {r : Int32} (σ : mS) (a0 : Int32) (H : Heap) (locs : List Loc) (ls : Array Slot) (hG : mG A L s σ H locs) (hl : lv_has ls 5 [(0, .ref L.1), (1, .int a0)]) (hF : fM_goneAt N σ a0 = some (σ', r)) : W p l e R s m args below meth c H locs 0 0 (mZ below L A s args σ' (some (.int r))) (F0 m 0 ls []) := by
  have hx := C0.1
  have hb := C0.2.1
  unfold fM_goneAt at hF
  refine lv_iconst (v := 0) hx hb dX2_goneAt_0 (by decide) ?_
  refine lv_istore_n (lv' := [(2, .int 0), (0, .ref L.1), (1, .int a0)]) hx hb dX2_goneAt_1 rfl hl (by decide) rfl (fun ls hl => ?_)
  refine lv_iconst (v := 0) hx hb dX2_goneAt_2 (by decide) ?_
  refine lv_istore_n (lv' := [(3, .int 0), (2, .int 0), (0, .ref L.1), (1, .int a0)]) hx hb dX2_goneAt_3 rfl hl (by decide) rfl (fun ls hl => ?_)
  refine lv_iconst (v := 0) hx hb dX2_goneAt_4 (by decide) ?_
  refine lv_istore (lv' := [(4, .int 0), (3, .int 0), (2, .int 0), (0, .ref L.1), (1, .int a0)]) hx hb dX2_goneAt_5 hl (by decide) rfl (fun ls hl => ?_)
  exact bM_goneAt_7 C0 hRo N _ _ _ _ _ H locs ls hG (lv_sub hl [3, 4, 2, 1, 0] rfl) hF
theorem mtM_goneAt (l : Launch) {N : Nat} {L : mL} {σ σ' : mS} {r : Int32} {a0 : Int32} (hF : fM_goneAt N σ a0 = some (σ', r)) : mMet l yX2_goneAt cX2_goneAt 5 (some .int) (1) (20) [.ref L.1, .int a0] L σ (some (.int r)) σ' := by
  refine m_head (by decide) rfl ?_
  intro p e s m below meth c A C0 hG
  have hl := lv_entry ([.ref L.1, .int a0]) (n := 5) (Nat.le_of_ble_eq_true rfl)
  rw [lg_entry_eq]
  generalize (lg_sl ([.ref L.1, .int a0]) ++ List.replicate (5 - (lg_sl ([.ref L.1, .int a0])).length) Slot.unset).toArray = ls at hl ⊢
  have hl : lv_has ls 5 [(0, .ref L.1), (1, .int a0)] := hl
  exact bM_goneAt_e C0 ⟨Nat.le_refl _, Nat.le_refl _⟩ _ _ _ [] ls hG hl hF
def fM_goneBits_b33 (N : Nat) (k4 : mS → Int32 → Int32 → Option (mS × Int32)) (σ : mS) (x1 : Int32) (x2 : Int32) : Option (mS × Int32) :=
  nmv (x2 + 1) fun x_9 =>
  k4 σ x1 x_9
def fM_goneBits_b4 (N : Nat) : Nat → mS → Int32 → Int32 → Option (mS × Int32)
  | 0, _, _, _ => none
  | n + 1, σ, x1, x2 =>
    nmv (σ.1 0) fun x_1 =>
    if x_1 ≤ x2 then (
      some (σ, x1))
    else (
      chk x2 8 <| nmv (σ.2.1 4 x2.toNatClampNeg) fun x_3 =>
      obi (fM_goneAt N σ x_3) fun σ_4 r_5 =>
      if r_5 = (-2) then (
        fM_goneBits_b33 N (fM_goneBits_b4 N n) σ_4 x1 x2)
      else (
        nmv (x1 ||| (1 <<< (x2 &&& 31))) fun x_8 =>
        fM_goneBits_b33 N (fM_goneBits_b4 N n) σ_4 x_8 x2))
def fM_goneBits (N : Nat) (σ : mS) : Option (mS × Int32) :=
  fM_goneBits_b4 N N σ 0 0
theorem bM_goneBits_33 {N : Nat} (C0 : mCx p s m args meth c cX2_goneBits 3 (some .int) L A) (hRo : 2 ≤ R.frames ∧ 44 ≤ R.locals) {σ' : mS} {r : Int32} {k4 : mS → Int32 → Int32 → Option (mS × Int32)} (hk4 : ∀ (σ : mS) (x1 : Int32) (x2 : Int32) (H : Heap) (locs : List Loc) (ls : Array Slot), mG A L s σ H locs → lv_has ls 3 [(0, .ref L.1), (1, .int x1), (2, .int x2)] → k4 σ x1 x2 = some (σ', r) → W p l e R s m args below meth c H locs 0 0 (mZ below L A s args σ' (some (.int r))) (F0 m 4 ls [])) (σ : mS) (x1 : Int32) (x2 : Int32) (H : Heap) (locs : List Loc) (ls : Array Slot) (hG : mG A L s σ H locs) (hl : lv_has ls 3 [(0, .ref L.1), (1, .int x1), (2, .int x2)]) (hF : fM_goneBits_b33 N k4 σ x1 x2 = some (σ', r)) : W p l e R s m args below meth c H locs 0 0 (mZ below L A s args σ' (some (.int r))) (F0 m 33 ls []) := by
  have hx := C0.1
  have hb := C0.2.1
  unfold fM_goneBits_b33 at hF
  refine w_iinc hx hb dX2_goneBits_33 hl 2 rfl (v := 1) (by decide) (by decide) hF (fun x_9 ls hl hF => ?_)
  have hl : lv_has ls 3 [(2, .int x_9), (0, .ref L.1), (1, .int x1)] := hl
  refine lv_goto (tgt := 4) hx hb dX2_goneBits_36 (by decide) ?_
  exact hk4 _ _ _ H locs ls hG (lv_sub hl [1, 2, 0] rfl) hF
theorem bM_goneBits_4 {N : Nat} (C0 : mCx p s m args meth c cX2_goneBits 3 (some .int) L A) (hRo : 2 ≤ R.frames ∧ 44 ≤ R.locals) {σ' : mS} {r : Int32} : ∀ (n : Nat) (σ : mS) (x1 : Int32) (x2 : Int32) (H : Heap) (locs : List Loc) (ls : Array Slot), mG A L s σ H locs → lv_has ls 3 [(0, .ref L.1), (1, .int x1), (2, .int x2)] → fM_goneBits_b4 N n σ x1 x2 = some (σ', r) → W p l e R s m args below meth c H locs 0 0 (mZ below L A s args σ' (some (.int r))) (F0 m 4 ls []) := by
  have hx := C0.1
  have hb := C0.2.1
  intro n
  induction n with
  | zero => intro σ x1 x2 H locs ls hG hl hF; cases hF
  | succ n ih =>
    intro σ x1 x2 H locs ls hG hl hF
    unfold fM_goneBits_b4 at hF
    refine lv_iload_n hx hb dX2_goneBits_4 rfl (lv_at hl 2 rfl) ?_
    refine lv_aload_n hx hb dX2_goneBits_5 rfl (lv_at hl 0 rfl) ?_
    refine m_geti C0 hG 0 (by decide) rfl q1578 dX2_goneBits_6 hF (fun x_1 hF => ?_)
    refine lv_icmp_ge (tgt := 39) hx hb dX2_goneBits_9 (by decide) (fun c_2 => ?_) (fun c_2 => ?_)
    · have hF := ifp hF c_2
      refine lv_iload_n hx hb dX2_goneBits_39 rfl (lv_at hl 1 rfl) ?_
      exact m_iret C0 hG dX2_goneBits_40 hF
    · have hF := ifn hF c_2
      refine lv_aload_n hx hb dX2_goneBits_12 rfl (lv_at hl 0 rfl) ?_
      refine lv_aload_n hx hb dX2_goneBits_13 rfl (lv_at hl 0 rfl) ?_
      refine m_geta C0 hG 4 (by decide) rfl q1582 dX2_goneBits_14 ?_
      refine lv_iload_n hx hb dX2_goneBits_17 rfl (lv_at hl 2 rfl) ?_
      refine m_ld C0 hG 4 ⟨by decide, rfl, by decide⟩ dX2_goneBits_18 hF (fun x_3 hF => ?_)
      obtain ⟨σ_4, r_5, e_6, hF⟩ := obi_of hF
      refine m_cVi (As := [.int x_3]) (rest := []) C0 hG (mtM_goneAt l e_6) (lw_V q1944 q1946 qs83 q102 q1947) yd_X2_goneAt ⟨by omega, by omega⟩ rfl rfl hl.1 (Nat.le_of_ble_eq_true rfl) dX2_goneBits_19 (fun H locs hG => ?_)
      refine lv_bipush (v := (-2)) hx hb dX2_goneBits_22 (by decide) ?_
      refine lv_icmp_eq (tgt := 33) hx hb dX2_goneBits_24 (by decide) (fun c_7 => ?_) (fun c_7 => ?_)
      · have hF := ifp hF c_7
        exact bM_goneBits_33 C0 hRo ih _ _ _ H locs ls hG (lv_sub hl [0, 1, 2] rfl) hF
      · have hF := ifn hF c_7
        refine lv_iload_n hx hb dX2_goneBits_27 rfl (lv_at hl 1 rfl) ?_
        refine lv_iconst (v := 1) hx hb dX2_goneBits_28 (by decide) ?_
        refine lv_iload_n hx hb dX2_goneBits_29 rfl (lv_at hl 2 rfl) ?_
        refine lv_ishl hx hb dX2_goneBits_30 ?_
        refine lv_ior hx hb dX2_goneBits_31 ?_
        refine w_nm hF (fun x_8 hF => ?_)
        refine lv_istore_n (lv' := [(1, .int x_8), (0, .ref L.1), (2, .int x2)]) hx hb dX2_goneBits_32 rfl hl (by decide) rfl (fun ls hl => ?_)
        exact bM_goneBits_33 C0 hRo ih _ _ _ H locs ls hG (lv_sub hl [1, 0, 2] rfl) hF
theorem bM_goneBits_e {N : Nat} (C0 : mCx p s m args meth c cX2_goneBits 3 (some .int) L A) (hRo : 2 ≤ R.frames ∧ 44 ≤ R.locals) {σ' : mS} {r : Int32} (σ : mS) (H : Heap) (locs : List Loc) (ls : Array Slot) (hG : mG A L s σ H locs) (hl : lv_has ls 3 [(0, .ref L.1)]) (hF : fM_goneBits N σ = some (σ', r)) : W p l e R s m args below meth c H locs 0 0 (mZ below L A s args σ' (some (.int r))) (F0 m 0 ls []) := by
  have hx := C0.1
  have hb := C0.2.1
  unfold fM_goneBits at hF
  refine lv_iconst (v := 0) hx hb dX2_goneBits_0 (by decide) ?_
  refine lv_istore_n (lv' := [(1, .int 0), (0, .ref L.1)]) hx hb dX2_goneBits_1 rfl hl (by decide) rfl (fun ls hl => ?_)
  refine lv_iconst (v := 0) hx hb dX2_goneBits_2 (by decide) ?_
  refine lv_istore_n (lv' := [(2, .int 0), (1, .int 0), (0, .ref L.1)]) hx hb dX2_goneBits_3 rfl hl (by decide) rfl (fun ls hl => ?_)
  exact bM_goneBits_4 C0 hRo N _ _ _ H locs ls hG (lv_sub hl [2, 1, 0] rfl) hF
theorem mtM_goneBits (l : Launch) {N : Nat} {L : mL} {σ σ' : mS} {r : Int32} (hF : fM_goneBits N σ = some (σ', r)) : mMet l yX2_goneBits cX2_goneBits 3 (some .int) (2) (44) [.ref L.1] L σ (some (.int r)) σ' := by
  refine m_head (by decide) rfl ?_
  intro p e s m below meth c A C0 hG
  have hl := lv_entry ([.ref L.1]) (n := 3) (Nat.le_of_ble_eq_true rfl)
  rw [lg_entry_eq]
  generalize (lg_sl ([.ref L.1]) ++ List.replicate (3 - (lg_sl ([.ref L.1])).length) Slot.unset).toArray = ls at hl ⊢
  have hl : lv_has ls 3 [(0, .ref L.1)] := hl
  exact bM_goneBits_e C0 ⟨Nat.le_refl _, Nat.le_refl _⟩ _ _ [] ls hG hl hF
def fM_gone_b22 (N : Nat) (σ : mS) (x1 : Int32) (x2 : Int32) : Option (mS × Int32) :=
  obi (fM_noRow N σ x1 0) fun σ_10 r_11 =>
  if 0 ≤ r_11 then (
    obi (fM_reads N σ_10 x1) fun σ_14 r_15 =>
    if x2 = (-1) then (
      obi (fM_goneBits N σ_14) fun σ_22 r_23 =>
      some (σ_22, r_23))
    else (
      chk x2 8 <| nmv (σ_14.2.1 4 x2.toNatClampNeg) fun x_18 =>
      obi (fM_goneAt N σ_14 x_18) fun σ_19 r_20 =>
      some (σ_19, r_20)))
  else (
    some (σ_10, r_11))
def fM_gone (N : Nat) (σ : mS) (a0 : Int32) (a1 : Int32) : Option (mS × Int32) :=
  obi (fM_isShelf N σ a0) fun σ_1 r_2 =>
  if r_2 = 0 then (
    some (σ_1, (-1)))
  else (
    if a1 = (-1) then (
      fM_gone_b22 N σ_1 a0 a1)
    else (
      obi (fM_isOne N σ_1 a1) fun σ_6 r_7 =>
      if r_7 = 0 then (
        some (σ_6, (-1)))
      else (
        fM_gone_b22 N σ_6 a0 a1)))
theorem bM_gone_22 {N : Nat} (C0 : mCx p s m args meth c cX2_gone 4 (some .int) L A) (hRo : 3 ≤ R.frames ∧ 66 ≤ R.locals) {σ' : mS} {r : Int32} (σ : mS) (x1 : Int32) (x2 : Int32) (H : Heap) (locs : List Loc) (ls : Array Slot) (hG : mG A L s σ H locs) (hl : lv_has ls 4 [(0, .ref L.1), (1, .int x1), (2, .int x2)]) (hF : fM_gone_b22 N σ x1 x2 = some (σ', r)) : W p l e R s m args below meth c H locs 0 0 (mZ below L A s args σ' (some (.int r))) (F0 m 22 ls []) := by
  have hx := C0.1
  have hb := C0.2.1
  unfold fM_gone_b22 at hF
  refine lv_aload_n hx hb dX2_gone_22 rfl (lv_at hl 0 rfl) ?_
  refine lv_iload_n hx hb dX2_gone_23 rfl (lv_at hl 1 rfl) ?_
  refine lv_iconst (v := 0) hx hb dX2_gone_24 (by decide) ?_
  obtain ⟨σ_10, r_11, e_12, hF⟩ := obi_of hF
  refine m_cVi (As := [.int x1, .int 0]) (rest := []) C0 hG (mtM_noRow l e_12) (lw_V q1883 q1885 qs71 q102 q1886) yd_X2_noRow ⟨by omega, by omega⟩ rfl rfl hl.1 (Nat.le_of_ble_eq_true rfl) dX2_gone_25 (fun H locs hG => ?_)
  refine lv_istore_n (lv' := [(3, .int r_11), (0, .ref L.1), (1, .int x1), (2, .int x2)]) hx hb dX2_gone_28 rfl hl (by decide) rfl (fun ls hl => ?_)
  refine lv_iload_n hx hb dX2_gone_29 rfl (lv_at hl 0 rfl) ?_
  refine lv_if_ge (tgt := 35) hx hb dX2_gone_30 (by decide) (fun c_13 => ?_) (fun c_13 => ?_)
  · have hF := ifp hF c_13
    refine lv_aload_n hx hb dX2_gone_35 rfl (lv_at hl 1 rfl) ?_
    refine lv_iload_n hx hb dX2_gone_36 rfl (lv_at hl 2 rfl) ?_
    obtain ⟨σ_14, r_15, e_16, hF⟩ := obi_of hF
    refine m_cVv (As := [.int x1]) (rest := []) C0 hG (mtM_reads l e_16) (lw_V q1887 q1889 qs72 q102 q1890) yd_X2_reads ⟨by omega, by omega⟩ rfl rfl hl.1 (Nat.le_of_ble_eq_true rfl) dX2_gone_37 (fun H locs hG => ?_)
    refine lv_iload_n hx hb dX2_gone_40 rfl (lv_at hl 3 rfl) ?_
    refine lv_iconst (v := (-1)) hx hb dX2_gone_41 (by decide) ?_
    refine lv_icmp_ne (tgt := 52) hx hb dX2_gone_42 (by decide) (fun c_17 => ?_) (fun c_17 => ?_)
    · have hF := ifn hF c_17
      refine lv_aload_n hx hb dX2_gone_52 rfl (lv_at hl 1 rfl) ?_
      refine lv_aload_n hx hb dX2_gone_53 rfl (lv_at hl 1 rfl) ?_
      refine m_geta C0 hG 4 (by decide) rfl q1582 dX2_gone_54 ?_
      refine lv_iload_n hx hb dX2_gone_57 rfl (lv_at hl 3 rfl) ?_
      refine m_ld C0 hG 4 ⟨by decide, rfl, by decide⟩ dX2_gone_58 hF (fun x_18 hF => ?_)
      obtain ⟨σ_19, r_20, e_21, hF⟩ := obi_of hF
      refine m_cVi (As := [.int x_18]) (rest := []) C0 hG (mtM_goneAt l e_21) (lw_V q1944 q1946 qs83 q102 q1947) yd_X2_goneAt ⟨by omega, by omega⟩ rfl rfl hl.1 (Nat.le_of_ble_eq_true rfl) dX2_gone_59 (fun H locs hG => ?_)
      exact m_iret C0 hG dX2_gone_62 hF
    · have hF := ifp hF c_17
      refine lv_aload_n hx hb dX2_gone_45 rfl (lv_at hl 1 rfl) ?_
      obtain ⟨σ_22, r_23, e_24, hF⟩ := obi_of hF
      refine m_cVi (As := []) (rest := []) C0 hG (mtM_goneBits l e_24) (lw_V q1940 q1942 qs82 q102 q1943) yd_X2_goneBits ⟨by omega, by omega⟩ rfl rfl hl.1 (Nat.le_of_ble_eq_true rfl) dX2_gone_46 (fun H locs hG => ?_)
      refine lv_goto (tgt := 62) hx hb dX2_gone_49 (by decide) ?_
      exact m_iret C0 hG dX2_gone_62 hF
  · have hF := ifn hF c_13
    refine lv_iload_n hx hb dX2_gone_33 rfl (lv_at hl 0 rfl) ?_
    exact m_iret C0 hG dX2_gone_34 hF
theorem bM_gone_e {N : Nat} (C0 : mCx p s m args meth c cX2_gone 4 (some .int) L A) (hRo : 3 ≤ R.frames ∧ 66 ≤ R.locals) {σ' : mS} {r : Int32} (σ : mS) (a0 : Int32) (a1 : Int32) (H : Heap) (locs : List Loc) (ls : Array Slot) (hG : mG A L s σ H locs) (hl : lv_has ls 4 [(0, .ref L.1), (1, .int a0), (2, .int a1)]) (hF : fM_gone N σ a0 a1 = some (σ', r)) : W p l e R s m args below meth c H locs 0 0 (mZ below L A s args σ' (some (.int r))) (F0 m 0 ls []) := by
  have hx := C0.1
  have hb := C0.2.1
  unfold fM_gone at hF
  refine lv_iload_n hx hb dX2_gone_0 rfl (lv_at hl 1 rfl) ?_
  obtain ⟨σ_1, r_2, e_3, hF⟩ := obi_of hF
  refine m_cSi (As := [.int a0]) (rest := []) C0 hG (mtM_isShelf l e_3) (lw_S q1762 q1763 q102 q1764) yd_X2_isShelf ⟨by omega, by omega⟩ rfl rfl hl.1 (Nat.le_of_ble_eq_true rfl) dX2_gone_1 (fun H locs hG => ?_)
  refine lv_if_eq (tgt := 20) hx hb dX2_gone_4 (by decide) (fun c_4 => ?_) (fun c_4 => ?_)
  · have hF := ifp hF c_4
    refine lv_iconst (v := (-1)) hx hb dX2_gone_20 (by decide) ?_
    exact m_iret C0 hG dX2_gone_21 hF
  · have hF := ifn hF c_4
    refine lv_iload_n hx hb dX2_gone_7 rfl (lv_at hl 2 rfl) ?_
    refine lv_iconst (v := (-1)) hx hb dX2_gone_8 (by decide) ?_
    refine lv_icmp_eq (tgt := 22) hx hb dX2_gone_9 (by decide) (fun c_5 => ?_) (fun c_5 => ?_)
    · have hF := ifp hF c_5
      exact bM_gone_22 C0 hRo _ _ _ H locs ls hG (lv_sub hl [0, 1, 2] rfl) hF
    · have hF := ifn hF c_5
      refine lv_aload_n hx hb dX2_gone_12 rfl (lv_at hl 0 rfl) ?_
      refine lv_iload_n hx hb dX2_gone_13 rfl (lv_at hl 2 rfl) ?_
      obtain ⟨σ_6, r_7, e_8, hF⟩ := obi_of hF
      refine m_cVi (As := [.int a1]) (rest := []) C0 hG (mtM_isOne l e_8) (lw_V q1774 q1776 qs54 q102 q1777) yd_X2_isOne ⟨by omega, by omega⟩ rfl rfl hl.1 (Nat.le_of_ble_eq_true rfl) dX2_gone_14 (fun H locs hG => ?_)
      refine lv_if_ne (tgt := 22) hx hb dX2_gone_17 (by decide) (fun c_9 => ?_) (fun c_9 => ?_)
      · have hF := ifn hF c_9
        exact bM_gone_22 C0 hRo _ _ _ H locs ls hG (lv_sub hl [0, 1, 2] rfl) hF
      · have hF := ifp hF c_9
        refine lv_iconst (v := (-1)) hx hb dX2_gone_20 (by decide) ?_
        exact m_iret C0 hG dX2_gone_21 hF
theorem mtM_gone (l : Launch) {N : Nat} {L : mL} {σ σ' : mS} {r : Int32} {a0 : Int32} {a1 : Int32} (hF : fM_gone N σ a0 a1 = some (σ', r)) : mMet l yX2_gone cX2_gone 4 (some .int) (3) (66) [.ref L.1, .int a0, .int a1] L σ (some (.int r)) σ' := by
  refine m_head (by decide) rfl ?_
  intro p e s m below meth c A C0 hG
  have hl := lv_entry ([.ref L.1, .int a0, .int a1]) (n := 4) (Nat.le_of_ble_eq_true rfl)
  rw [lg_entry_eq]
  generalize (lg_sl ([.ref L.1, .int a0, .int a1]) ++ List.replicate (4 - (lg_sl ([.ref L.1, .int a0, .int a1])).length) Slot.unset).toArray = ls at hl ⊢
  have hl : lv_has ls 4 [(0, .ref L.1), (1, .int a0), (2, .int a1)] := hl
  exact bM_gone_e C0 ⟨Nat.le_refl _, Nat.le_refl _⟩ _ _ _ _ [] ls hG hl hF
def fM_least_b38 (N : Nat) : Nat → mS → Int32 → Option (mS × Int32)
  | 0, _, _ => none
  | n + 1, σ, x4 =>
    obi (fM_goneAt N σ x4) fun σ_16 r_17 =>
    if r_17 = (-2) then (
      some (σ_16, x4))
    else (
      nmv (x4 + 1) fun x_20 =>
      (fM_least_b38 N n) σ_16 x_20)
def fM_least (N : Nat) (σ : mS) (a0 : Int32) (a1 : Int32) : Option (mS × Int32) :=
  obi (fM_isShelf N σ a0) fun σ_1 r_2 =>
  if r_2 = 0 then (
    some (σ_1, (-1)))
  else (
    obi (fM_isOne N σ_1 a1) fun σ_5 r_6 =>
    if r_6 = 0 then (
      some (σ_5, (-1)))
    else (
      obi (fM_noRow N σ_5 a0 0) fun σ_9 r_10 =>
      if 0 ≤ r_10 then (
        obi (fM_reads N σ_9 a0) fun σ_13 r_14 =>
        fM_least_b38 N N σ_13 1)
      else (
        some (σ_9, r_10))))
theorem bM_least_38 {N : Nat} (C0 : mCx p s m args meth c cX2_least 5 (some .int) L A) (hRo : 2 ≤ R.frames ∧ 44 ≤ R.locals) {σ' : mS} {r : Int32} : ∀ (n : Nat) (σ : mS) (x4 : Int32) (H : Heap) (locs : List Loc) (ls : Array Slot), mG A L s σ H locs → lv_has ls 5 [(0, .ref L.1), (4, .int x4)] → fM_least_b38 N n σ x4 = some (σ', r) → W p l e R s m args below meth c H locs 0 0 (mZ below L A s args σ' (some (.int r))) (F0 m 38 ls []) := by
  have hx := C0.1
  have hb := C0.2.1
  intro n
  induction n with
  | zero => intro σ x4 H locs ls hG hl hF; cases hF
  | succ n ih =>
    intro σ x4 H locs ls hG hl hF
    unfold fM_least_b38 at hF
    refine lv_aload_n hx hb dX2_least_38 rfl (lv_at hl 0 rfl) ?_
    refine lv_iload hx hb dX2_least_39 (lv_at hl 1 rfl) ?_
    obtain ⟨σ_16, r_17, e_18, hF⟩ := obi_of hF
    refine m_cVi (As := [.int x4]) (rest := []) C0 hG (mtM_goneAt l e_18) (lw_V q1944 q1946 qs83 q102 q1947) yd_X2_goneAt ⟨by omega, by omega⟩ rfl rfl hl.1 (Nat.le_of_ble_eq_true rfl) dX2_least_41 (fun H locs hG => ?_)
    refine lv_bipush (v := (-2)) hx hb dX2_least_44 (by decide) ?_
    refine lv_icmp_eq (tgt := 55) hx hb dX2_least_46 (by decide) (fun c_19 => ?_) (fun c_19 => ?_)
    · have hF := ifp hF c_19
      refine lv_iload hx hb dX2_least_55 (lv_at hl 1 rfl) ?_
      exact m_iret C0 hG dX2_least_57 hF
    · have hF := ifn hF c_19
      refine w_iinc hx hb dX2_least_49 hl 1 rfl (v := 1) (by decide) (by decide) hF (fun x_20 ls hl hF => ?_)
      have hl : lv_has ls 5 [(4, .int x_20), (0, .ref L.1)] := hl
      refine lv_goto (tgt := 38) hx hb dX2_least_52 (by decide) ?_
      exact ih _ _ H locs ls hG (lv_sub hl [1, 0] rfl) hF
theorem bM_least_e {N : Nat} (C0 : mCx p s m args meth c cX2_least 5 (some .int) L A) (hRo : 2 ≤ R.frames ∧ 44 ≤ R.locals) {σ' : mS} {r : Int32} (σ : mS) (a0 : Int32) (a1 : Int32) (H : Heap) (locs : List Loc) (ls : Array Slot) (hG : mG A L s σ H locs) (hl : lv_has ls 5 [(0, .ref L.1), (1, .int a0), (2, .int a1)]) (hF : fM_least N σ a0 a1 = some (σ', r)) : W p l e R s m args below meth c H locs 0 0 (mZ below L A s args σ' (some (.int r))) (F0 m 0 ls []) := by
  have hx := C0.1
  have hb := C0.2.1
  unfold fM_least at hF
  refine lv_iload_n hx hb dX2_least_0 rfl (lv_at hl 1 rfl) ?_
  obtain ⟨σ_1, r_2, e_3, hF⟩ := obi_of hF
  refine m_cSi (As := [.int a0]) (rest := []) C0 hG (mtM_isShelf l e_3) (lw_S q1762 q1763 q102 q1764) yd_X2_isShelf ⟨by omega, by omega⟩ rfl rfl hl.1 (Nat.le_of_ble_eq_true rfl) dX2_least_1 (fun H locs hG => ?_)
  refine lv_if_eq (tgt := 15) hx hb dX2_least_4 (by decide) (fun c_4 => ?_) (fun c_4 => ?_)
  · have hF := ifp hF c_4
    refine lv_iconst (v := (-1)) hx hb dX2_least_15 (by decide) ?_
    exact m_iret C0 hG dX2_least_16 hF
  · have hF := ifn hF c_4
    refine lv_aload_n hx hb dX2_least_7 rfl (lv_at hl 0 rfl) ?_
    refine lv_iload_n hx hb dX2_least_8 rfl (lv_at hl 2 rfl) ?_
    obtain ⟨σ_5, r_6, e_7, hF⟩ := obi_of hF
    refine m_cVi (As := [.int a1]) (rest := []) C0 hG (mtM_isOne l e_7) (lw_V q1774 q1776 qs54 q102 q1777) yd_X2_isOne ⟨by omega, by omega⟩ rfl rfl hl.1 (Nat.le_of_ble_eq_true rfl) dX2_least_9 (fun H locs hG => ?_)
    refine lv_if_ne (tgt := 17) hx hb dX2_least_12 (by decide) (fun c_8 => ?_) (fun c_8 => ?_)
    · have hF := ifn hF c_8
      refine lv_aload_n hx hb dX2_least_17 rfl (lv_at hl 0 rfl) ?_
      refine lv_iload_n hx hb dX2_least_18 rfl (lv_at hl 1 rfl) ?_
      refine lv_iconst (v := 0) hx hb dX2_least_19 (by decide) ?_
      obtain ⟨σ_9, r_10, e_11, hF⟩ := obi_of hF
      refine m_cVi (As := [.int a0, .int 0]) (rest := []) C0 hG (mtM_noRow l e_11) (lw_V q1883 q1885 qs71 q102 q1886) yd_X2_noRow ⟨by omega, by omega⟩ rfl rfl hl.1 (Nat.le_of_ble_eq_true rfl) dX2_least_20 (fun H locs hG => ?_)
      refine lv_istore_n (lv' := [(3, .int r_10), (0, .ref L.1), (1, .int a0), (2, .int a1)]) hx hb dX2_least_23 rfl hl (by decide) rfl (fun ls hl => ?_)
      refine lv_iload_n hx hb dX2_least_24 rfl (lv_at hl 0 rfl) ?_
      refine lv_if_ge (tgt := 30) hx hb dX2_least_25 (by decide) (fun c_12 => ?_) (fun c_12 => ?_)
      · have hF := ifp hF c_12
        refine lv_aload_n hx hb dX2_least_30 rfl (lv_at hl 1 rfl) ?_
        refine lv_iload_n hx hb dX2_least_31 rfl (lv_at hl 2 rfl) ?_
        obtain ⟨σ_13, r_14, e_15, hF⟩ := obi_of hF
        refine m_cVv (As := [.int a0]) (rest := []) C0 hG (mtM_reads l e_15) (lw_V q1887 q1889 qs72 q102 q1890) yd_X2_reads ⟨by omega, by omega⟩ rfl rfl hl.1 (Nat.le_of_ble_eq_true rfl) dX2_least_32 (fun H locs hG => ?_)
        refine lv_iconst (v := 1) hx hb dX2_least_35 (by decide) ?_
        refine lv_istore (lv' := [(4, .int 1), (3, .int r_10), (0, .ref L.1), (1, .int a0), (2, .int a1)]) hx hb dX2_least_36 hl (by decide) rfl (fun ls hl => ?_)
        exact bM_least_38 C0 hRo N _ _ H locs ls hG (lv_sub hl [2, 0] rfl) hF
      · have hF := ifn hF c_12
        refine lv_iload_n hx hb dX2_least_28 rfl (lv_at hl 0 rfl) ?_
        exact m_iret C0 hG dX2_least_29 hF
    · have hF := ifp hF c_8
      refine lv_iconst (v := (-1)) hx hb dX2_least_15 (by decide) ?_
      exact m_iret C0 hG dX2_least_16 hF
theorem mtM_least (l : Launch) {N : Nat} {L : mL} {σ σ' : mS} {r : Int32} {a0 : Int32} {a1 : Int32} (hF : fM_least N σ a0 a1 = some (σ', r)) : mMet l yX2_least cX2_least 5 (some .int) (2) (44) [.ref L.1, .int a0, .int a1] L σ (some (.int r)) σ' := by
  refine m_head (by decide) rfl ?_
  intro p e s m below meth c A C0 hG
  have hl := lv_entry ([.ref L.1, .int a0, .int a1]) (n := 5) (Nat.le_of_ble_eq_true rfl)
  rw [lg_entry_eq]
  generalize (lg_sl ([.ref L.1, .int a0, .int a1]) ++ List.replicate (5 - (lg_sl ([.ref L.1, .int a0, .int a1])).length) Slot.unset).toArray = ls at hl ⊢
  have hl : lv_has ls 5 [(0, .ref L.1), (1, .int a0), (2, .int a1)] := hl
  exact bM_least_e C0 ⟨Nat.le_refl _, Nat.le_refl _⟩ _ _ _ _ [] ls hG hl hF
def fM_isNeverApart (N : Nat) (σ : mS) : Option (mS × Int32) :=
  obi (fM_drifts N σ 0) fun σ_1 r_2 =>
  obi (fM_firstApart N σ_1) fun σ_4 r_5 =>
  if r_5 = (-2) then (
    chb 1 (some (σ_4, 1)))
  else (
    chb 0 (some (σ_4, 0)))
theorem bM_isNeverApart_e {N : Nat} (C0 : mCx p s m args meth c cX2_isNeverApart 1 (some .boolean) L A) (hRo : 5 ≤ R.frames ∧ 113 ≤ R.locals) {σ' : mS} {r : Int32} (σ : mS) (H : Heap) (locs : List Loc) (ls : Array Slot) (hG : mG A L s σ H locs) (hl : lv_has ls 1 [(0, .ref L.1)]) (hF : fM_isNeverApart N σ = some (σ', r)) : W p l e R s m args below meth c H locs 0 0 (mZ below L A s args σ' (some (.int r))) (F0 m 0 ls []) := by
  have hx := C0.1
  have hb := C0.2.1
  unfold fM_isNeverApart at hF
  refine lv_aload_n hx hb dX2_isNeverApart_0 rfl (lv_at hl 0 rfl) ?_
  refine lv_iconst (v := 0) hx hb dX2_isNeverApart_1 (by decide) ?_
  obtain ⟨σ_1, r_2, e_3, hF⟩ := obi_of hF
  refine m_cVv (As := [.int 0]) (rest := []) C0 hG (mtM_drifts l e_3) (lw_V q1895 q1897 qs74 q102 q1898) yd_X2_drifts ⟨by omega, by omega⟩ rfl rfl hl.1 (Nat.le_of_ble_eq_true rfl) dX2_isNeverApart_2 (fun H locs hG => ?_)
  refine lv_aload_n hx hb dX2_isNeverApart_5 rfl (lv_at hl 0 rfl) ?_
  obtain ⟨σ_4, r_5, e_6, hF⟩ := obi_of hF
  refine m_cVi (As := []) (rest := []) C0 hG (mtM_firstApart l e_6) (lw_V q1912 q1914 qs78 q102 q1915) yd_X2_firstApart ⟨by omega, by omega⟩ rfl rfl hl.1 (Nat.le_of_ble_eq_true rfl) dX2_isNeverApart_6 (fun H locs hG => ?_)
  refine lv_bipush (v := (-2)) hx hb dX2_isNeverApart_9 (by decide) ?_
  refine lv_icmp_ne (tgt := 18) hx hb dX2_isNeverApart_11 (by decide) (fun c_7 => ?_) (fun c_7 => ?_)
  · have hF := ifn hF c_7
    refine lv_iconst (v := 0) hx hb dX2_isNeverApart_18 (by decide) ?_
    exact m_zret C0 hG dX2_isNeverApart_19 hF
  · have hF := ifp hF c_7
    refine lv_iconst (v := 1) hx hb dX2_isNeverApart_14 (by decide) ?_
    refine lv_goto (tgt := 19) hx hb dX2_isNeverApart_15 (by decide) ?_
    exact m_zret C0 hG dX2_isNeverApart_19 hF
theorem mtM_isNeverApart (l : Launch) {N : Nat} {L : mL} {σ σ' : mS} {r : Int32} (hF : fM_isNeverApart N σ = some (σ', r)) : mMet l yX2_isNeverApart cX2_isNeverApart 1 (some .boolean) (5) (113) [.ref L.1] L σ (some (.int r)) σ' := by
  refine m_head (by decide) rfl ?_
  intro p e s m below meth c A C0 hG
  have hl := lv_entry ([.ref L.1]) (n := 1) (Nat.le_of_ble_eq_true rfl)
  rw [lg_entry_eq]
  generalize (lg_sl ([.ref L.1]) ++ List.replicate (1 - (lg_sl ([.ref L.1])).length) Slot.unset).toArray = ls at hl ⊢
  have hl : lv_has ls 1 [(0, .ref L.1)] := hl
  exact bM_isNeverApart_e C0 ⟨Nat.le_refl _, Nat.le_refl _⟩ _ _ [] ls hG hl hF
def fM_picks_b109 (N : Nat) (rc : mS → Int32 → Int32 → Int32 → Int32 → Int32 → Option (mS × Int32)) (k34 : mS → Int32 → Int32 → Int32 → Int32 → Int32 → Option (mS × Int32)) (σ : mS) (x1 : Int32) (x2 : Int32) (x4 : Int32) (x5 : Int32) (x6 : Int32) : Option (mS × Int32) :=
  nmv (x6 + 1) fun x_21 =>
  k34 σ x1 x2 x4 x5 x_21
def fM_picks_b34 (N : Nat) (rc : mS → Int32 → Int32 → Int32 → Int32 → Int32 → Option (mS × Int32)) : Nat → mS → Int32 → Int32 → Int32 → Int32 → Int32 → Option (mS × Int32)
  | 0, _, _, _, _, _, _ => none
  | n + 1, σ, x1, x2, x4, x5, x6 =>
    nmv (σ.1 44) fun x_10 =>
    if x_10 ≤ x6 then (
      chb 0 (some (σ, 0)))
    else (
      chk x6 60 <| nmv (σ.2.1 45 x6.toNatClampNeg) fun x_12 =>
      if x_12 = x4 then (
        chk x6 60 <| nmv (mSj σ 45 x6.toNatClampNeg x5) fun σ_14 =>
        chk x1 10 <| nmv (mSj σ_14 53 x1.toNatClampNeg x6) fun σ_15 =>
        obi (rc σ_15 (x1 + 1) x2 (x6 + 1) x4 x5) fun σ_16 r_17 =>
        chk x6 60 <| nmv (mSj σ_16 45 x6.toNatClampNeg x4) fun σ_19 =>
        if r_17 = 0 then (
          fM_picks_b109 N rc (fM_picks_b34 N rc n) σ_19 x1 x2 x4 x5 x6)
        else (
          chb 1 (some (σ_19, 1))))
      else (
        fM_picks_b109 N rc (fM_picks_b34 N rc n) σ x1 x2 x4 x5 x6))
def fM_picks_e (N : Nat) (rc : mS → Int32 → Int32 → Int32 → Int32 → Int32 → Option (mS × Int32)) (σ : mS) (a0 : Int32) (a1 : Int32) (a2 : Int32) (a3 : Int32) (a4 : Int32) : Option (mS × Int32) :=
  if a0 = a1 then (
    if a3 = 1 then (
      obi (fM_goneBits N σ) fun σ_6 r_7 =>
      if r_7 = 0 then (
        chb 1 (some (σ_6, 1)))
      else (
        chb 0 (some (σ_6, 0))))
    else (
      obi (fM_isNeverApart N σ) fun σ_3 r_4 =>
      chb r_4 (some (σ_3, r_4))))
  else (
    fM_picks_b34 N rc N σ a0 a1 a3 a4 a2)
def fM_picks (N : Nat) : Nat → mS → Int32 → Int32 → Int32 → Int32 → Int32 → Option (mS × Int32)
  | 0, _, _, _, _, _, _ => none
  | d + 1, σ, a0, a1, a2, a3, a4 => fM_picks_e N (fM_picks N d) σ a0 a1 a2 a3 a4
theorem bM_picks_109 {N : Nat} {rc : mS → Int32 → Int32 → Int32 → Int32 → Int32 → Option (mS × Int32)} {fr lo : Nat} (C0 : mCx p s m args meth c cX2_picks 8 (some .boolean) L A) (hRo : fr + 6 ≤ R.frames ∧ lo + 133 ≤ R.locals) (hrc : ∀ {σ σ1 : mS} {a0 a1 a2 a3 a4 : Int32} {r : Int32}, rc σ a0 a1 a2 a3 a4 = some (σ1, r) → mMet l yX2_picks cX2_picks 8 (some .boolean) (fr) (lo) [.ref L.1, .int a0, .int a1, .int a2, .int a3, .int a4] L σ (some (.int r)) σ1) {σ' : mS} {r : Int32} {k34 : mS → Int32 → Int32 → Int32 → Int32 → Int32 → Option (mS × Int32)} (hk34 : ∀ (σ : mS) (x1 : Int32) (x2 : Int32) (x4 : Int32) (x5 : Int32) (x6 : Int32) (H : Heap) (locs : List Loc) (ls : Array Slot), mG A L s σ H locs → lv_has ls 8 [(0, .ref L.1), (1, .int x1), (2, .int x2), (4, .int x4), (5, .int x5), (6, .int x6)] → k34 σ x1 x2 x4 x5 x6 = some (σ', r) → W p l e R s m args below meth c H locs 0 0 (mZ below L A s args σ' (some (.int r))) (F0 m 34 ls [])) (σ : mS) (x1 : Int32) (x2 : Int32) (x4 : Int32) (x5 : Int32) (x6 : Int32) (H : Heap) (locs : List Loc) (ls : Array Slot) (hG : mG A L s σ H locs) (hl : lv_has ls 8 [(0, .ref L.1), (1, .int x1), (2, .int x2), (4, .int x4), (5, .int x5), (6, .int x6)]) (hF : fM_picks_b109 N rc k34 σ x1 x2 x4 x5 x6 = some (σ', r)) : W p l e R s m args below meth c H locs 0 0 (mZ below L A s args σ' (some (.int r))) (F0 m 109 ls []) := by
  have hx := C0.1
  have hb := C0.2.1
  unfold fM_picks_b109 at hF
  refine w_iinc hx hb dX2_picks_109 hl 5 rfl (v := 1) (by decide) (by decide) hF (fun x_21 ls hl hF => ?_)
  have hl : lv_has ls 8 [(6, .int x_21), (0, .ref L.1), (1, .int x1), (2, .int x2), (4, .int x4), (5, .int x5)] := hl
  refine lv_goto (tgt := 34) hx hb dX2_picks_112 (by decide) ?_
  exact hk34 _ _ _ _ _ _ H locs ls hG (lv_sub hl [1, 2, 3, 4, 5, 0] rfl) hF
theorem bM_picks_34 {N : Nat} {rc : mS → Int32 → Int32 → Int32 → Int32 → Int32 → Option (mS × Int32)} {fr lo : Nat} (C0 : mCx p s m args meth c cX2_picks 8 (some .boolean) L A) (hRo : fr + 6 ≤ R.frames ∧ lo + 133 ≤ R.locals) (hrc : ∀ {σ σ1 : mS} {a0 a1 a2 a3 a4 : Int32} {r : Int32}, rc σ a0 a1 a2 a3 a4 = some (σ1, r) → mMet l yX2_picks cX2_picks 8 (some .boolean) (fr) (lo) [.ref L.1, .int a0, .int a1, .int a2, .int a3, .int a4] L σ (some (.int r)) σ1) {σ' : mS} {r : Int32} : ∀ (n : Nat) (σ : mS) (x1 : Int32) (x2 : Int32) (x4 : Int32) (x5 : Int32) (x6 : Int32) (H : Heap) (locs : List Loc) (ls : Array Slot), mG A L s σ H locs → lv_has ls 8 [(0, .ref L.1), (1, .int x1), (2, .int x2), (4, .int x4), (5, .int x5), (6, .int x6)] → fM_picks_b34 N rc n σ x1 x2 x4 x5 x6 = some (σ', r) → W p l e R s m args below meth c H locs 0 0 (mZ below L A s args σ' (some (.int r))) (F0 m 34 ls []) := by
  have hx := C0.1
  have hb := C0.2.1
  intro n
  induction n with
  | zero => intro σ x1 x2 x4 x5 x6 H locs ls hG hl hF; cases hF
  | succ n ih =>
    intro σ x1 x2 x4 x5 x6 H locs ls hG hl hF
    unfold fM_picks_b34 at hF
    refine lv_iload hx hb dX2_picks_34 (lv_at hl 5 rfl) ?_
    refine lv_aload_n hx hb dX2_picks_36 rfl (lv_at hl 0 rfl) ?_
    refine m_geti C0 hG 44 (by decide) rfl q1622 dX2_picks_37 hF (fun x_10 hF => ?_)
    refine lv_icmp_ge (tgt := 115) hx hb dX2_picks_40 (by decide) (fun c_11 => ?_) (fun c_11 => ?_)
    · have hF := ifp hF c_11
      refine lv_iconst (v := 0) hx hb dX2_picks_115 (by decide) ?_
      exact m_zret C0 hG dX2_picks_116 hF
    · have hF := ifn hF c_11
      refine lv_aload_n hx hb dX2_picks_43 rfl (lv_at hl 0 rfl) ?_
      refine m_geta C0 hG 45 (by decide) rfl q1623 dX2_picks_44 ?_
      refine lv_iload hx hb dX2_picks_47 (lv_at hl 5 rfl) ?_
      refine m_ld C0 hG 45 ⟨by decide, rfl, by decide⟩ dX2_picks_49 hF (fun x_12 hF => ?_)
      refine lv_iload hx hb dX2_picks_50 (lv_at hl 3 rfl) ?_
      refine lv_icmp_eq (tgt := 58) hx hb dX2_picks_52 (by decide) (fun c_13 => ?_) (fun c_13 => ?_)
      · have hF := ifp hF c_13
        refine lv_aload_n hx hb dX2_picks_58 rfl (lv_at hl 0 rfl) ?_
        refine m_geta C0 hG 45 (by decide) rfl q1623 dX2_picks_59 ?_
        refine lv_iload hx hb dX2_picks_62 (lv_at hl 5 rfl) ?_
        refine lv_iload hx hb dX2_picks_64 (lv_at hl 4 rfl) ?_
        refine m_st C0 hG 45 ⟨by decide, rfl, by decide⟩ dX2_picks_66 hF (fun σ_14 H locs hG hF => ?_)
        refine lv_aload_n hx hb dX2_picks_67 rfl (lv_at hl 0 rfl) ?_
        refine m_geta C0 hG 53 (by decide) rfl q1631 dX2_picks_68 ?_
        refine lv_iload_n hx hb dX2_picks_71 rfl (lv_at hl 1 rfl) ?_
        refine lv_iload hx hb dX2_picks_72 (lv_at hl 5 rfl) ?_
        refine m_st C0 hG 53 ⟨by decide, rfl, by decide⟩ dX2_picks_74 hF (fun σ_15 H locs hG hF => ?_)
        refine lv_aload_n hx hb dX2_picks_75 rfl (lv_at hl 0 rfl) ?_
        refine lv_iload_n hx hb dX2_picks_76 rfl (lv_at hl 1 rfl) ?_
        refine lv_iconst (v := 1) hx hb dX2_picks_77 (by decide) ?_
        refine lv_iadd hx hb dX2_picks_78 ?_
        refine lv_iload_n hx hb dX2_picks_79 rfl (lv_at hl 2 rfl) ?_
        refine lv_iload hx hb dX2_picks_80 (lv_at hl 5 rfl) ?_
        refine lv_iconst (v := 1) hx hb dX2_picks_82 (by decide) ?_
        refine lv_iadd hx hb dX2_picks_83 ?_
        refine lv_iload hx hb dX2_picks_84 (lv_at hl 3 rfl) ?_
        refine lv_iload hx hb dX2_picks_86 (lv_at hl 4 rfl) ?_
        obtain ⟨σ_16, r_17, e_18, hF⟩ := obi_of hF
        refine m_cVi (As := [.int (x1 + 1), .int x2, .int (x6 + 1), .int x4, .int x5]) (rest := []) C0 hG (hrc e_18) (lw_V q1963 q1965 qs85 q102 q1966) yd_X2_picks ⟨by omega, by omega⟩ rfl rfl hl.1 (Nat.le_of_ble_eq_true rfl) dX2_picks_88 (fun H locs hG => ?_)
        refine lv_istore (lv' := [(7, .int r_17), (0, .ref L.1), (1, .int x1), (2, .int x2), (4, .int x4), (5, .int x5), (6, .int x6)]) hx hb dX2_picks_91 hl (by decide) rfl (fun ls hl => ?_)
        refine lv_aload_n hx hb dX2_picks_93 rfl (lv_at hl 1 rfl) ?_
        refine m_geta C0 hG 45 (by decide) rfl q1623 dX2_picks_94 ?_
        refine lv_iload hx hb dX2_picks_97 (lv_at hl 6 rfl) ?_
        refine lv_iload hx hb dX2_picks_99 (lv_at hl 4 rfl) ?_
        refine m_st C0 hG 45 ⟨by decide, rfl, by decide⟩ dX2_picks_101 hF (fun σ_19 H locs hG hF => ?_)
        refine lv_iload hx hb dX2_picks_102 (lv_at hl 0 rfl) ?_
        refine lv_if_eq (tgt := 109) hx hb dX2_picks_104 (by decide) (fun c_20 => ?_) (fun c_20 => ?_)
        · have hF := ifp hF c_20
          exact bM_picks_109 C0 hRo hrc ih _ _ _ _ _ _ H locs ls hG (lv_sub hl [1, 2, 3, 4, 5, 6] rfl) hF
        · have hF := ifn hF c_20
          refine lv_iconst (v := 1) hx hb dX2_picks_107 (by decide) ?_
          exact m_zret C0 hG dX2_picks_108 hF
      · have hF := ifn hF c_13
        refine lv_goto (tgt := 109) hx hb dX2_picks_55 (by decide) ?_
        exact bM_picks_109 C0 hRo hrc ih _ _ _ _ _ _ H locs ls hG (lv_sub hl [0, 1, 2, 3, 4, 5] rfl) hF
theorem bM_picks_e {N : Nat} {rc : mS → Int32 → Int32 → Int32 → Int32 → Int32 → Option (mS × Int32)} {fr lo : Nat} (C0 : mCx p s m args meth c cX2_picks 8 (some .boolean) L A) (hRo : fr + 6 ≤ R.frames ∧ lo + 133 ≤ R.locals) (hrc : ∀ {σ σ1 : mS} {a0 a1 a2 a3 a4 : Int32} {r : Int32}, rc σ a0 a1 a2 a3 a4 = some (σ1, r) → mMet l yX2_picks cX2_picks 8 (some .boolean) (fr) (lo) [.ref L.1, .int a0, .int a1, .int a2, .int a3, .int a4] L σ (some (.int r)) σ1) {σ' : mS} {r : Int32} (σ : mS) (a0 : Int32) (a1 : Int32) (a2 : Int32) (a3 : Int32) (a4 : Int32) (H : Heap) (locs : List Loc) (ls : Array Slot) (hG : mG A L s σ H locs) (hl : lv_has ls 8 [(0, .ref L.1), (1, .int a0), (2, .int a1), (3, .int a2), (4, .int a3), (5, .int a4)]) (hF : fM_picks_e N rc σ a0 a1 a2 a3 a4 = some (σ', r)) : W p l e R s m args below meth c H locs 0 0 (mZ below L A s args σ' (some (.int r))) (F0 m 0 ls []) := by
  have hx := C0.1
  have hb := C0.2.1
  unfold fM_picks_e at hF
  refine lv_iload_n hx hb dX2_picks_0 rfl (lv_at hl 1 rfl) ?_
  refine lv_iload_n hx hb dX2_picks_1 rfl (lv_at hl 2 rfl) ?_
  refine lv_icmp_ne (tgt := 31) hx hb dX2_picks_2 (by decide) (fun c_1 => ?_) (fun c_1 => ?_)
  · have hF := ifn hF c_1
    refine lv_iload_n hx hb dX2_picks_31 rfl (lv_at hl 3 rfl) ?_
    refine lv_istore (lv' := [(6, .int a2), (0, .ref L.1), (1, .int a0), (2, .int a1), (3, .int a2), (4, .int a3), (5, .int a4)]) hx hb dX2_picks_32 hl (by decide) rfl (fun ls hl => ?_)
    exact bM_picks_34 C0 hRo hrc N _ _ _ _ _ _ H locs ls hG (lv_sub hl [1, 2, 3, 5, 6, 0] rfl) hF
  · have hF := ifp hF c_1
    refine lv_iload hx hb dX2_picks_5 (lv_at hl 4 rfl) ?_
    refine lv_iconst (v := 1) hx hb dX2_picks_7 (by decide) ?_
    refine lv_icmp_ne (tgt := 26) hx hb dX2_picks_8 (by decide) (fun c_2 => ?_) (fun c_2 => ?_)
    · have hF := ifn hF c_2
      refine lv_aload_n hx hb dX2_picks_26 rfl (lv_at hl 0 rfl) ?_
      obtain ⟨σ_3, r_4, e_5, hF⟩ := obi_of hF
      refine m_cVi (As := []) (rest := []) C0 hG (mtM_isNeverApart l e_5) (lw_V q1967 q1969 qs86 q102 q1970) yd_X2_isNeverApart ⟨by omega, by omega⟩ rfl rfl hl.1 (Nat.le_of_ble_eq_true rfl) dX2_picks_27 (fun H locs hG => ?_)
      exact m_zret C0 hG dX2_picks_30 hF
    · have hF := ifp hF c_2
      refine lv_aload_n hx hb dX2_picks_11 rfl (lv_at hl 0 rfl) ?_
      obtain ⟨σ_6, r_7, e_8, hF⟩ := obi_of hF
      refine m_cVi (As := []) (rest := []) C0 hG (mtM_goneBits l e_8) (lw_V q1940 q1942 qs82 q102 q1943) yd_X2_goneBits ⟨by omega, by omega⟩ rfl rfl hl.1 (Nat.le_of_ble_eq_true rfl) dX2_picks_12 (fun H locs hG => ?_)
      refine lv_if_ne (tgt := 22) hx hb dX2_picks_15 (by decide) (fun c_9 => ?_) (fun c_9 => ?_)
      · have hF := ifn hF c_9
        refine lv_iconst (v := 0) hx hb dX2_picks_22 (by decide) ?_
        refine lv_goto (tgt := 30) hx hb dX2_picks_23 (by decide) ?_
        exact m_zret C0 hG dX2_picks_30 hF
      · have hF := ifp hF c_9
        refine lv_iconst (v := 1) hx hb dX2_picks_18 (by decide) ?_
        refine lv_goto (tgt := 30) hx hb dX2_picks_19 (by decide) ?_
        exact m_zret C0 hG dX2_picks_30 hF
theorem mtM_picks_e (l : Launch) {N : Nat} {L : mL} {rc : mS → Int32 → Int32 → Int32 → Int32 → Int32 → Option (mS × Int32)} {fr lo : Nat} (hrc : ∀ {σ σ1 : mS} {a0 a1 a2 a3 a4 : Int32} {r : Int32}, rc σ a0 a1 a2 a3 a4 = some (σ1, r) → mMet l yX2_picks cX2_picks 8 (some .boolean) (fr) (lo) [.ref L.1, .int a0, .int a1, .int a2, .int a3, .int a4] L σ (some (.int r)) σ1) {σ σ' : mS} {r : Int32} {a0 : Int32} {a1 : Int32} {a2 : Int32} {a3 : Int32} {a4 : Int32} (hF : fM_picks_e N rc σ a0 a1 a2 a3 a4 = some (σ', r)) : mMet l yX2_picks cX2_picks 8 (some .boolean) (fr + 6) (lo + 133) [.ref L.1, .int a0, .int a1, .int a2, .int a3, .int a4] L σ (some (.int r)) σ' := by
  refine m_head (by decide) rfl ?_
  intro p e s m below meth c A C0 hG
  have hl := lv_entry ([.ref L.1, .int a0, .int a1, .int a2, .int a3, .int a4]) (n := 8) (Nat.le_of_ble_eq_true rfl)
  rw [lg_entry_eq]
  generalize (lg_sl ([.ref L.1, .int a0, .int a1, .int a2, .int a3, .int a4]) ++ List.replicate (8 - (lg_sl ([.ref L.1, .int a0, .int a1, .int a2, .int a3, .int a4])).length) Slot.unset).toArray = ls at hl ⊢
  have hl : lv_has ls 8 [(0, .ref L.1), (1, .int a0), (2, .int a1), (3, .int a2), (4, .int a3), (5, .int a4)] := hl
  exact bM_picks_e C0 ⟨Nat.le_refl _, Nat.le_refl _⟩ hrc _ _ _ _ _ _ _ [] ls hG hl hF
theorem mtM_picks (l : Launch) {N : Nat} {L : mL} : ∀ (d : Nat) {σ σ' : mS} { a0 a1 a2 a3 a4 r : Int32}, fM_picks N d σ a0 a1 a2 a3 a4 = some (σ', r) → mMet l yX2_picks cX2_picks 8 (some .boolean) (6 * d) (133 * d) [.ref L.1, .int a0, .int a1, .int a2, .int a3, .int a4] L σ (some (.int r)) σ' := by
  intro d
  induction d with
  | zero => intro σ σ' a0 a1 a2 a3 a4 r hF; cases hF
  | succ d ih =>
    intro σ σ' a0 a1 a2 a3 a4 r hF
    unfold fM_picks at hF
    simp only [Nat.mul_succ]
    exact mtM_picks_e l ih hF
def fM_fewest_b77 (N : Nat) (σ : mS) (x2 : Int32) (x6 : Int32) : Option (mS × Int32) :=
  if x6 = 11 then (
    some (σ, (-2)))
  else (
    if x2 = (-1) then (
      some (σ, x6))
    else (
      if x6 ≤ x2 then (
        some (σ, (-2)))
      else (
        chk x2 10 <| nmv (σ.2.1 53 x2.toNatClampNeg) fun x_24 =>
        some (σ, x_24))))
def fM_fewest_b50 (N : Nat) : Nat → mS → Int32 → Int32 → Int32 → Int32 → Option (mS × Int32)
  | 0, _, _, _, _, _ => none
  | n + 1, σ, x2, x3, x4, x6 =>
    if 11 ≤ x6 then (
      fM_fewest_b77 N σ x2 x6)
    else (
      obi (fM_picks N 13 σ 0 x6 0 x3 x4) fun σ_16 r_17 =>
      if r_17 = 0 then (
        nmv (x6 + 1) fun x_20 =>
        (fM_fewest_b50 N n) σ_16 x2 x3 x4 x_20)
      else (
        fM_fewest_b77 N σ_16 x2 x6))
def fM_fewest (N : Nat) (σ : mS) (a0 : Int32) (a1 : Int32) (a2 : Int32) (a3 : Int32) : Option (mS × Int32) :=
  obi (fM_isShelf N σ a0) fun σ_1 r_2 =>
  if r_2 = 0 then (
    some (σ_1, (-1)))
  else (
    if (-1) ≤ a1 then (
      obi (fM_noRow N σ_1 a0 0) fun σ_6 r_7 =>
      if 0 ≤ r_7 then (
        obi (fM_reads N σ_6 a0) fun σ_10 r_11 =>
        nmv (σ_10.1 44) fun x_13 =>
        if x_13 ≤ 16 then (
          fM_fewest_b50 N N σ_10 a1 a2 a3 0)
        else (
          some (σ_10, (-5))))
      else (
        some (σ_6, r_7)))
    else (
      some (σ_1, (-1))))
theorem bM_fewest_77 {N : Nat} (C0 : mCx p s m args meth c cX2_fewest 7 (some .int) L A) (hRo : 79 ≤ R.frames ∧ 1756 ≤ R.locals) {σ' : mS} {r : Int32} (σ : mS) (x2 : Int32) (x6 : Int32) (H : Heap) (locs : List Loc) (ls : Array Slot) (hG : mG A L s σ H locs) (hl : lv_has ls 7 [(0, .ref L.1), (2, .int x2), (6, .int x6)]) (hF : fM_fewest_b77 N σ x2 x6 = some (σ', r)) : W p l e R s m args below meth c H locs 0 0 (mZ below L A s args σ' (some (.int r))) (F0 m 77 ls []) := by
  have hx := C0.1
  have hb := C0.2.1
  unfold fM_fewest_b77 at hF
  refine lv_iload hx hb dX2_fewest_77 (lv_at hl 2 rfl) ?_
  refine lv_bipush (v := 11) hx hb dX2_fewest_79 (by decide) ?_
  refine lv_icmp_ne (tgt := 87) hx hb dX2_fewest_81 (by decide) (fun c_21 => ?_) (fun c_21 => ?_)
  · have hF := ifn hF c_21
    refine lv_iload_n hx hb dX2_fewest_87 rfl (lv_at hl 1 rfl) ?_
    refine lv_iconst (v := (-1)) hx hb dX2_fewest_88 (by decide) ?_
    refine lv_icmp_ne (tgt := 97) hx hb dX2_fewest_89 (by decide) (fun c_22 => ?_) (fun c_22 => ?_)
    · have hF := ifn hF c_22
      refine lv_iload_n hx hb dX2_fewest_97 rfl (lv_at hl 1 rfl) ?_
      refine lv_iload hx hb dX2_fewest_98 (lv_at hl 2 rfl) ?_
      refine lv_icmp_ge (tgt := 112) hx hb dX2_fewest_100 (by decide) (fun c_23 => ?_) (fun c_23 => ?_)
      · have hF := ifp hF c_23
        refine lv_bipush (v := (-2)) hx hb dX2_fewest_112 (by decide) ?_
        exact m_iret C0 hG dX2_fewest_114 hF
      · have hF := ifn hF c_23
        refine lv_aload_n hx hb dX2_fewest_103 rfl (lv_at hl 0 rfl) ?_
        refine m_geta C0 hG 53 (by decide) rfl q1631 dX2_fewest_104 ?_
        refine lv_iload_n hx hb dX2_fewest_107 rfl (lv_at hl 1 rfl) ?_
        refine m_ld C0 hG 53 ⟨by decide, rfl, by decide⟩ dX2_fewest_108 hF (fun x_24 hF => ?_)
        refine lv_goto (tgt := 114) hx hb dX2_fewest_109 (by decide) ?_
        exact m_iret C0 hG dX2_fewest_114 hF
    · have hF := ifp hF c_22
      refine lv_iload hx hb dX2_fewest_92 (lv_at hl 2 rfl) ?_
      refine lv_goto (tgt := 114) hx hb dX2_fewest_94 (by decide) ?_
      exact m_iret C0 hG dX2_fewest_114 hF
  · have hF := ifp hF c_21
    refine lv_bipush (v := (-2)) hx hb dX2_fewest_84 (by decide) ?_
    exact m_iret C0 hG dX2_fewest_86 hF
theorem bM_fewest_50 {N : Nat} (C0 : mCx p s m args meth c cX2_fewest 7 (some .int) L A) (hRo : 79 ≤ R.frames ∧ 1756 ≤ R.locals) {σ' : mS} {r : Int32} : ∀ (n : Nat) (σ : mS) (x2 : Int32) (x3 : Int32) (x4 : Int32) (x6 : Int32) (H : Heap) (locs : List Loc) (ls : Array Slot), mG A L s σ H locs → lv_has ls 7 [(0, .ref L.1), (2, .int x2), (3, .int x3), (4, .int x4), (6, .int x6)] → fM_fewest_b50 N n σ x2 x3 x4 x6 = some (σ', r) → W p l e R s m args below meth c H locs 0 0 (mZ below L A s args σ' (some (.int r))) (F0 m 50 ls []) := by
  have hx := C0.1
  have hb := C0.2.1
  intro n
  induction n with
  | zero => intro σ x2 x3 x4 x6 H locs ls hG hl hF; cases hF
  | succ n ih =>
    intro σ x2 x3 x4 x6 H locs ls hG hl hF
    unfold fM_fewest_b50 at hF
    refine lv_iload hx hb dX2_fewest_50 (lv_at hl 4 rfl) ?_
    refine lv_bipush (v := 11) hx hb dX2_fewest_52 (by decide) ?_
    refine lv_icmp_ge (tgt := 77) hx hb dX2_fewest_54 (by decide) (fun c_15 => ?_) (fun c_15 => ?_)
    · have hF := ifp hF c_15
      exact bM_fewest_77 C0 hRo _ _ _ H locs ls hG (lv_sub hl [0, 1, 4] rfl) hF
    · have hF := ifn hF c_15
      refine lv_aload_n hx hb dX2_fewest_57 rfl (lv_at hl 0 rfl) ?_
      refine lv_iconst (v := 0) hx hb dX2_fewest_58 (by decide) ?_
      refine lv_iload hx hb dX2_fewest_59 (lv_at hl 4 rfl) ?_
      refine lv_iconst (v := 0) hx hb dX2_fewest_61 (by decide) ?_
      refine lv_iload_n hx hb dX2_fewest_62 rfl (lv_at hl 2 rfl) ?_
      refine lv_iload hx hb dX2_fewest_63 (lv_at hl 3 rfl) ?_
      obtain ⟨σ_16, r_17, e_18, hF⟩ := obi_of hF
      refine m_cVi (As := [.int 0, .int x6, .int 0, .int x3, .int x4]) (rest := []) C0 hG (mtM_picks l 13 e_18) (lw_V q1963 q1965 qs85 q102 q1966) yd_X2_picks ⟨by omega, by omega⟩ rfl rfl hl.1 (Nat.le_of_ble_eq_true rfl) dX2_fewest_65 (fun H locs hG => ?_)
      refine lv_if_ne (tgt := 77) hx hb dX2_fewest_68 (by decide) (fun c_19 => ?_) (fun c_19 => ?_)
      · have hF := ifn hF c_19
        exact bM_fewest_77 C0 hRo _ _ _ H locs ls hG (lv_sub hl [0, 1, 4] rfl) hF
      · have hF := ifp hF c_19
        refine w_iinc hx hb dX2_fewest_71 hl 4 rfl (v := 1) (by decide) (by decide) hF (fun x_20 ls hl hF => ?_)
        have hl : lv_has ls 7 [(6, .int x_20), (0, .ref L.1), (2, .int x2), (3, .int x3), (4, .int x4)] := hl
        refine lv_goto (tgt := 50) hx hb dX2_fewest_74 (by decide) ?_
        exact ih _ _ _ _ _ H locs ls hG (lv_sub hl [1, 2, 3, 4, 0] rfl) hF
theorem bM_fewest_e {N : Nat} (C0 : mCx p s m args meth c cX2_fewest 7 (some .int) L A) (hRo : 79 ≤ R.frames ∧ 1756 ≤ R.locals) {σ' : mS} {r : Int32} (σ : mS) (a0 : Int32) (a1 : Int32) (a2 : Int32) (a3 : Int32) (H : Heap) (locs : List Loc) (ls : Array Slot) (hG : mG A L s σ H locs) (hl : lv_has ls 7 [(0, .ref L.1), (1, .int a0), (2, .int a1), (3, .int a2), (4, .int a3)]) (hF : fM_fewest N σ a0 a1 a2 a3 = some (σ', r)) : W p l e R s m args below meth c H locs 0 0 (mZ below L A s args σ' (some (.int r))) (F0 m 0 ls []) := by
  have hx := C0.1
  have hb := C0.2.1
  unfold fM_fewest at hF
  refine lv_iload_n hx hb dX2_fewest_0 rfl (lv_at hl 1 rfl) ?_
  obtain ⟨σ_1, r_2, e_3, hF⟩ := obi_of hF
  refine m_cSi (As := [.int a0]) (rest := []) C0 hG (mtM_isShelf l e_3) (lw_S q1762 q1763 q102 q1764) yd_X2_isShelf ⟨by omega, by omega⟩ rfl rfl hl.1 (Nat.le_of_ble_eq_true rfl) dX2_fewest_1 (fun H locs hG => ?_)
  refine lv_if_eq (tgt := 12) hx hb dX2_fewest_4 (by decide) (fun c_4 => ?_) (fun c_4 => ?_)
  · have hF := ifp hF c_4
    refine lv_iconst (v := (-1)) hx hb dX2_fewest_12 (by decide) ?_
    exact m_iret C0 hG dX2_fewest_13 hF
  · have hF := ifn hF c_4
    refine lv_iload_n hx hb dX2_fewest_7 rfl (lv_at hl 2 rfl) ?_
    refine lv_iconst (v := (-1)) hx hb dX2_fewest_8 (by decide) ?_
    refine lv_icmp_ge (tgt := 14) hx hb dX2_fewest_9 (by decide) (fun c_5 => ?_) (fun c_5 => ?_)
    · have hF := ifp hF c_5
      refine lv_aload_n hx hb dX2_fewest_14 rfl (lv_at hl 0 rfl) ?_
      refine lv_iload_n hx hb dX2_fewest_15 rfl (lv_at hl 1 rfl) ?_
      refine lv_iconst (v := 0) hx hb dX2_fewest_16 (by decide) ?_
      obtain ⟨σ_6, r_7, e_8, hF⟩ := obi_of hF
      refine m_cVi (As := [.int a0, .int 0]) (rest := []) C0 hG (mtM_noRow l e_8) (lw_V q1883 q1885 qs71 q102 q1886) yd_X2_noRow ⟨by omega, by omega⟩ rfl rfl hl.1 (Nat.le_of_ble_eq_true rfl) dX2_fewest_17 (fun H locs hG => ?_)
      refine lv_istore (lv' := [(5, .int r_7), (0, .ref L.1), (1, .int a0), (2, .int a1), (3, .int a2), (4, .int a3)]) hx hb dX2_fewest_20 hl (by decide) rfl (fun ls hl => ?_)
      refine lv_iload hx hb dX2_fewest_22 (lv_at hl 0 rfl) ?_
      refine lv_if_ge (tgt := 30) hx hb dX2_fewest_24 (by decide) (fun c_9 => ?_) (fun c_9 => ?_)
      · have hF := ifp hF c_9
        refine lv_aload_n hx hb dX2_fewest_30 rfl (lv_at hl 1 rfl) ?_
        refine lv_iload_n hx hb dX2_fewest_31 rfl (lv_at hl 2 rfl) ?_
        obtain ⟨σ_10, r_11, e_12, hF⟩ := obi_of hF
        refine m_cVv (As := [.int a0]) (rest := []) C0 hG (mtM_reads l e_12) (lw_V q1887 q1889 qs72 q102 q1890) yd_X2_reads ⟨by omega, by omega⟩ rfl rfl hl.1 (Nat.le_of_ble_eq_true rfl) dX2_fewest_32 (fun H locs hG => ?_)
        refine lv_aload_n hx hb dX2_fewest_35 rfl (lv_at hl 1 rfl) ?_
        refine m_geti C0 hG 44 (by decide) rfl q1622 dX2_fewest_36 hF (fun x_13 hF => ?_)
        refine lv_bipush (v := 16) hx hb dX2_fewest_39 (by decide) ?_
        refine lv_icmp_le (tgt := 47) hx hb dX2_fewest_41 (by decide) (fun c_14 => ?_) (fun c_14 => ?_)
        · have hF := ifp hF c_14
          refine lv_iconst (v := 0) hx hb dX2_fewest_47 (by decide) ?_
          refine lv_istore (lv' := [(6, .int 0), (5, .int r_7), (0, .ref L.1), (1, .int a0), (2, .int a1), (3, .int a2), (4, .int a3)]) hx hb dX2_fewest_48 hl (by decide) rfl (fun ls hl => ?_)
          exact bM_fewest_50 C0 hRo N _ _ _ _ _ H locs ls hG (lv_sub hl [2, 4, 5, 6, 0] rfl) hF
        · have hF := ifn hF c_14
          refine lv_bipush (v := (-5)) hx hb dX2_fewest_44 (by decide) ?_
          exact m_iret C0 hG dX2_fewest_46 hF
      · have hF := ifn hF c_9
        refine lv_iload hx hb dX2_fewest_27 (lv_at hl 0 rfl) ?_
        exact m_iret C0 hG dX2_fewest_29 hF
    · have hF := ifn hF c_5
      refine lv_iconst (v := (-1)) hx hb dX2_fewest_12 (by decide) ?_
      exact m_iret C0 hG dX2_fewest_13 hF
theorem mtM_fewest (l : Launch) {N : Nat} {L : mL} {σ σ' : mS} {r : Int32} {a0 : Int32} {a1 : Int32} {a2 : Int32} {a3 : Int32} (hF : fM_fewest N σ a0 a1 a2 a3 = some (σ', r)) : mMet l yX2_fewest cX2_fewest 7 (some .int) (79) (1756) [.ref L.1, .int a0, .int a1, .int a2, .int a3] L σ (some (.int r)) σ' := by
  refine m_head (by decide) rfl ?_
  intro p e s m below meth c A C0 hG
  have hl := lv_entry ([.ref L.1, .int a0, .int a1, .int a2, .int a3]) (n := 7) (Nat.le_of_ble_eq_true rfl)
  rw [lg_entry_eq]
  generalize (lg_sl ([.ref L.1, .int a0, .int a1, .int a2, .int a3]) ++ List.replicate (7 - (lg_sl ([.ref L.1, .int a0, .int a1, .int a2, .int a3])).length) Slot.unset).toArray = ls at hl ⊢
  have hl : lv_has ls 7 [(0, .ref L.1), (1, .int a0), (2, .int a1), (3, .int a2), (4, .int a3)] := hl
  exact bM_fewest_e C0 ⟨Nat.le_refl _, Nat.le_refl _⟩ _ _ _ _ _ _ [] ls hG hl hF
def fM_gasps (N : Nat) (σ : mS) (a0 : Int32) (a1 : Int32) : Option (mS × Int32) :=
  obi (fM_fewest N σ a0 a1 1 0) fun σ_1 r_2 =>
  some (σ_1, r_2)
theorem bM_gasps_e {N : Nat} (C0 : mCx p s m args meth c cX2_gasps 3 (some .int) L A) (hRo : 80 ≤ R.frames ∧ 1782 ≤ R.locals) {σ' : mS} {r : Int32} (σ : mS) (a0 : Int32) (a1 : Int32) (H : Heap) (locs : List Loc) (ls : Array Slot) (hG : mG A L s σ H locs) (hl : lv_has ls 3 [(0, .ref L.1), (1, .int a0), (2, .int a1)]) (hF : fM_gasps N σ a0 a1 = some (σ', r)) : W p l e R s m args below meth c H locs 0 0 (mZ below L A s args σ' (some (.int r))) (F0 m 0 ls []) := by
  have hx := C0.1
  have hb := C0.2.1
  unfold fM_gasps at hF
  refine lv_aload_n hx hb dX2_gasps_0 rfl (lv_at hl 0 rfl) ?_
  refine lv_iload_n hx hb dX2_gasps_1 rfl (lv_at hl 1 rfl) ?_
  refine lv_iload_n hx hb dX2_gasps_2 rfl (lv_at hl 2 rfl) ?_
  refine lv_iconst (v := 1) hx hb dX2_gasps_3 (by decide) ?_
  refine lv_iconst (v := 0) hx hb dX2_gasps_4 (by decide) ?_
  obtain ⟨σ_1, r_2, e_3, hF⟩ := obi_of hF
  refine m_cVi (As := [.int a0, .int a1, .int 1, .int 0]) (rest := []) C0 hG (mtM_fewest l e_3) (lw_V q1959 q1961 qs84 q102 q1962) yd_X2_fewest ⟨by omega, by omega⟩ rfl rfl hl.1 (Nat.le_of_ble_eq_true rfl) dX2_gasps_5 (fun H locs hG => ?_)
  exact m_iret C0 hG dX2_gasps_8 hF
theorem mtM_gasps (l : Launch) {N : Nat} {L : mL} {σ σ' : mS} {r : Int32} {a0 : Int32} {a1 : Int32} (hF : fM_gasps N σ a0 a1 = some (σ', r)) : mMet l yX2_gasps cX2_gasps 3 (some .int) (80) (1782) [.ref L.1, .int a0, .int a1] L σ (some (.int r)) σ' := by
  refine m_head (by decide) rfl ?_
  intro p e s m below meth c A C0 hG
  have hl := lv_entry ([.ref L.1, .int a0, .int a1]) (n := 3) (Nat.le_of_ble_eq_true rfl)
  rw [lg_entry_eq]
  generalize (lg_sl ([.ref L.1, .int a0, .int a1]) ++ List.replicate (3 - (lg_sl ([.ref L.1, .int a0, .int a1])).length) Slot.unset).toArray = ls at hl ⊢
  have hl : lv_has ls 3 [(0, .ref L.1), (1, .int a0), (2, .int a1)] := hl
  exact bM_gasps_e C0 ⟨Nat.le_refl _, Nat.le_refl _⟩ _ _ _ _ [] ls hG hl hF
def fM_looks (N : Nat) (σ : mS) (a0 : Int32) (a1 : Int32) : Option (mS × Int32) :=
  obi (fM_fewest N σ a0 a1 0 4) fun σ_1 r_2 =>
  some (σ_1, r_2)
theorem bM_looks_e {N : Nat} (C0 : mCx p s m args meth c cX2_looks 3 (some .int) L A) (hRo : 80 ≤ R.frames ∧ 1782 ≤ R.locals) {σ' : mS} {r : Int32} (σ : mS) (a0 : Int32) (a1 : Int32) (H : Heap) (locs : List Loc) (ls : Array Slot) (hG : mG A L s σ H locs) (hl : lv_has ls 3 [(0, .ref L.1), (1, .int a0), (2, .int a1)]) (hF : fM_looks N σ a0 a1 = some (σ', r)) : W p l e R s m args below meth c H locs 0 0 (mZ below L A s args σ' (some (.int r))) (F0 m 0 ls []) := by
  have hx := C0.1
  have hb := C0.2.1
  unfold fM_looks at hF
  refine lv_aload_n hx hb dX2_looks_0 rfl (lv_at hl 0 rfl) ?_
  refine lv_iload_n hx hb dX2_looks_1 rfl (lv_at hl 1 rfl) ?_
  refine lv_iload_n hx hb dX2_looks_2 rfl (lv_at hl 2 rfl) ?_
  refine lv_iconst (v := 0) hx hb dX2_looks_3 (by decide) ?_
  refine lv_iconst (v := 4) hx hb dX2_looks_4 (by decide) ?_
  obtain ⟨σ_1, r_2, e_3, hF⟩ := obi_of hF
  refine m_cVi (As := [.int a0, .int a1, .int 0, .int 4]) (rest := []) C0 hG (mtM_fewest l e_3) (lw_V q1959 q1961 qs84 q102 q1962) yd_X2_fewest ⟨by omega, by omega⟩ rfl rfl hl.1 (Nat.le_of_ble_eq_true rfl) dX2_looks_5 (fun H locs hG => ?_)
  exact m_iret C0 hG dX2_looks_8 hF
theorem mtM_looks (l : Launch) {N : Nat} {L : mL} {σ σ' : mS} {r : Int32} {a0 : Int32} {a1 : Int32} (hF : fM_looks N σ a0 a1 = some (σ', r)) : mMet l yX2_looks cX2_looks 3 (some .int) (80) (1782) [.ref L.1, .int a0, .int a1] L σ (some (.int r)) σ' := by
  refine m_head (by decide) rfl ?_
  intro p e s m below meth c A C0 hG
  have hl := lv_entry ([.ref L.1, .int a0, .int a1]) (n := 3) (Nat.le_of_ble_eq_true rfl)
  rw [lg_entry_eq]
  generalize (lg_sl ([.ref L.1, .int a0, .int a1]) ++ List.replicate (3 - (lg_sl ([.ref L.1, .int a0, .int a1])).length) Slot.unset).toArray = ls at hl ⊢
  have hl : lv_has ls 3 [(0, .ref L.1), (1, .int a0), (2, .int a1)] := hl
  exact bM_looks_e C0 ⟨Nat.le_refl _, Nat.le_refl _⟩ _ _ _ _ [] ls hG hl hF
end MWALK7
