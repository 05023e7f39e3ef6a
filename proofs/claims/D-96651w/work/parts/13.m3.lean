section MWALK3
variable {p : Program} {l : Launch} {e : Env} {R : Room} {s : State} {m : MethodId} {args : Array Value} {below : List Frame} {meth : Method} {c : Code} {A : Nat → Prop}
variable {L : mL}
def fM_isO_b214 (N : Nat) (rc : mS → Option (mS × Int32)) (σ : mS) (x2 : Int32) : Option (mS × Int32) :=
  nmv (σ.1 19) fun x_68 =>
  nmv (mSi σ 19 (x_68 - 1)) fun σ_69 =>
  chb x2 (some (σ_69, x2))
def fM_isO_b213 (N : Nat) (rc : mS → Option (mS × Int32)) (σ : mS) (y0 : Int32) : Option (mS × Int32) :=
  fM_isO_b214 N rc σ y0
def fM_isO_b212 (N : Nat) (rc : mS → Option (mS × Int32)) (σ : mS) : Option (mS × Int32) :=
  fM_isO_b213 N rc σ 0
def fM_isO_b179 (N : Nat) (rc : mS → Option (mS × Int32)) (σ : mS) (y0 : Int32) : Option (mS × Int32) :=
  fM_isO_b214 N rc σ y0
def fM_isO_b178 (N : Nat) (rc : mS → Option (mS × Int32)) (σ : mS) : Option (mS × Int32) :=
  fM_isO_b179 N rc σ 0
def fM_isO_b145 (N : Nat) (rc : mS → Option (mS × Int32)) (σ : mS) (y0 : Int32) : Option (mS × Int32) :=
  fM_isO_b214 N rc σ y0
def fM_isO_b144 (N : Nat) (rc : mS → Option (mS × Int32)) (σ : mS) : Option (mS × Int32) :=
  fM_isO_b145 N rc σ 0
def fM_isO_b57 (N : Nat) (rc : mS → Option (mS × Int32)) (σ : mS) (x1 : Int32) : Option (mS × Int32) :=
  obi (fM_codes N σ ((18 : Int32) + x1)) fun σ_70 r_71 =>
  chb r_71 (some (σ_70, r_71))
def fM_isO_b11 (N : Nat) (rc : mS → Option (mS × Int32)) : Nat → mS → Int32 → Int32 → Option (mS × Int32)
  | 0, _, _, _ => none
  | n + 1, σ, x1, x2 =>
    if 4 ≤ x2 then (
      fM_isO_b57 N rc σ x1)
    else (
      obi (fM_isDigit N σ) fun σ_58 r_59 =>
      if r_59 = 0 then (
        fM_isO_b57 N rc σ_58 x1)
      else (
        nmv (σ_58.1 18) fun x_62 =>
        chk x_62 120 <| nmv (σ_58.2.1 11 x_62.toNatClampNeg) fun x_63 =>
        nmv ((((10 : Int32) * x1) + x_63) - 48) fun x_64 =>
        nmv (σ_58.1 18) fun x_65 =>
        nmv (mSi σ_58 18 (x_65 + 1)) fun σ_66 =>
        nmv (x2 + 1) fun x_67 =>
        (fM_isO_b11 N rc n) σ_66 x_64 x_67))
def fM_isO_e (N : Nat) (rc : mS → Option (mS × Int32)) (σ : mS) : Option (mS × Int32) :=
  obi (fM_isDigit N σ) fun σ_1 r_2 =>
  if r_2 = 0 then (
    obi (fM_sign N σ_1) fun σ_5 r_6 =>
    obi (fM_nameOf N σ_5 r_6) fun σ_8 r_9 =>
    if r_9 < 0 then (
      nmv (σ_8.1 19) fun x_12 =>
      if x_12 = 6 then (
        chb 0 (some (σ_8, 0)))
      else (
        nmv (σ_8.1 19) fun x_14 =>
        nmv (mSi σ_8 19 (x_14 + 1)) fun σ_15 =>
        obi (fM_is N σ_15 33) fun σ_16 r_17 =>
        if r_17 = 0 then (
          obi (fM_is N σ_16 45) fun σ_20 r_21 =>
          if r_21 = 0 then (
            obi (fM_is N σ_20 40) fun σ_24 r_25 =>
            if r_25 = 0 then (
              fM_isO_b212 N rc σ_24)
            else (
              obi (fM_isE N rc σ_24) fun σ_28 r_29 =>
              if r_29 = 0 then (
                fM_isO_b212 N rc σ_28)
              else (
                obi (fM_is N σ_28 41) fun σ_32 r_33 =>
                if r_33 = 0 then (
                  fM_isO_b212 N rc σ_32)
                else (
                  fM_isO_b213 N rc σ_32 1))))
          else (
            obi (rc σ_20) fun σ_36 r_37 =>
            if r_37 = 0 then (
              fM_isO_b178 N rc σ_36)
            else (
              obi (fM_codes N σ_36 17) fun σ_40 r_41 =>
              if r_41 = 0 then (
                fM_isO_b178 N rc σ_40)
              else (
                fM_isO_b179 N rc σ_40 1))))
        else (
          obi (rc σ_16) fun σ_44 r_45 =>
          if r_45 = 0 then (
            fM_isO_b144 N rc σ_44)
          else (
            obi (fM_codes N σ_44 16) fun σ_48 r_49 =>
            if r_49 = 0 then (
              fM_isO_b144 N rc σ_48)
            else (
              fM_isO_b145 N rc σ_48 1)))))
    else (
      nmv (σ_8.1 18) fun x_52 =>
      nmv (mSi σ_8 18 (x_52 + 1)) fun σ_53 =>
      obi (fM_codes N σ_53 r_9) fun σ_54 r_55 =>
      chb r_55 (some (σ_54, r_55))))
  else (
    fM_isO_b11 N rc N σ_1 0 0)
def fM_isO (N : Nat) : Nat → mS → Option (mS × Int32)
  | 0, _ => none
  | d + 1, σ => fM_isO_e N (fM_isO N d) σ
theorem bM_isO_214 {N : Nat} {rc : mS → Option (mS × Int32)} {fr lo : Nat} (C0 : mCx p s m args meth c cX2_isO 3 (some .boolean) L A) (hRo : fr + 6 ≤ R.frames ∧ lo + 125 ≤ R.locals) (hrc : ∀ {σ σ1 : mS} {r : Int32}, rc σ = some (σ1, r) → mMet l yX2_isO cX2_isO 3 (some .boolean) (fr) (lo) [.ref L.1] L σ (some (.int r)) σ1) {σ' : mS} {r : Int32} (σ : mS) (x2 : Int32) (H : Heap) (locs : List Loc) (ls : Array Slot) (hG : mG A L s σ H locs) (hl : lv_has ls 3 [(0, .ref L.1), (2, .int x2)]) (hF : fM_isO_b214 N rc σ x2 = some (σ', r)) : W p l e R s m args below meth c H locs 0 0 (mZ below L A s args σ' (some (.int r))) (F0 m 214 ls []) := by
  have hx := C0.1
  have hb := C0.2.1
  unfold fM_isO_b214 at hF
  refine lv_aload_n hx hb dX2_isO_214 rfl (lv_at hl 0 rfl) ?_
  refine lv_dup hx hb dX2_isO_215 rfl ?_
  refine m_geti C0 hG 19 (by decide) rfl q1597 dX2_isO_216 hF (fun x_68 hF => ?_)
  refine lv_iconst (v := 1) hx hb dX2_isO_219 (by decide) ?_
  refine lv_isub hx hb dX2_isO_220 ?_
  refine m_puti C0 hG 19 (by decide) rfl q1597 dX2_isO_221 (Or.inl ⟨by decide, by decide⟩) hF (fun σ_69 H locs hG hF => ?_)
  refine lv_iload_n hx hb dX2_isO_224 rfl (lv_at hl 1 rfl) ?_
  exact m_zret C0 hG dX2_isO_225 hF
theorem bM_isO_213 {N : Nat} {rc : mS → Option (mS × Int32)} {fr lo : Nat} (C0 : mCx p s m args meth c cX2_isO 3 (some .boolean) L A) (hRo : fr + 6 ≤ R.frames ∧ lo + 125 ≤ R.locals) (hrc : ∀ {σ σ1 : mS} {r : Int32}, rc σ = some (σ1, r) → mMet l yX2_isO cX2_isO 3 (some .boolean) (fr) (lo) [.ref L.1] L σ (some (.int r)) σ1) {σ' : mS} {r : Int32} (σ : mS) (y0 : Int32) (H : Heap) (locs : List Loc) (ls : Array Slot) (hG : mG A L s σ H locs) (hl : lv_has ls 3 [(0, .ref L.1)]) (hF : fM_isO_b213 N rc σ y0 = some (σ', r)) : W p l e R s m args below meth c H locs 0 0 (mZ below L A s args σ' (some (.int r))) (F0 m 213 ls [.int y0]) := by
  have hx := C0.1
  have hb := C0.2.1
  unfold fM_isO_b213 at hF
  refine lv_istore_n (lv' := [(2, .int y0), (0, .ref L.1)]) hx hb dX2_isO_213 rfl hl (by decide) rfl (fun ls hl => ?_)
  exact bM_isO_214 C0 hRo hrc _ _ H locs ls hG (lv_sub hl [1, 0] rfl) hF
theorem bM_isO_212 {N : Nat} {rc : mS → Option (mS × Int32)} {fr lo : Nat} (C0 : mCx p s m args meth c cX2_isO 3 (some .boolean) L A) (hRo : fr + 6 ≤ R.frames ∧ lo + 125 ≤ R.locals) (hrc : ∀ {σ σ1 : mS} {r : Int32}, rc σ = some (σ1, r) → mMet l yX2_isO cX2_isO 3 (some .boolean) (fr) (lo) [.ref L.1] L σ (some (.int r)) σ1) {σ' : mS} {r : Int32} (σ : mS) (H : Heap) (locs : List Loc) (ls : Array Slot) (hG : mG A L s σ H locs) (hl : lv_has ls 3 [(0, .ref L.1)]) (hF : fM_isO_b212 N rc σ = some (σ', r)) : W p l e R s m args below meth c H locs 0 0 (mZ below L A s args σ' (some (.int r))) (F0 m 212 ls []) := by
  have hx := C0.1
  have hb := C0.2.1
  unfold fM_isO_b212 at hF
  refine lv_iconst (v := 0) hx hb dX2_isO_212 (by decide) ?_
  exact bM_isO_213 C0 hRo hrc _ _ H locs ls hG (lv_sub hl [0] rfl) hF
theorem bM_isO_179 {N : Nat} {rc : mS → Option (mS × Int32)} {fr lo : Nat} (C0 : mCx p s m args meth c cX2_isO 3 (some .boolean) L A) (hRo : fr + 6 ≤ R.frames ∧ lo + 125 ≤ R.locals) (hrc : ∀ {σ σ1 : mS} {r : Int32}, rc σ = some (σ1, r) → mMet l yX2_isO cX2_isO 3 (some .boolean) (fr) (lo) [.ref L.1] L σ (some (.int r)) σ1) {σ' : mS} {r : Int32} (σ : mS) (y0 : Int32) (H : Heap) (locs : List Loc) (ls : Array Slot) (hG : mG A L s σ H locs) (hl : lv_has ls 3 [(0, .ref L.1)]) (hF : fM_isO_b179 N rc σ y0 = some (σ', r)) : W p l e R s m args below meth c H locs 0 0 (mZ below L A s args σ' (some (.int r))) (F0 m 179 ls [.int y0]) := by
  have hx := C0.1
  have hb := C0.2.1
  unfold fM_isO_b179 at hF
  refine lv_istore_n (lv' := [(2, .int y0), (0, .ref L.1)]) hx hb dX2_isO_179 rfl hl (by decide) rfl (fun ls hl => ?_)
  refine lv_goto (tgt := 214) hx hb dX2_isO_180 (by decide) ?_
  exact bM_isO_214 C0 hRo hrc _ _ H locs ls hG (lv_sub hl [1, 0] rfl) hF
theorem bM_isO_178 {N : Nat} {rc : mS → Option (mS × Int32)} {fr lo : Nat} (C0 : mCx p s m args meth c cX2_isO 3 (some .boolean) L A) (hRo : fr + 6 ≤ R.frames ∧ lo + 125 ≤ R.locals) (hrc : ∀ {σ σ1 : mS} {r : Int32}, rc σ = some (σ1, r) → mMet l yX2_isO cX2_isO 3 (some .boolean) (fr) (lo) [.ref L.1] L σ (some (.int r)) σ1) {σ' : mS} {r : Int32} (σ : mS) (H : Heap) (locs : List Loc) (ls : Array Slot) (hG : mG A L s σ H locs) (hl : lv_has ls 3 [(0, .ref L.1)]) (hF : fM_isO_b178 N rc σ = some (σ', r)) : W p l e R s m args below meth c H locs 0 0 (mZ below L A s args σ' (some (.int r))) (F0 m 178 ls []) := by
  have hx := C0.1
  have hb := C0.2.1
  unfold fM_isO_b178 at hF
  refine lv_iconst (v := 0) hx hb dX2_isO_178 (by decide) ?_
  exact bM_isO_179 C0 hRo hrc _ _ H locs ls hG (lv_sub hl [0] rfl) hF
theorem bM_isO_145 {N : Nat} {rc : mS → Option (mS × Int32)} {fr lo : Nat} (C0 : mCx p s m args meth c cX2_isO 3 (some .boolean) L A) (hRo : fr + 6 ≤ R.frames ∧ lo + 125 ≤ R.locals) (hrc : ∀ {σ σ1 : mS} {r : Int32}, rc σ = some (σ1, r) → mMet l yX2_isO cX2_isO 3 (some .boolean) (fr) (lo) [.ref L.1] L σ (some (.int r)) σ1) {σ' : mS} {r : Int32} (σ : mS) (y0 : Int32) (H : Heap) (locs : List Loc) (ls : Array Slot) (hG : mG A L s σ H locs) (hl : lv_has ls 3 [(0, .ref L.1)]) (hF : fM_isO_b145 N rc σ y0 = some (σ', r)) : W p l e R s m args below meth c H locs 0 0 (mZ below L A s args σ' (some (.int r))) (F0 m 145 ls [.int y0]) := by
  have hx := C0.1
  have hb := C0.2.1
  unfold fM_isO_b145 at hF
  refine lv_istore_n (lv' := [(2, .int y0), (0, .ref L.1)]) hx hb dX2_isO_145 rfl hl (by decide) rfl (fun ls hl => ?_)
  refine lv_goto (tgt := 214) hx hb dX2_isO_146 (by decide) ?_
  exact bM_isO_214 C0 hRo hrc _ _ H locs ls hG (lv_sub hl [1, 0] rfl) hF
theorem bM_isO_144 {N : Nat} {rc : mS → Option (mS × Int32)} {fr lo : Nat} (C0 : mCx p s m args meth c cX2_isO 3 (some .boolean) L A) (hRo : fr + 6 ≤ R.frames ∧ lo + 125 ≤ R.locals) (hrc : ∀ {σ σ1 : mS} {r : Int32}, rc σ = some (σ1, r) → mMet l yX2_isO cX2_isO 3 (some .boolean) (fr) (lo) [.ref L.1] L σ (some (.int r)) σ1) {σ' : mS} {r : Int32} (σ : mS) (H : Heap) (locs : List Loc) (ls : Array Slot) (hG : mG A L s σ H locs) (hl : lv_has ls 3 [(0, .ref L.1)]) (hF : fM_isO_b144 N rc σ = some (σ', r)) : W p l e R s m args below meth c H locs 0 0 (mZ below L A s args σ' (some (.int r))) (F0 m 144 ls []) := by
  have hx := C0.1
  have hb := C0.2.1
  unfold fM_isO_b144 at hF
  refine lv_iconst (v := 0) hx hb dX2_isO_144 (by decide) ?_
  exact bM_isO_145 C0 hRo hrc _ _ H locs ls hG (lv_sub hl [0] rfl) hF
theorem bM_isO_57 {N : Nat} {rc : mS → Option (mS × Int32)} {fr lo : Nat} (C0 : mCx p s m args meth c cX2_isO 3 (some .boolean) L A) (hRo : fr + 6 ≤ R.frames ∧ lo + 125 ≤ R.locals) (hrc : ∀ {σ σ1 : mS} {r : Int32}, rc σ = some (σ1, r) → mMet l yX2_isO cX2_isO 3 (some .boolean) (fr) (lo) [.ref L.1] L σ (some (.int r)) σ1) {σ' : mS} {r : Int32} (σ : mS) (x1 : Int32) (H : Heap) (locs : List Loc) (ls : Array Slot) (hG : mG A L s σ H locs) (hl : lv_has ls 3 [(0, .ref L.1), (1, .int x1)]) (hF : fM_isO_b57 N rc σ x1 = some (σ', r)) : W p l e R s m args below meth c H locs 0 0 (mZ below L A s args σ' (some (.int r))) (F0 m 57 ls []) := by
  have hx := C0.1
  have hb := C0.2.1
  unfold fM_isO_b57 at hF
  refine lv_aload_n hx hb dX2_isO_57 rfl (lv_at hl 0 rfl) ?_
  refine lv_bipush (v := 18) hx hb dX2_isO_58 (by decide) ?_
  refine lv_iload_n hx hb dX2_isO_60 rfl (lv_at hl 1 rfl) ?_
  refine lv_iadd hx hb dX2_isO_61 ?_
  obtain ⟨σ_70, r_71, e_72, hF⟩ := obi_of hF
  refine m_cVi (As := [.int ((18 : Int32) + x1)]) (rest := []) C0 hG (mtM_codes l e_72) (lw_V q1846 q1848 qs66 q102 q1849) yd_X2_codes ⟨by omega, by omega⟩ rfl rfl hl.1 (Nat.le_of_ble_eq_true rfl) dX2_isO_62 (fun H locs hG => ?_)
  exact m_zret C0 hG dX2_isO_65 hF
theorem bM_isO_11 {N : Nat} {rc : mS → Option (mS × Int32)} {fr lo : Nat} (C0 : mCx p s m args meth c cX2_isO 3 (some .boolean) L A) (hRo : fr + 6 ≤ R.frames ∧ lo + 125 ≤ R.locals) (hrc : ∀ {σ σ1 : mS} {r : Int32}, rc σ = some (σ1, r) → mMet l yX2_isO cX2_isO 3 (some .boolean) (fr) (lo) [.ref L.1] L σ (some (.int r)) σ1) {σ' : mS} {r : Int32} : ∀ (n : Nat) (σ : mS) (x1 : Int32) (x2 : Int32) (H : Heap) (locs : List Loc) (ls : Array Slot), mG A L s σ H locs → lv_has ls 3 [(0, .ref L.1), (1, .int x1), (2, .int x2)] → fM_isO_b11 N rc n σ x1 x2 = some (σ', r) → W p l e R s m args below meth c H locs 0 0 (mZ below L A s args σ' (some (.int r))) (F0 m 11 ls []) := by
  have hx := C0.1
  have hb := C0.2.1
  intro n
  induction n with
  | zero => intro σ x1 x2 H locs ls hG hl hF; cases hF
  | succ n ih =>
    intro σ x1 x2 H locs ls hG hl hF
    unfold fM_isO_b11 at hF
    refine lv_iload_n hx hb dX2_isO_11 rfl (lv_at hl 2 rfl) ?_
    refine lv_iconst (v := 4) hx hb dX2_isO_12 (by decide) ?_
    refine lv_icmp_ge (tgt := 57) hx hb dX2_isO_13 (by decide) (fun c_57 => ?_) (fun c_57 => ?_)
    · have hF := ifp hF c_57
      exact bM_isO_57 C0 hRo hrc _ _ H locs ls hG (lv_sub hl [0, 1] rfl) hF
    · have hF := ifn hF c_57
      refine lv_aload_n hx hb dX2_isO_16 rfl (lv_at hl 0 rfl) ?_
      obtain ⟨σ_58, r_59, e_60, hF⟩ := obi_of hF
      refine m_cVi (As := []) (rest := []) C0 hG (mtM_isDigit l e_60) (lw_V q1838 q1840 qs64 q102 q1841) yd_X2_isDigit ⟨by omega, by omega⟩ rfl rfl hl.1 (Nat.le_of_ble_eq_true rfl) dX2_isO_17 (fun H locs hG => ?_)
      refine lv_if_eq (tgt := 57) hx hb dX2_isO_20 (by decide) (fun c_61 => ?_) (fun c_61 => ?_)
      · have hF := ifp hF c_61
        exact bM_isO_57 C0 hRo hrc _ _ H locs ls hG (lv_sub hl [0, 1] rfl) hF
      · have hF := ifn hF c_61
        refine lv_bipush (v := 10) hx hb dX2_isO_23 (by decide) ?_
        refine lv_iload_n hx hb dX2_isO_25 rfl (lv_at hl 1 rfl) ?_
        refine lv_imul hx hb dX2_isO_26 ?_
        refine lv_aload_n hx hb dX2_isO_27 rfl (lv_at hl 0 rfl) ?_
        refine m_geta C0 hG 11 (by decide) rfl q1589 dX2_isO_28 ?_
        refine lv_aload_n hx hb dX2_isO_31 rfl (lv_at hl 0 rfl) ?_
        refine m_geti C0 hG 18 (by decide) rfl q1596 dX2_isO_32 hF (fun x_62 hF => ?_)
        refine m_ld C0 hG 11 ⟨by decide, rfl, by decide⟩ dX2_isO_35 hF (fun x_63 hF => ?_)
        refine lv_iadd hx hb dX2_isO_36 ?_
        refine lv_bipush (v := 48) hx hb dX2_isO_37 (by decide) ?_
        refine lv_isub hx hb dX2_isO_39 ?_
        refine w_nm hF (fun x_64 hF => ?_)
        refine lv_istore_n (lv' := [(1, .int x_64), (0, .ref L.1), (2, .int x2)]) hx hb dX2_isO_40 rfl hl (by decide) rfl (fun ls hl => ?_)
        refine lv_aload_n hx hb dX2_isO_41 rfl (lv_at hl 1 rfl) ?_
        refine lv_dup hx hb dX2_isO_42 rfl ?_
        refine m_geti C0 hG 18 (by decide) rfl q1596 dX2_isO_43 hF (fun x_65 hF => ?_)
        refine lv_iconst (v := 1) hx hb dX2_isO_46 (by decide) ?_
        refine lv_iadd hx hb dX2_isO_47 ?_
        refine m_puti C0 hG 18 (by decide) rfl q1596 dX2_isO_48 (Or.inl ⟨by decide, by decide⟩) hF (fun σ_66 H locs hG hF => ?_)
        refine w_iinc hx hb dX2_isO_51 hl 2 rfl (v := 1) (by decide) (by decide) hF (fun x_67 ls hl hF => ?_)
        have hl : lv_has ls 3 [(2, .int x_67), (1, .int x_64), (0, .ref L.1)] := hl
        refine lv_goto (tgt := 11) hx hb dX2_isO_54 (by decide) ?_
        exact ih _ _ _ H locs ls hG (lv_sub hl [2, 1, 0] rfl) hF
theorem bM_isO_e {N : Nat} {rc : mS → Option (mS × Int32)} {fr lo : Nat} (C0 : mCx p s m args meth c cX2_isO 3 (some .boolean) L A) (hRo : fr + 6 ≤ R.frames ∧ lo + 125 ≤ R.locals) (hrc : ∀ {σ σ1 : mS} {r : Int32}, rc σ = some (σ1, r) → mMet l yX2_isO cX2_isO 3 (some .boolean) (fr) (lo) [.ref L.1] L σ (some (.int r)) σ1) {σ' : mS} {r : Int32} (σ : mS) (H : Heap) (locs : List Loc) (ls : Array Slot) (hG : mG A L s σ H locs) (hl : lv_has ls 3 [(0, .ref L.1)]) (hF : fM_isO_e N rc σ = some (σ', r)) : W p l e R s m args below meth c H locs 0 0 (mZ below L A s args σ' (some (.int r))) (F0 m 0 ls []) := by
  have hx := C0.1
  have hb := C0.2.1
  unfold fM_isO_e at hF
  refine lv_aload_n hx hb dX2_isO_0 rfl (lv_at hl 0 rfl) ?_
  obtain ⟨σ_1, r_2, e_3, hF⟩ := obi_of hF
  refine m_cVi (As := []) (rest := []) C0 hG (mtM_isDigit l e_3) (lw_V q1838 q1840 qs64 q102 q1841) yd_X2_isDigit ⟨by omega, by omega⟩ rfl rfl hl.1 (Nat.le_of_ble_eq_true rfl) dX2_isO_1 (fun H locs hG => ?_)
  refine lv_if_eq (tgt := 66) hx hb dX2_isO_4 (by decide) (fun c_4 => ?_) (fun c_4 => ?_)
  · have hF := ifp hF c_4
    refine lv_aload_n hx hb dX2_isO_66 rfl (lv_at hl 0 rfl) ?_
    obtain ⟨σ_5, r_6, e_7, hF⟩ := obi_of hF
    refine m_cVi (As := []) (rest := []) C0 hG (mtM_sign l e_7) (lw_V q1842 q1844 qs65 q102 q1845) yd_X2_sign ⟨by omega, by omega⟩ rfl rfl hl.1 (Nat.le_of_ble_eq_true rfl) dX2_isO_67 (fun H locs hG => ?_)
    obtain ⟨σ_8, r_9, e_10, hF⟩ := obi_of hF
    refine m_cSi (As := [.int r_6]) (rest := []) C0 hG (mtM_nameOf l e_10) (lw_S q1850 q1851 q102 q1852) yd_X2_nameOf ⟨by omega, by omega⟩ rfl rfl hl.1 (Nat.le_of_ble_eq_true rfl) dX2_isO_70 (fun H locs hG => ?_)
    refine lv_istore_n (lv' := [(1, .int r_9), (0, .ref L.1)]) hx hb dX2_isO_73 rfl hl (by decide) rfl (fun ls hl => ?_)
    refine lv_iload_n hx hb dX2_isO_74 rfl (lv_at hl 0 rfl) ?_
    refine lv_if_lt (tgt := 94) hx hb dX2_isO_75 (by decide) (fun c_11 => ?_) (fun c_11 => ?_)
    · have hF := ifp hF c_11
      refine lv_aload_n hx hb dX2_isO_94 rfl (lv_at hl 1 rfl) ?_
      refine m_geti C0 hG 19 (by decide) rfl q1597 dX2_isO_95 hF (fun x_12 hF => ?_)
      refine lv_bipush (v := 6) hx hb dX2_isO_98 (by decide) ?_
      refine lv_icmp_ne (tgt := 105) hx hb dX2_isO_100 (by decide) (fun c_13 => ?_) (fun c_13 => ?_)
      · have hF := ifn hF c_13
        refine lv_aload_n hx hb dX2_isO_105 rfl (lv_at hl 1 rfl) ?_
        refine lv_dup hx hb dX2_isO_106 rfl ?_
        refine m_geti C0 hG 19 (by decide) rfl q1597 dX2_isO_107 hF (fun x_14 hF => ?_)
        refine lv_iconst (v := 1) hx hb dX2_isO_110 (by decide) ?_
        refine lv_iadd hx hb dX2_isO_111 ?_
        refine m_puti C0 hG 19 (by decide) rfl q1597 dX2_isO_112 (Or.inl ⟨by decide, by decide⟩) hF (fun σ_15 H locs hG hF => ?_)
        refine lv_aload_n hx hb dX2_isO_115 rfl (lv_at hl 1 rfl) ?_
        refine lv_bipush (v := 33) hx hb dX2_isO_116 (by decide) ?_
        obtain ⟨σ_16, r_17, e_18, hF⟩ := obi_of hF
        refine m_cVi (As := [.int 33]) (rest := []) C0 hG (mtM_is l e_18) (lw_V q1853 q1855 qs67 q102 q1856) yd_X2_is ⟨by omega, by omega⟩ rfl rfl hl.1 (Nat.le_of_ble_eq_true rfl) dX2_isO_118 (fun H locs hG => ?_)
        refine lv_if_eq (tgt := 149) hx hb dX2_isO_121 (by decide) (fun c_19 => ?_) (fun c_19 => ?_)
        · have hF := ifp hF c_19
          refine lv_aload_n hx hb dX2_isO_149 rfl (lv_at hl 1 rfl) ?_
          refine lv_bipush (v := 45) hx hb dX2_isO_150 (by decide) ?_
          obtain ⟨σ_20, r_21, e_22, hF⟩ := obi_of hF
          refine m_cVi (As := [.int 45]) (rest := []) C0 hG (mtM_is l e_22) (lw_V q1853 q1855 qs67 q102 q1856) yd_X2_is ⟨by omega, by omega⟩ rfl rfl hl.1 (Nat.le_of_ble_eq_true rfl) dX2_isO_152 (fun H locs hG => ?_)
          refine lv_if_eq (tgt := 183) hx hb dX2_isO_155 (by decide) (fun c_23 => ?_) (fun c_23 => ?_)
          · have hF := ifp hF c_23
            refine lv_aload_n hx hb dX2_isO_183 rfl (lv_at hl 1 rfl) ?_
            refine lv_bipush (v := 40) hx hb dX2_isO_184 (by decide) ?_
            obtain ⟨σ_24, r_25, e_26, hF⟩ := obi_of hF
            refine m_cVi (As := [.int 40]) (rest := []) C0 hG (mtM_is l e_26) (lw_V q1853 q1855 qs67 q102 q1856) yd_X2_is ⟨by omega, by omega⟩ rfl rfl hl.1 (Nat.le_of_ble_eq_true rfl) dX2_isO_186 (fun H locs hG => ?_)
            refine lv_if_eq (tgt := 212) hx hb dX2_isO_189 (by decide) (fun c_27 => ?_) (fun c_27 => ?_)
            · have hF := ifp hF c_27
              exact bM_isO_212 C0 hRo hrc _  H locs ls hG (lv_sub hl [1] rfl) hF
            · have hF := ifn hF c_27
              refine lv_aload_n hx hb dX2_isO_192 rfl (lv_at hl 1 rfl) ?_
              obtain ⟨σ_28, r_29, e_30, hF⟩ := obi_of hF
              refine m_cVi (As := []) (rest := []) C0 hG (mtM_isE l hrc e_30) (lw_V q1814 q1816 qs58 q102 q1817) yd_X2_isE ⟨by omega, by omega⟩ rfl rfl hl.1 (Nat.le_of_ble_eq_true rfl) dX2_isO_193 (fun H locs hG => ?_)
              refine lv_if_eq (tgt := 212) hx hb dX2_isO_196 (by decide) (fun c_31 => ?_) (fun c_31 => ?_)
              · have hF := ifp hF c_31
                exact bM_isO_212 C0 hRo hrc _  H locs ls hG (lv_sub hl [1] rfl) hF
              · have hF := ifn hF c_31
                refine lv_aload_n hx hb dX2_isO_199 rfl (lv_at hl 1 rfl) ?_
                refine lv_bipush (v := 41) hx hb dX2_isO_200 (by decide) ?_
                obtain ⟨σ_32, r_33, e_34, hF⟩ := obi_of hF
                refine m_cVi (As := [.int 41]) (rest := []) C0 hG (mtM_is l e_34) (lw_V q1853 q1855 qs67 q102 q1856) yd_X2_is ⟨by omega, by omega⟩ rfl rfl hl.1 (Nat.le_of_ble_eq_true rfl) dX2_isO_202 (fun H locs hG => ?_)
                refine lv_if_eq (tgt := 212) hx hb dX2_isO_205 (by decide) (fun c_35 => ?_) (fun c_35 => ?_)
                · have hF := ifp hF c_35
                  exact bM_isO_212 C0 hRo hrc _  H locs ls hG (lv_sub hl [1] rfl) hF
                · have hF := ifn hF c_35
                  refine lv_iconst (v := 1) hx hb dX2_isO_208 (by decide) ?_
                  refine lv_goto (tgt := 213) hx hb dX2_isO_209 (by decide) ?_
                  exact bM_isO_213 C0 hRo hrc _ _ H locs ls hG (lv_sub hl [1] rfl) hF
          · have hF := ifn hF c_23
            refine lv_aload_n hx hb dX2_isO_158 rfl (lv_at hl 1 rfl) ?_
            obtain ⟨σ_36, r_37, e_38, hF⟩ := obi_of hF
            refine m_cVi (As := []) (rest := []) C0 hG (hrc e_38) (lw_V q1834 q1836 qs63 q102 q1837) yd_X2_isO ⟨by omega, by omega⟩ rfl rfl hl.1 (Nat.le_of_ble_eq_true rfl) dX2_isO_159 (fun H locs hG => ?_)
            refine lv_if_eq (tgt := 178) hx hb dX2_isO_162 (by decide) (fun c_39 => ?_) (fun c_39 => ?_)
            · have hF := ifp hF c_39
              exact bM_isO_178 C0 hRo hrc _  H locs ls hG (lv_sub hl [1] rfl) hF
            · have hF := ifn hF c_39
              refine lv_aload_n hx hb dX2_isO_165 rfl (lv_at hl 1 rfl) ?_
              refine lv_bipush (v := 17) hx hb dX2_isO_166 (by decide) ?_
              obtain ⟨σ_40, r_41, e_42, hF⟩ := obi_of hF
              refine m_cVi (As := [.int 17]) (rest := []) C0 hG (mtM_codes l e_42) (lw_V q1846 q1848 qs66 q102 q1849) yd_X2_codes ⟨by omega, by omega⟩ rfl rfl hl.1 (Nat.le_of_ble_eq_true rfl) dX2_isO_168 (fun H locs hG => ?_)
              refine lv_if_eq (tgt := 178) hx hb dX2_isO_171 (by decide) (fun c_43 => ?_) (fun c_43 => ?_)
              · have hF := ifp hF c_43
                exact bM_isO_178 C0 hRo hrc _  H locs ls hG (lv_sub hl [1] rfl) hF
              · have hF := ifn hF c_43
                refine lv_iconst (v := 1) hx hb dX2_isO_174 (by decide) ?_
                refine lv_goto (tgt := 179) hx hb dX2_isO_175 (by decide) ?_
                exact bM_isO_179 C0 hRo hrc _ _ H locs ls hG (lv_sub hl [1] rfl) hF
        · have hF := ifn hF c_19
          refine lv_aload_n hx hb dX2_isO_124 rfl (lv_at hl 1 rfl) ?_
          obtain ⟨σ_44, r_45, e_46, hF⟩ := obi_of hF
          refine m_cVi (As := []) (rest := []) C0 hG (hrc e_46) (lw_V q1834 q1836 qs63 q102 q1837) yd_X2_isO ⟨by omega, by omega⟩ rfl rfl hl.1 (Nat.le_of_ble_eq_true rfl) dX2_isO_125 (fun H locs hG => ?_)
          refine lv_if_eq (tgt := 144) hx hb dX2_isO_128 (by decide) (fun c_47 => ?_) (fun c_47 => ?_)
          · have hF := ifp hF c_47
            exact bM_isO_144 C0 hRo hrc _  H locs ls hG (lv_sub hl [1] rfl) hF
          · have hF := ifn hF c_47
            refine lv_aload_n hx hb dX2_isO_131 rfl (lv_at hl 1 rfl) ?_
            refine lv_bipush (v := 16) hx hb dX2_isO_132 (by decide) ?_
            obtain ⟨σ_48, r_49, e_50, hF⟩ := obi_of hF
            refine m_cVi (As := [.int 16]) (rest := []) C0 hG (mtM_codes l e_50) (lw_V q1846 q1848 qs66 q102 q1849) yd_X2_codes ⟨by omega, by omega⟩ rfl rfl hl.1 (Nat.le_of_ble_eq_true rfl) dX2_isO_134 (fun H locs hG => ?_)
            refine lv_if_eq (tgt := 144) hx hb dX2_isO_137 (by decide) (fun c_51 => ?_) (fun c_51 => ?_)
            · have hF := ifp hF c_51
              exact bM_isO_144 C0 hRo hrc _  H locs ls hG (lv_sub hl [1] rfl) hF
            · have hF := ifn hF c_51
              refine lv_iconst (v := 1) hx hb dX2_isO_140 (by decide) ?_
              refine lv_goto (tgt := 145) hx hb dX2_isO_141 (by decide) ?_
              exact bM_isO_145 C0 hRo hrc _ _ H locs ls hG (lv_sub hl [1] rfl) hF
      · have hF := ifp hF c_13
        refine lv_iconst (v := 0) hx hb dX2_isO_103 (by decide) ?_
        exact m_zret C0 hG dX2_isO_104 hF
    · have hF := ifn hF c_11
      refine lv_aload_n hx hb dX2_isO_78 rfl (lv_at hl 1 rfl) ?_
      refine lv_dup hx hb dX2_isO_79 rfl ?_
      refine m_geti C0 hG 18 (by decide) rfl q1596 dX2_isO_80 hF (fun x_52 hF => ?_)
      refine lv_iconst (v := 1) hx hb dX2_isO_83 (by decide) ?_
      refine lv_iadd hx hb dX2_isO_84 ?_
      refine m_puti C0 hG 18 (by decide) rfl q1596 dX2_isO_85 (Or.inl ⟨by decide, by decide⟩) hF (fun σ_53 H locs hG hF => ?_)
      refine lv_aload_n hx hb dX2_isO_88 rfl (lv_at hl 1 rfl) ?_
      refine lv_iload_n hx hb dX2_isO_89 rfl (lv_at hl 0 rfl) ?_
      obtain ⟨σ_54, r_55, e_56, hF⟩ := obi_of hF
      refine m_cVi (As := [.int r_9]) (rest := []) C0 hG (mtM_codes l e_56) (lw_V q1846 q1848 qs66 q102 q1849) yd_X2_codes ⟨by omega, by omega⟩ rfl rfl hl.1 (Nat.le_of_ble_eq_true rfl) dX2_isO_90 (fun H locs hG => ?_)
      exact m_zret C0 hG dX2_isO_93 hF
  · have hF := ifn hF c_4
    refine lv_iconst (v := 0) hx hb dX2_isO_7 (by decide) ?_
    refine lv_istore_n (lv' := [(1, .int 0), (0, .ref L.1)]) hx hb dX2_isO_8 rfl hl (by decide) rfl (fun ls hl => ?_)
    refine lv_iconst (v := 0) hx hb dX2_isO_9 (by decide) ?_
    refine lv_istore_n (lv' := [(2, .int 0), (1, .int 0), (0, .ref L.1)]) hx hb dX2_isO_10 rfl hl (by decide) rfl (fun ls hl => ?_)
    exact bM_isO_11 C0 hRo hrc N _ _ _ H locs ls hG (lv_sub hl [2, 1, 0] rfl) hF
theorem mtM_isO_e (l : Launch) {N : Nat} {L : mL} {rc : mS → Option (mS × Int32)} {fr lo : Nat} (hrc : ∀ {σ σ1 : mS} {r : Int32}, rc σ = some (σ1, r) → mMet l yX2_isO cX2_isO 3 (some .boolean) (fr) (lo) [.ref L.1] L σ (some (.int r)) σ1) {σ σ' : mS} {r : Int32} (hF : fM_isO_e N rc σ = some (σ', r)) : mMet l yX2_isO cX2_isO 3 (some .boolean) (fr + 6) (lo + 125) [.ref L.1] L σ (some (.int r)) σ' := by
  refine m_head (by decide) rfl ?_
  intro p e s m below meth c A C0 hG
  have hl := lv_entry ([.ref L.1]) (n := 3) (Nat.le_of_ble_eq_true rfl)
  rw [lg_entry_eq]
  generalize (lg_sl ([.ref L.1]) ++ List.replicate (3 - (lg_sl ([.ref L.1])).length) Slot.unset).toArray = ls at hl ⊢
  have hl : lv_has ls 3 [(0, .ref L.1)] := hl
  exact bM_isO_e C0 ⟨Nat.le_refl _, Nat.le_refl _⟩ hrc _ _ [] ls hG hl hF
theorem mtM_isO (l : Launch) {N : Nat} {L : mL} : ∀ (d : Nat) {σ σ' : mS} { r : Int32}, fM_isO N d σ = some (σ', r) → mMet l yX2_isO cX2_isO 3 (some .boolean) (6 * d) (125 * d) [.ref L.1] L σ (some (.int r)) σ' := by
  intro d
  induction d with
  | zero => intro σ σ' r hF; cases hF
  | succ d ih =>
    intro σ σ' r hF
    unfold fM_isO at hF
    simp only [Nat.mul_succ]
    exact mtM_isO_e l ih hF
def fM_isLine_b71 (N : Nat) (σ : mS) : Option (mS × Int32) :=
  nmv (σ.1 21) fun x_23 =>
  nmv (mSi σ 21 (x_23 + 1)) fun σ_24 =>
  nmv (σ_24.1 20) fun x_25 =>
  chk x_23 61 <| nmv (mSj σ_24 24 x_23.toNatClampNeg x_25) fun σ_26 =>
  chb 1 (some (σ_26, 1))
def fM_isLine (N : Nat) (σ : mS) : Option (mS × Int32) :=
  nmv (σ.1 21) fun x_1 =>
  nmv (σ.1 20) fun x_2 =>
  chk x_1 61 <| nmv (mSj σ 22 x_1.toNatClampNeg x_2) fun σ_3 =>
  obi (fM_isE N (fM_isO N 8) σ_3) fun σ_4 r_5 =>
  if r_5 = 0 then (
    chb 0 (some (σ_4, 0)))
  else (
    nmv (σ_4.1 21) fun x_8 =>
    nmv (σ_4.1 21) fun x_9 =>
    chk x_9 61 <| nmv (σ_4.2.1 22 x_9.toNatClampNeg) fun x_10 =>
    chk x_8 61 <| nmv (mSj σ_4 23 x_8.toNatClampNeg x_10) fun σ_11 =>
    obi (fM_is N σ_11 63) fun σ_12 r_13 =>
    if r_13 = 0 then (
      fM_isLine_b71 N σ_12)
    else (
      nmv (σ_12.1 21) fun x_16 =>
      nmv (σ_12.1 20) fun x_17 =>
      chk x_16 61 <| nmv (mSj σ_12 23 x_16.toNatClampNeg x_17) fun σ_18 =>
      obi (fM_isE N (fM_isO N 8) σ_18) fun σ_19 r_20 =>
      if r_20 = 0 then (
        chb 0 (some (σ_19, 0)))
      else (
        fM_isLine_b71 N σ_19)))
theorem bM_isLine_71 {N : Nat} (C0 : mCx p s m args meth c cX2_isLine 1 (some .boolean) L A) (hRo : 54 ≤ R.frames ∧ 1125 ≤ R.locals) {σ' : mS} {r : Int32} (σ : mS) (H : Heap) (locs : List Loc) (ls : Array Slot) (hG : mG A L s σ H locs) (hl : lv_has ls 1 [(0, .ref L.1)]) (hF : fM_isLine_b71 N σ = some (σ', r)) : W p l e R s m args below meth c H locs 0 0 (mZ below L A s args σ' (some (.int r))) (F0 m 71 ls []) := by
  have hx := C0.1
  have hb := C0.2.1
  unfold fM_isLine_b71 at hF
  refine lv_aload_n hx hb dX2_isLine_71 rfl (lv_at hl 0 rfl) ?_
  refine m_geta C0 hG 24 (by decide) rfl q1602 dX2_isLine_72 ?_
  refine lv_aload_n hx hb dX2_isLine_75 rfl (lv_at hl 0 rfl) ?_
  refine lv_dup hx hb dX2_isLine_76 rfl ?_
  refine m_geti C0 hG 21 (by decide) rfl q1599 dX2_isLine_77 hF (fun x_23 hF => ?_)
  refine lv_dup_x1 hx hb dX2_isLine_80 rfl rfl ?_
  refine lv_iconst (v := 1) hx hb dX2_isLine_81 (by decide) ?_
  refine lv_iadd hx hb dX2_isLine_82 ?_
  refine m_puti C0 hG 21 (by decide) rfl q1599 dX2_isLine_83 (Or.inl ⟨by decide, by decide⟩) hF (fun σ_24 H locs hG hF => ?_)
  refine lv_aload_n hx hb dX2_isLine_86 rfl (lv_at hl 0 rfl) ?_
  refine m_geti C0 hG 20 (by decide) rfl q1598 dX2_isLine_87 hF (fun x_25 hF => ?_)
  refine m_st C0 hG 24 ⟨by decide, rfl, by decide⟩ dX2_isLine_90 hF (fun σ_26 H locs hG hF => ?_)
  refine lv_iconst (v := 1) hx hb dX2_isLine_91 (by decide) ?_
  exact m_zret C0 hG dX2_isLine_92 hF
theorem bM_isLine_e {N : Nat} (C0 : mCx p s m args meth c cX2_isLine 1 (some .boolean) L A) (hRo : 54 ≤ R.frames ∧ 1125 ≤ R.locals) {σ' : mS} {r : Int32} (σ : mS) (H : Heap) (locs : List Loc) (ls : Array Slot) (hG : mG A L s σ H locs) (hl : lv_has ls 1 [(0, .ref L.1)]) (hF : fM_isLine N σ = some (σ', r)) : W p l e R s m args below meth c H locs 0 0 (mZ below L A s args σ' (some (.int r))) (F0 m 0 ls []) := by
  have hx := C0.1
  have hb := C0.2.1
  unfold fM_isLine at hF
  refine lv_aload_n hx hb dX2_isLine_0 rfl (lv_at hl 0 rfl) ?_
  refine m_geta C0 hG 22 (by decide) rfl q1600 dX2_isLine_1 ?_
  refine lv_aload_n hx hb dX2_isLine_4 rfl (lv_at hl 0 rfl) ?_
  refine m_geti C0 hG 21 (by decide) rfl q1599 dX2_isLine_5 hF (fun x_1 hF => ?_)
  refine lv_aload_n hx hb dX2_isLine_8 rfl (lv_at hl 0 rfl) ?_
  refine m_geti C0 hG 20 (by decide) rfl q1598 dX2_isLine_9 hF (fun x_2 hF => ?_)
  refine m_st C0 hG 22 ⟨by decide, rfl, by decide⟩ dX2_isLine_12 hF (fun σ_3 H locs hG hF => ?_)
  refine lv_aload_n hx hb dX2_isLine_13 rfl (lv_at hl 0 rfl) ?_
  obtain ⟨σ_4, r_5, e_6, hF⟩ := obi_of hF
  refine m_cVi (As := []) (rest := []) C0 hG (mtM_isE l (mtM_isO l 8) e_6) (lw_V q1814 q1816 qs58 q102 q1817) yd_X2_isE ⟨by omega, by omega⟩ rfl rfl hl.1 (Nat.le_of_ble_eq_true rfl) dX2_isLine_14 (fun H locs hG => ?_)
  refine lv_if_ne (tgt := 22) hx hb dX2_isLine_17 (by decide) (fun c_7 => ?_) (fun c_7 => ?_)
  · have hF := ifn hF c_7
    refine lv_aload_n hx hb dX2_isLine_22 rfl (lv_at hl 0 rfl) ?_
    refine m_geta C0 hG 23 (by decide) rfl q1601 dX2_isLine_23 ?_
    refine lv_aload_n hx hb dX2_isLine_26 rfl (lv_at hl 0 rfl) ?_
    refine m_geti C0 hG 21 (by decide) rfl q1599 dX2_isLine_27 hF (fun x_8 hF => ?_)
    refine lv_aload_n hx hb dX2_isLine_30 rfl (lv_at hl 0 rfl) ?_
    refine m_geta C0 hG 22 (by decide) rfl q1600 dX2_isLine_31 ?_
    refine lv_aload_n hx hb dX2_isLine_34 rfl (lv_at hl 0 rfl) ?_
    refine m_geti C0 hG 21 (by decide) rfl q1599 dX2_isLine_35 hF (fun x_9 hF => ?_)
    refine m_ld C0 hG 22 ⟨by decide, rfl, by decide⟩ dX2_isLine_38 hF (fun x_10 hF => ?_)
    refine m_st C0 hG 23 ⟨by decide, rfl, by decide⟩ dX2_isLine_39 hF (fun σ_11 H locs hG hF => ?_)
    refine lv_aload_n hx hb dX2_isLine_40 rfl (lv_at hl 0 rfl) ?_
    refine lv_bipush (v := 63) hx hb dX2_isLine_41 (by decide) ?_
    obtain ⟨σ_12, r_13, e_14, hF⟩ := obi_of hF
    refine m_cVi (As := [.int 63]) (rest := []) C0 hG (mtM_is l e_14) (lw_V q1853 q1855 qs67 q102 q1856) yd_X2_is ⟨by omega, by omega⟩ rfl rfl hl.1 (Nat.le_of_ble_eq_true rfl) dX2_isLine_43 (fun H locs hG => ?_)
    refine lv_if_eq (tgt := 71) hx hb dX2_isLine_46 (by decide) (fun c_15 => ?_) (fun c_15 => ?_)
    · have hF := ifp hF c_15
      exact bM_isLine_71 C0 hRo _  H locs ls hG (lv_sub hl [0] rfl) hF
    · have hF := ifn hF c_15
      refine lv_aload_n hx hb dX2_isLine_49 rfl (lv_at hl 0 rfl) ?_
      refine m_geta C0 hG 23 (by decide) rfl q1601 dX2_isLine_50 ?_
      refine lv_aload_n hx hb dX2_isLine_53 rfl (lv_at hl 0 rfl) ?_
      refine m_geti C0 hG 21 (by decide) rfl q1599 dX2_isLine_54 hF (fun x_16 hF => ?_)
      refine lv_aload_n hx hb dX2_isLine_57 rfl (lv_at hl 0 rfl) ?_
      refine m_geti C0 hG 20 (by decide) rfl q1598 dX2_isLine_58 hF (fun x_17 hF => ?_)
      refine m_st C0 hG 23 ⟨by decide, rfl, by decide⟩ dX2_isLine_61 hF (fun σ_18 H locs hG hF => ?_)
      refine lv_aload_n hx hb dX2_isLine_62 rfl (lv_at hl 0 rfl) ?_
      obtain ⟨σ_19, r_20, e_21, hF⟩ := obi_of hF
      refine m_cVi (As := []) (rest := []) C0 hG (mtM_isE l (mtM_isO l 8) e_21) (lw_V q1814 q1816 qs58 q102 q1817) yd_X2_isE ⟨by omega, by omega⟩ rfl rfl hl.1 (Nat.le_of_ble_eq_true rfl) dX2_isLine_63 (fun H locs hG => ?_)
      refine lv_if_ne (tgt := 71) hx hb dX2_isLine_66 (by decide) (fun c_22 => ?_) (fun c_22 => ?_)
      · have hF := ifn hF c_22
        exact bM_isLine_71 C0 hRo _  H locs ls hG (lv_sub hl [0] rfl) hF
      · have hF := ifp hF c_22
        refine lv_iconst (v := 0) hx hb dX2_isLine_69 (by decide) ?_
        exact m_zret C0 hG dX2_isLine_70 hF
  · have hF := ifp hF c_7
    refine lv_iconst (v := 0) hx hb dX2_isLine_20 (by decide) ?_
    exact m_zret C0 hG dX2_isLine_21 hF
theorem mtM_isLine (l : Launch) {N : Nat} {L : mL} {σ σ' : mS} {r : Int32} (hF : fM_isLine N σ = some (σ', r)) : mMet l yX2_isLine cX2_isLine 1 (some .boolean) (54) (1125) [.ref L.1] L σ (some (.int r)) σ' := by
  refine m_head (by decide) rfl ?_
  intro p e s m below meth c A C0 hG
  have hl := lv_entry ([.ref L.1]) (n := 1) (Nat.le_of_ble_eq_true rfl)
  rw [lg_entry_eq]
  generalize (lg_sl ([.ref L.1]) ++ List.replicate (1 - (lg_sl ([.ref L.1])).length) Slot.unset).toArray = ls at hl ⊢
  have hl : lv_has ls 1 [(0, .ref L.1)] := hl
  exact bM_isLine_e C0 ⟨Nat.le_refl _, Nat.le_refl _⟩ _ _ [] ls hG hl hF
def fM_law_b151 (N : Nat) : Nat → mS → Int32 → Option (mS × Int32)
  | 0, _, _ => none
  | n + 1, σ, x3 =>
    nmv (σ.1 20) fun x_35 =>
    if x_35 ≤ x3 then (
      some (σ, 1))
    else (
      chk x3 200 <| nmv (σ.2.1 25 x3.toNatClampNeg) fun x_37 =>
      chk x3 200 <| nmv (mSj σ 17 x3.toNatClampNeg x_37) fun σ_38 =>
      nmv (x3 + 1) fun x_39 =>
      (fM_law_b151 N n) σ_38 x_39)
def fM_law_b99 (N : Nat) : Nat → mS → Int32 → Option (mS × Int32)
  | 0, _, _ => none
  | n + 1, σ, x3 =>
    nmv (σ.1 13) fun x_26 =>
    if x_26 ≤ x3 then (
      fM_law_b151 N N σ 0)
    else (
      chk x3 61 <| nmv (σ.2.1 22 x3.toNatClampNeg) fun x_28 =>
      chk x3 60 <| nmv (mSj σ 14 x3.toNatClampNeg x_28) fun σ_29 =>
      chk x3 61 <| nmv (σ_29.2.1 23 x3.toNatClampNeg) fun x_30 =>
      chk x3 60 <| nmv (mSj σ_29 15 x3.toNatClampNeg x_30) fun σ_31 =>
      chk x3 61 <| nmv (σ_31.2.1 24 x3.toNatClampNeg) fun x_32 =>
      chk x3 60 <| nmv (mSj σ_31 16 x3.toNatClampNeg x_32) fun σ_33 =>
      nmv (x3 + 1) fun x_34 =>
      (fM_law_b99 N n) σ_33 x_34)
def fM_law_b66 (N : Nat) (σ : mS) (y0 : Int32) : Option (mS × Int32) :=
  nmv (mSi σ 10 0) fun σ_20 =>
  if y0 = 0 then (
    nmv (σ_20.1 18) fun x_25 =>
    some (σ_20, ((-100) : Int32) - x_25))
  else (
    nmv (mSi σ_20 12 1) fun σ_22 =>
    nmv (σ_22.1 21) fun x_23 =>
    nmv (mSi σ_22 13 x_23) fun σ_24 =>
    fM_law_b99 N N σ_24 0)
def fM_law_b65 (N : Nat) (σ : mS) : Option (mS × Int32) :=
  fM_law_b66 N σ 0
def fM_law_b46 (N : Nat) (σ : mS) (x1 : Int32) : Option (mS × Int32) :=
  if x1 = 0 then (
    fM_law_b65 N σ)
  else (
    nmv (σ.1 18) fun x_17 =>
    nmv (σ.1 10) fun x_18 =>
    if x_17 = x_18 then (
      fM_law_b66 N σ 1)
    else (
      fM_law_b65 N σ))
def fM_law_b25 (N : Nat) : Nat → mS → Int32 → Option (mS × Int32)
  | 0, _, _ => none
  | n + 1, σ, x1 =>
    if x1 = 0 then (
      fM_law_b46 N σ x1)
    else (
      obi (fM_is N σ 59) fun σ_9 r_10 =>
      if r_10 = 0 then (
        fM_law_b46 N σ_9 x1)
      else (
        obi (fM_isLine N σ_9) fun σ_13 r_14 =>
        (fM_law_b25 N n) σ_13 r_14))
def fM_law (N : Nat) (σ : mS) : Option (mS × Int32) :=
  nmv (mSi σ 18 0) fun σ_1 =>
  nmv (mSi σ_1 19 0) fun σ_2 =>
  nmv (mSi σ_2 20 0) fun σ_3 =>
  nmv (mSi σ_3 21 0) fun σ_4 =>
  obi (fM_isLine N σ_4) fun σ_5 r_6 =>
  fM_law_b25 N N σ_5 r_6
theorem bM_law_151 {N : Nat} (C0 : mCx p s m args meth c cX2_law 4 (some .int) L A) (hRo : 55 ≤ R.frames ∧ 1145 ≤ R.locals) {σ' : mS} {r : Int32} : ∀ (n : Nat) (σ : mS) (x3 : Int32) (H : Heap) (locs : List Loc) (ls : Array Slot), mG A L s σ H locs → lv_has ls 4 [(0, .ref L.1), (3, .int x3)] → fM_law_b151 N n σ x3 = some (σ', r) → W p l e R s m args below meth c H locs 0 0 (mZ below L A s args σ' (some (.int r))) (F0 m 151 ls []) := by
  have hx := C0.1
  have hb := C0.2.1
  intro n
  induction n with
  | zero => intro σ x3 H locs ls hG hl hF; cases hF
  | succ n ih =>
    intro σ x3 H locs ls hG hl hF
    unfold fM_law_b151 at hF
    refine lv_iload_n hx hb dX2_law_151 rfl (lv_at hl 1 rfl) ?_
    refine lv_aload_n hx hb dX2_law_152 rfl (lv_at hl 0 rfl) ?_
    refine m_geti C0 hG 20 (by decide) rfl q1598 dX2_law_153 hF (fun x_35 hF => ?_)
    refine lv_icmp_ge (tgt := 177) hx hb dX2_law_156 (by decide) (fun c_36 => ?_) (fun c_36 => ?_)
    · have hF := ifp hF c_36
      refine lv_iconst (v := 1) hx hb dX2_law_177 (by decide) ?_
      exact m_iret C0 hG dX2_law_178 hF
    · have hF := ifn hF c_36
      refine lv_aload_n hx hb dX2_law_159 rfl (lv_at hl 0 rfl) ?_
      refine m_geta C0 hG 17 (by decide) rfl q1595 dX2_law_160 ?_
      refine lv_iload_n hx hb dX2_law_163 rfl (lv_at hl 1 rfl) ?_
      refine lv_aload_n hx hb dX2_law_164 rfl (lv_at hl 0 rfl) ?_
      refine m_geta C0 hG 25 (by decide) rfl q1603 dX2_law_165 ?_
      refine lv_iload_n hx hb dX2_law_168 rfl (lv_at hl 1 rfl) ?_
      refine m_ld C0 hG 25 ⟨by decide, rfl, by decide⟩ dX2_law_169 hF (fun x_37 hF => ?_)
      refine m_st C0 hG 17 ⟨by decide, rfl, by decide⟩ dX2_law_170 hF (fun σ_38 H locs hG hF => ?_)
      refine w_iinc hx hb dX2_law_171 hl 1 rfl (v := 1) (by decide) (by decide) hF (fun x_39 ls hl hF => ?_)
      have hl : lv_has ls 4 [(3, .int x_39), (0, .ref L.1)] := hl
      refine lv_goto (tgt := 151) hx hb dX2_law_174 (by decide) ?_
      exact ih _ _ H locs ls hG (lv_sub hl [1, 0] rfl) hF
theorem bM_law_99 {N : Nat} (C0 : mCx p s m args meth c cX2_law 4 (some .int) L A) (hRo : 55 ≤ R.frames ∧ 1145 ≤ R.locals) {σ' : mS} {r : Int32} : ∀ (n : Nat) (σ : mS) (x3 : Int32) (H : Heap) (locs : List Loc) (ls : Array Slot), mG A L s σ H locs → lv_has ls 4 [(0, .ref L.1), (3, .int x3)] → fM_law_b99 N n σ x3 = some (σ', r) → W p l e R s m args below meth c H locs 0 0 (mZ below L A s args σ' (some (.int r))) (F0 m 99 ls []) := by
  have hx := C0.1
  have hb := C0.2.1
  intro n
  induction n with
  | zero => intro σ x3 H locs ls hG hl hF; cases hF
  | succ n ih =>
    intro σ x3 H locs ls hG hl hF
    unfold fM_law_b99 at hF
    refine lv_iload_n hx hb dX2_law_99 rfl (lv_at hl 1 rfl) ?_
    refine lv_aload_n hx hb dX2_law_100 rfl (lv_at hl 0 rfl) ?_
    refine m_geti C0 hG 13 (by decide) rfl q1591 dX2_law_101 hF (fun x_26 hF => ?_)
    refine lv_icmp_ge (tgt := 149) hx hb dX2_law_104 (by decide) (fun c_27 => ?_) (fun c_27 => ?_)
    · have hF := ifp hF c_27
      refine lv_iconst (v := 0) hx hb dX2_law_149 (by decide) ?_
      refine lv_istore_n (lv' := [(3, .int 0), (0, .ref L.1)]) hx hb dX2_law_150 rfl hl (by decide) rfl (fun ls hl => ?_)
      exact bM_law_151 C0 hRo N _ _ H locs ls hG (lv_sub hl [1, 0] rfl) hF
    · have hF := ifn hF c_27
      refine lv_aload_n hx hb dX2_law_107 rfl (lv_at hl 0 rfl) ?_
      refine m_geta C0 hG 14 (by decide) rfl q1592 dX2_law_108 ?_
      refine lv_iload_n hx hb dX2_law_111 rfl (lv_at hl 1 rfl) ?_
      refine lv_aload_n hx hb dX2_law_112 rfl (lv_at hl 0 rfl) ?_
      refine m_geta C0 hG 22 (by decide) rfl q1600 dX2_law_113 ?_
      refine lv_iload_n hx hb dX2_law_116 rfl (lv_at hl 1 rfl) ?_
      refine m_ld C0 hG 22 ⟨by decide, rfl, by decide⟩ dX2_law_117 hF (fun x_28 hF => ?_)
      refine m_st C0 hG 14 ⟨by decide, rfl, by decide⟩ dX2_law_118 hF (fun σ_29 H locs hG hF => ?_)
      refine lv_aload_n hx hb dX2_law_119 rfl (lv_at hl 0 rfl) ?_
      refine m_geta C0 hG 15 (by decide) rfl q1593 dX2_law_120 ?_
      refine lv_iload_n hx hb dX2_law_123 rfl (lv_at hl 1 rfl) ?_
      refine lv_aload_n hx hb dX2_law_124 rfl (lv_at hl 0 rfl) ?_
      refine m_geta C0 hG 23 (by decide) rfl q1601 dX2_law_125 ?_
      refine lv_iload_n hx hb dX2_law_128 rfl (lv_at hl 1 rfl) ?_
      refine m_ld C0 hG 23 ⟨by decide, rfl, by decide⟩ dX2_law_129 hF (fun x_30 hF => ?_)
      refine m_st C0 hG 15 ⟨by decide, rfl, by decide⟩ dX2_law_130 hF (fun σ_31 H locs hG hF => ?_)
      refine lv_aload_n hx hb dX2_law_131 rfl (lv_at hl 0 rfl) ?_
      refine m_geta C0 hG 16 (by decide) rfl q1594 dX2_law_132 ?_
      refine lv_iload_n hx hb dX2_law_135 rfl (lv_at hl 1 rfl) ?_
      refine lv_aload_n hx hb dX2_law_136 rfl (lv_at hl 0 rfl) ?_
      refine m_geta C0 hG 24 (by decide) rfl q1602 dX2_law_137 ?_
      refine lv_iload_n hx hb dX2_law_140 rfl (lv_at hl 1 rfl) ?_
      refine m_ld C0 hG 24 ⟨by decide, rfl, by decide⟩ dX2_law_141 hF (fun x_32 hF => ?_)
      refine m_st C0 hG 16 ⟨by decide, rfl, by decide⟩ dX2_law_142 hF (fun σ_33 H locs hG hF => ?_)
      refine w_iinc hx hb dX2_law_143 hl 1 rfl (v := 1) (by decide) (by decide) hF (fun x_34 ls hl hF => ?_)
      have hl : lv_has ls 4 [(3, .int x_34), (0, .ref L.1)] := hl
      refine lv_goto (tgt := 99) hx hb dX2_law_146 (by decide) ?_
      exact ih _ _ H locs ls hG (lv_sub hl [1, 0] rfl) hF
theorem bM_law_66 {N : Nat} (C0 : mCx p s m args meth c cX2_law 4 (some .int) L A) (hRo : 55 ≤ R.frames ∧ 1145 ≤ R.locals) {σ' : mS} {r : Int32} (σ : mS) (y0 : Int32) (H : Heap) (locs : List Loc) (ls : Array Slot) (hG : mG A L s σ H locs) (hl : lv_has ls 4 [(0, .ref L.1)]) (hF : fM_law_b66 N σ y0 = some (σ', r)) : W p l e R s m args below meth c H locs 0 0 (mZ below L A s args σ' (some (.int r))) (F0 m 66 ls [.int y0]) := by
  have hx := C0.1
  have hb := C0.2.1
  unfold fM_law_b66 at hF
  refine lv_istore_n (lv' := [(2, .int y0), (0, .ref L.1)]) hx hb dX2_law_66 rfl hl (by decide) rfl (fun ls hl => ?_)
  refine lv_aload_n hx hb dX2_law_67 rfl (lv_at hl 1 rfl) ?_
  refine lv_iconst (v := 0) hx hb dX2_law_68 (by decide) ?_
  refine m_puti C0 hG 10 (by decide) rfl q1588 dX2_law_69 (Or.inl ⟨by decide, by decide⟩) hF (fun σ_20 H locs hG hF => ?_)
  refine lv_iload_n hx hb dX2_law_72 rfl (lv_at hl 0 rfl) ?_
  refine lv_if_ne (tgt := 84) hx hb dX2_law_73 (by decide) (fun c_21 => ?_) (fun c_21 => ?_)
  · have hF := ifn hF c_21
    refine lv_aload_n hx hb dX2_law_84 rfl (lv_at hl 1 rfl) ?_
    refine lv_iconst (v := 1) hx hb dX2_law_85 (by decide) ?_
    refine m_puti C0 hG 12 (by decide) rfl q1590 dX2_law_86 (Or.inr rfl) hF (fun σ_22 H locs hG hF => ?_)
    refine lv_aload_n hx hb dX2_law_89 rfl (lv_at hl 1 rfl) ?_
    refine lv_aload_n hx hb dX2_law_90 rfl (lv_at hl 1 rfl) ?_
    refine m_geti C0 hG 21 (by decide) rfl q1599 dX2_law_91 hF (fun x_23 hF => ?_)
    refine m_puti C0 hG 13 (by decide) rfl q1591 dX2_law_94 (Or.inl ⟨by decide, by decide⟩) hF (fun σ_24 H locs hG hF => ?_)
    refine lv_iconst (v := 0) hx hb dX2_law_97 (by decide) ?_
    refine lv_istore_n (lv' := [(3, .int 0), (2, .int y0), (0, .ref L.1)]) hx hb dX2_law_98 rfl hl (by decide) rfl (fun ls hl => ?_)
    exact bM_law_99 C0 hRo N _ _ H locs ls hG (lv_sub hl [2, 0] rfl) hF
  · have hF := ifp hF c_21
    refine lv_bipush (v := (-100)) hx hb dX2_law_76 (by decide) ?_
    refine lv_aload_n hx hb dX2_law_78 rfl (lv_at hl 1 rfl) ?_
    refine m_geti C0 hG 18 (by decide) rfl q1596 dX2_law_79 hF (fun x_25 hF => ?_)
    refine lv_isub hx hb dX2_law_82 ?_
    exact m_iret C0 hG dX2_law_83 hF
theorem bM_law_65 {N : Nat} (C0 : mCx p s m args meth c cX2_law 4 (some .int) L A) (hRo : 55 ≤ R.frames ∧ 1145 ≤ R.locals) {σ' : mS} {r : Int32} (σ : mS) (H : Heap) (locs : List Loc) (ls : Array Slot) (hG : mG A L s σ H locs) (hl : lv_has ls 4 [(0, .ref L.1)]) (hF : fM_law_b65 N σ = some (σ', r)) : W p l e R s m args below meth c H locs 0 0 (mZ below L A s args σ' (some (.int r))) (F0 m 65 ls []) := by
  have hx := C0.1
  have hb := C0.2.1
  unfold fM_law_b65 at hF
  refine lv_iconst (v := 0) hx hb dX2_law_65 (by decide) ?_
  exact bM_law_66 C0 hRo _ _ H locs ls hG (lv_sub hl [0] rfl) hF
theorem bM_law_46 {N : Nat} (C0 : mCx p s m args meth c cX2_law 4 (some .int) L A) (hRo : 55 ≤ R.frames ∧ 1145 ≤ R.locals) {σ' : mS} {r : Int32} (σ : mS) (x1 : Int32) (H : Heap) (locs : List Loc) (ls : Array Slot) (hG : mG A L s σ H locs) (hl : lv_has ls 4 [(0, .ref L.1), (1, .int x1)]) (hF : fM_law_b46 N σ x1 = some (σ', r)) : W p l e R s m args below meth c H locs 0 0 (mZ below L A s args σ' (some (.int r))) (F0 m 46 ls []) := by
  have hx := C0.1
  have hb := C0.2.1
  unfold fM_law_b46 at hF
  refine lv_iload_n hx hb dX2_law_46 rfl (lv_at hl 1 rfl) ?_
  refine lv_if_eq (tgt := 65) hx hb dX2_law_47 (by decide) (fun c_16 => ?_) (fun c_16 => ?_)
  · have hF := ifp hF c_16
    exact bM_law_65 C0 hRo _  H locs ls hG (lv_sub hl [0] rfl) hF
  · have hF := ifn hF c_16
    refine lv_aload_n hx hb dX2_law_50 rfl (lv_at hl 0 rfl) ?_
    refine m_geti C0 hG 18 (by decide) rfl q1596 dX2_law_51 hF (fun x_17 hF => ?_)
    refine lv_aload_n hx hb dX2_law_54 rfl (lv_at hl 0 rfl) ?_
    refine m_geti C0 hG 10 (by decide) rfl q1588 dX2_law_55 hF (fun x_18 hF => ?_)
    refine lv_icmp_ne (tgt := 65) hx hb dX2_law_58 (by decide) (fun c_19 => ?_) (fun c_19 => ?_)
    · have hF := ifn hF c_19
      exact bM_law_65 C0 hRo _  H locs ls hG (lv_sub hl [0] rfl) hF
    · have hF := ifp hF c_19
      refine lv_iconst (v := 1) hx hb dX2_law_61 (by decide) ?_
      refine lv_goto (tgt := 66) hx hb dX2_law_62 (by decide) ?_
      exact bM_law_66 C0 hRo _ _ H locs ls hG (lv_sub hl [0] rfl) hF
theorem bM_law_25 {N : Nat} (C0 : mCx p s m args meth c cX2_law 4 (some .int) L A) (hRo : 55 ≤ R.frames ∧ 1145 ≤ R.locals) {σ' : mS} {r : Int32} : ∀ (n : Nat) (σ : mS) (x1 : Int32) (H : Heap) (locs : List Loc) (ls : Array Slot), mG A L s σ H locs → lv_has ls 4 [(0, .ref L.1), (1, .int x1)] → fM_law_b25 N n σ x1 = some (σ', r) → W p l e R s m args below meth c H locs 0 0 (mZ below L A s args σ' (some (.int r))) (F0 m 25 ls []) := by
  have hx := C0.1
  have hb := C0.2.1
  intro n
  induction n with
  | zero => intro σ x1 H locs ls hG hl hF; cases hF
  | succ n ih =>
    intro σ x1 H locs ls hG hl hF
    unfold fM_law_b25 at hF
    refine lv_iload_n hx hb dX2_law_25 rfl (lv_at hl 1 rfl) ?_
    refine lv_if_eq (tgt := 46) hx hb dX2_law_26 (by decide) (fun c_8 => ?_) (fun c_8 => ?_)
    · have hF := ifp hF c_8
      exact bM_law_46 C0 hRo _ _ H locs ls hG (lv_sub hl [0, 1] rfl) hF
    · have hF := ifn hF c_8
      refine lv_aload_n hx hb dX2_law_29 rfl (lv_at hl 0 rfl) ?_
      refine lv_bipush (v := 59) hx hb dX2_law_30 (by decide) ?_
      obtain ⟨σ_9, r_10, e_11, hF⟩ := obi_of hF
      refine m_cVi (As := [.int 59]) (rest := []) C0 hG (mtM_is l e_11) (lw_V q1853 q1855 qs67 q102 q1856) yd_X2_is ⟨by omega, by omega⟩ rfl rfl hl.1 (Nat.le_of_ble_eq_true rfl) dX2_law_32 (fun H locs hG => ?_)
      refine lv_if_eq (tgt := 46) hx hb dX2_law_35 (by decide) (fun c_12 => ?_) (fun c_12 => ?_)
      · have hF := ifp hF c_12
        exact bM_law_46 C0 hRo _ _ H locs ls hG (lv_sub hl [0, 1] rfl) hF
      · have hF := ifn hF c_12
        refine lv_aload_n hx hb dX2_law_38 rfl (lv_at hl 0 rfl) ?_
        obtain ⟨σ_13, r_14, e_15, hF⟩ := obi_of hF
        refine m_cVi (As := []) (rest := []) C0 hG (mtM_isLine l e_15) (lw_V q1810 q1812 qs57 q102 q1813) yd_X2_isLine ⟨by omega, by omega⟩ rfl rfl hl.1 (Nat.le_of_ble_eq_true rfl) dX2_law_39 (fun H locs hG => ?_)
        refine lv_istore_n (lv' := [(1, .int r_14), (0, .ref L.1)]) hx hb dX2_law_42 rfl hl (by decide) rfl (fun ls hl => ?_)
        refine lv_goto (tgt := 25) hx hb dX2_law_43 (by decide) ?_
        exact ih _ _ H locs ls hG (lv_sub hl [1, 0] rfl) hF
theorem bM_law_e {N : Nat} (C0 : mCx p s m args meth c cX2_law 4 (some .int) L A) (hRo : 55 ≤ R.frames ∧ 1145 ≤ R.locals) {σ' : mS} {r : Int32} (σ : mS) (H : Heap) (locs : List Loc) (ls : Array Slot) (hG : mG A L s σ H locs) (hl : lv_has ls 4 [(0, .ref L.1)]) (hF : fM_law N σ = some (σ', r)) : W p l e R s m args below meth c H locs 0 0 (mZ below L A s args σ' (some (.int r))) (F0 m 0 ls []) := by
  have hx := C0.1
  have hb := C0.2.1
  unfold fM_law at hF
  refine lv_aload_n hx hb dX2_law_0 rfl (lv_at hl 0 rfl) ?_
  refine lv_iconst (v := 0) hx hb dX2_law_1 (by decide) ?_
  refine m_puti C0 hG 18 (by decide) rfl q1596 dX2_law_2 (Or.inl ⟨by decide, by decide⟩) hF (fun σ_1 H locs hG hF => ?_)
  refine lv_aload_n hx hb dX2_law_5 rfl (lv_at hl 0 rfl) ?_
  refine lv_iconst (v := 0) hx hb dX2_law_6 (by decide) ?_
  refine m_puti C0 hG 19 (by decide) rfl q1597 dX2_law_7 (Or.inl ⟨by decide, by decide⟩) hF (fun σ_2 H locs hG hF => ?_)
  refine lv_aload_n hx hb dX2_law_10 rfl (lv_at hl 0 rfl) ?_
  refine lv_iconst (v := 0) hx hb dX2_law_11 (by decide) ?_
  refine m_puti C0 hG 20 (by decide) rfl q1598 dX2_law_12 (Or.inl ⟨by decide, by decide⟩) hF (fun σ_3 H locs hG hF => ?_)
  refine lv_aload_n hx hb dX2_law_15 rfl (lv_at hl 0 rfl) ?_
  refine lv_iconst (v := 0) hx hb dX2_law_16 (by decide) ?_
  refine m_puti C0 hG 21 (by decide) rfl q1599 dX2_law_17 (Or.inl ⟨by decide, by decide⟩) hF (fun σ_4 H locs hG hF => ?_)
  refine lv_aload_n hx hb dX2_law_20 rfl (lv_at hl 0 rfl) ?_
  obtain ⟨σ_5, r_6, e_7, hF⟩ := obi_of hF
  refine m_cVi (As := []) (rest := []) C0 hG (mtM_isLine l e_7) (lw_V q1810 q1812 qs57 q102 q1813) yd_X2_isLine ⟨by omega, by omega⟩ rfl rfl hl.1 (Nat.le_of_ble_eq_true rfl) dX2_law_21 (fun H locs hG => ?_)
  refine lv_istore_n (lv' := [(1, .int r_6), (0, .ref L.1)]) hx hb dX2_law_24 rfl hl (by decide) rfl (fun ls hl => ?_)
  exact bM_law_25 C0 hRo N _ _ H locs ls hG (lv_sub hl [1, 0] rfl) hF
theorem mtM_law (l : Launch) {N : Nat} {L : mL} {σ σ' : mS} {r : Int32} (hF : fM_law N σ = some (σ', r)) : mMet l yX2_law cX2_law 4 (some .int) (55) (1145) [.ref L.1] L σ (some (.int r)) σ' := by
  refine m_head (by decide) rfl ?_
  intro p e s m below meth c A C0 hG
  have hl := lv_entry ([.ref L.1]) (n := 4) (Nat.le_of_ble_eq_true rfl)
  rw [lg_entry_eq]
  generalize (lg_sl ([.ref L.1]) ++ List.replicate (4 - (lg_sl ([.ref L.1])).length) Slot.unset).toArray = ls at hl ⊢
  have hl : lv_has ls 4 [(0, .ref L.1)] := hl
  exact bM_law_e C0 ⟨Nat.le_refl _, Nat.le_refl _⟩ _ _ [] ls hG hl hF
end MWALK3
