section XWALK4
variable {p : Program} {l : Launch} {e : Env} {R : Room} {s : State} {m : MethodId} {args : Array Value} {below : List Frame} {meth : Method} {c : Code} {A : Nat → Prop}
variable {L : xL} {g : xg}
def fX_goOrders_b60 (N : Nat) (rc : xS → Int32 → Int32 → Int32 → Option (xS × Unit)) (k17 : xS → Int32 → Int32 → Int32 → Int32 → Option (xS × Unit)) (σ : xS) (x1 : Int32) (x2 : Int32) (x3 : Int32) (x4 : Int32) : Option (xS × Unit) :=
  nmv (x4 + 1) fun x_16 =>
  k17 σ x1 x2 x3 x_16
def fX_goOrders_b17 (N : Nat) (rc : xS → Int32 → Int32 → Int32 → Option (xS × Unit)) : Nat → xS → Int32 → Int32 → Int32 → Int32 → Option (xS × Unit)
  | 0, _, _, _, _, _ => none
  | n + 1, σ, x1, x2, x3, x4 =>
    nmv (xI σ 1) fun x_6 =>
    if x_6 ≤ x4 then (
      some (σ, ()))
    else (
      obi (fX_has N σ x3 x4) fun σ_8 r_9 =>
      if r_9 = 0 then (
        chk x2 8 <| nmv (xSj σ_8 21 x2.toNatClampNeg x4) fun σ_12 =>
        obi (rc σ_12 x1 (x2 + 1) (x3 ||| (1 <<< (x4 &&& 31)))) fun σ_13 r_14 =>
        fX_goOrders_b60 N rc (fX_goOrders_b17 N rc n) σ_13 x1 x2 x3 x4)
      else (
        fX_goOrders_b60 N rc (fX_goOrders_b17 N rc n) σ_8 x1 x2 x3 x4))
def fX_goOrders_e (N : Nat) (rc : xS → Int32 → Int32 → Int32 → Option (xS × Unit)) (σ : xS) (a0 : Int32) (a1 : Int32) (a2 : Int32) : Option (xS × Unit) :=
  nmv (xI σ 1) fun x_1 =>
  if a1 = x_1 then (
    obi (fX_meetsOrder N σ a0) fun σ_3 r_4 =>
    some (σ_3, ()))
  else (
    fX_goOrders_b17 N rc N σ a0 a1 a2 0)
def fX_goOrders (N : Nat) : Nat → xS → Int32 → Int32 → Int32 → Option (xS × Unit)
  | 0, _, _, _, _ => none
  | d + 1, σ, a0, a1, a2 => fX_goOrders_e N (fX_goOrders N d) σ a0 a1 a2
theorem bX_goOrders_60 {N : Nat} {rc : xS → Int32 → Int32 → Int32 → Option (xS × Unit)} {fr lo : Nat} (C0 : xCx p l s m args meth c RX0 cX0_goOrders 5 none L A) (hRo : fr + 2 ≤ R.frames ∧ lo + 46 ≤ R.locals) (hrc : ∀ {σ σ1 : xS} {a0 a1 a2 : Int32} {r : Unit}, rc σ a0 a1 a2 = some (σ1, r) → xMet l yX0_goOrders cX0_goOrders 5 none (fr) (lo) 0 0 [.ref L.1, .int a0, .int a1, .int a2] L g σ none σ1) {σ' : xS} {r : Unit} {k17 : xS → Int32 → Int32 → Int32 → Int32 → Option (xS × Unit)} (hk17 : ∀ (σ : xS) (x1 : Int32) (x2 : Int32) (x3 : Int32) (x4 : Int32) (H : Heap) (locs : List Loc) (ls : Array Slot), xG A L g s σ H locs → lv_has ls 5 [(0, .ref L.1), (1, .int x1), (2, .int x2), (3, .int x3), (4, .int x4)] → k17 σ x1 x2 x3 x4 = some (σ', r) → W p l e R s m args below meth c H locs 0 0 (xZ below L g A s args σ' none 0 0) (F0 m 17 ls [])) (σ : xS) (x1 : Int32) (x2 : Int32) (x3 : Int32) (x4 : Int32) (H : Heap) (locs : List Loc) (ls : Array Slot) (hG : xG A L g s σ H locs) (hl : lv_has ls 5 [(0, .ref L.1), (1, .int x1), (2, .int x2), (3, .int x3), (4, .int x4)]) (hF : fX_goOrders_b60 N rc k17 σ x1 x2 x3 x4 = some (σ', r)) : W p l e R s m args below meth c H locs 0 0 (xZ below L g A s args σ' none 0 0) (F0 m 60 ls []) := by
  have hx := C0.1
  have hb := C0.2.1
  have hst := C0.2.2.2.2.2.2.2.2.2.2
  unfold fX_goOrders_b60 at hF
  refine w_iinc hx hb dX0_goOrders_60 hl 4 rfl (v := 1) (by decide) (by decide) hF (fun x_16 ls hl hF => ?_)
  have hl : lv_has ls 5 [(4, .int x_16), (0, .ref L.1), (1, .int x1), (2, .int x2), (3, .int x3)] := hl
  refine lv_goto (tgt := 17) hx hb dX0_goOrders_63 (by decide) ?_
  exact hk17 _ _ _ _ _ H locs ls hG (lv_sub hl [1, 2, 3, 4, 0] rfl) hF
theorem bX_goOrders_17 {N : Nat} {rc : xS → Int32 → Int32 → Int32 → Option (xS × Unit)} {fr lo : Nat} (C0 : xCx p l s m args meth c RX0 cX0_goOrders 5 none L A) (hRo : fr + 2 ≤ R.frames ∧ lo + 46 ≤ R.locals) (hrc : ∀ {σ σ1 : xS} {a0 a1 a2 : Int32} {r : Unit}, rc σ a0 a1 a2 = some (σ1, r) → xMet l yX0_goOrders cX0_goOrders 5 none (fr) (lo) 0 0 [.ref L.1, .int a0, .int a1, .int a2] L g σ none σ1) {σ' : xS} {r : Unit} : ∀ (n : Nat) (σ : xS) (x1 : Int32) (x2 : Int32) (x3 : Int32) (x4 : Int32) (H : Heap) (locs : List Loc) (ls : Array Slot), xG A L g s σ H locs → lv_has ls 5 [(0, .ref L.1), (1, .int x1), (2, .int x2), (3, .int x3), (4, .int x4)] → fX_goOrders_b17 N rc n σ x1 x2 x3 x4 = some (σ', r) → W p l e R s m args below meth c H locs 0 0 (xZ below L g A s args σ' none 0 0) (F0 m 17 ls []) := by
  have hx := C0.1
  have hb := C0.2.1
  have hst := C0.2.2.2.2.2.2.2.2.2.2
  intro n
  induction n with
  | zero => intro σ x1 x2 x3 x4 H locs ls hG hl hF; cases hF
  | succ n ih =>
    intro σ x1 x2 x3 x4 H locs ls hG hl hF
    unfold fX_goOrders_b17 at hF
    refine lv_iload hx hb dX0_goOrders_17 (lv_at hl 4 rfl) ?_
    refine lv_aload_n hx hb dX0_goOrders_19 rfl (lv_at hl 0 rfl) ?_
    refine x_geti C0 hG 1 (by decide) rfl q175 dX0_goOrders_20 hF (fun x_6 hF => ?_)
    refine lv_icmp_ge (tgt := 66) hx hb dX0_goOrders_23 (by decide) (fun c_7 => ?_) (fun c_7 => ?_)
    · have hF := ifp hF c_7
      exact x_vret C0 hG ⟨by omega, by omega⟩ dX0_goOrders_66 hF
    · have hF := ifn hF c_7
      refine lv_iload_n hx hb dX0_goOrders_26 rfl (lv_at hl 3 rfl) ?_
      refine lv_iload hx hb dX0_goOrders_27 (lv_at hl 4 rfl) ?_
      obtain ⟨σ_8, r_9, e_10, hF⟩ := obi_of hF
      refine x_cSi0 (As := [.int x3, .int x4]) (rest := []) C0 hG (mtX_has l hst e_10) (lw_S q957 q958 q100 q959) yd_X0_has ⟨by omega, by omega⟩ ⟨by omega, by omega⟩ rfl rfl hl.1 (Nat.le_of_ble_eq_true rfl) dX0_goOrders_29 (fun H locs hG => ?_)
      refine lv_if_eq (tgt := 38) hx hb dX0_goOrders_32 (by decide) (fun c_11 => ?_) (fun c_11 => ?_)
      · have hF := ifp hF c_11
        refine lv_aload_n hx hb dX0_goOrders_38 rfl (lv_at hl 0 rfl) ?_
        refine x_geta C0 hG 21 (by decide) rfl (by decide) q197 dX0_goOrders_39 ?_
        refine lv_iload_n hx hb dX0_goOrders_42 rfl (lv_at hl 2 rfl) ?_
        refine lv_iload hx hb dX0_goOrders_43 (lv_at hl 4 rfl) ?_
        refine x_st C0 hG 21 ⟨by decide, rfl, rfl⟩ dX0_goOrders_45 hF (fun σ_12 H locs hG hF => ?_)
        refine lv_aload_n hx hb dX0_goOrders_46 rfl (lv_at hl 0 rfl) ?_
        refine lv_iload_n hx hb dX0_goOrders_47 rfl (lv_at hl 1 rfl) ?_
        refine lv_iload_n hx hb dX0_goOrders_48 rfl (lv_at hl 2 rfl) ?_
        refine lv_iconst (v := 1) hx hb dX0_goOrders_49 (by decide) ?_
        refine lv_iadd hx hb dX0_goOrders_50 ?_
        refine lv_iload_n hx hb dX0_goOrders_51 rfl (lv_at hl 3 rfl) ?_
        refine lv_iconst (v := 1) hx hb dX0_goOrders_52 (by decide) ?_
        refine lv_iload hx hb dX0_goOrders_53 (lv_at hl 4 rfl) ?_
        refine lv_ishl hx hb dX0_goOrders_55 ?_
        refine lv_ior hx hb dX0_goOrders_56 ?_
        obtain ⟨σ_13, r_14, e_15, hF⟩ := obi_of hF
        refine x_cVv0 (As := [.int x1, .int (x2 + 1), .int (x3 ||| (1 <<< (x4 &&& 31)))]) (rest := []) C0 hG (hrc e_15) (lw_V q987 q989 qs39 q100 q990) yd_X0_goOrders (x_rc0 C0 hG) ⟨by omega, by omega⟩ ⟨by omega, by omega⟩ rfl rfl hl.1 (Nat.le_of_ble_eq_true rfl) dX0_goOrders_57 (fun H locs hG => ?_)
        exact bX_goOrders_60 C0 hRo hrc ih _ _ _ _ _ H locs ls hG (lv_sub hl [0, 1, 2, 3, 4] rfl) hF
      · have hF := ifn hF c_11
        refine lv_goto (tgt := 60) hx hb dX0_goOrders_35 (by decide) ?_
        exact bX_goOrders_60 C0 hRo hrc ih _ _ _ _ _ H locs ls hG (lv_sub hl [0, 1, 2, 3, 4] rfl) hF
theorem bX_goOrders_e {N : Nat} {rc : xS → Int32 → Int32 → Int32 → Option (xS × Unit)} {fr lo : Nat} (C0 : xCx p l s m args meth c RX0 cX0_goOrders 5 none L A) (hRo : fr + 2 ≤ R.frames ∧ lo + 46 ≤ R.locals) (hrc : ∀ {σ σ1 : xS} {a0 a1 a2 : Int32} {r : Unit}, rc σ a0 a1 a2 = some (σ1, r) → xMet l yX0_goOrders cX0_goOrders 5 none (fr) (lo) 0 0 [.ref L.1, .int a0, .int a1, .int a2] L g σ none σ1) {σ' : xS} {r : Unit} (σ : xS) (a0 : Int32) (a1 : Int32) (a2 : Int32) (H : Heap) (locs : List Loc) (ls : Array Slot) (hG : xG A L g s σ H locs) (hl : lv_has ls 5 [(0, .ref L.1), (1, .int a0), (2, .int a1), (3, .int a2)]) (hF : fX_goOrders_e N rc σ a0 a1 a2 = some (σ', r)) : W p l e R s m args below meth c H locs 0 0 (xZ below L g A s args σ' none 0 0) (F0 m 0 ls []) := by
  have hx := C0.1
  have hb := C0.2.1
  have hst := C0.2.2.2.2.2.2.2.2.2.2
  unfold fX_goOrders_e at hF
  refine lv_iload_n hx hb dX0_goOrders_0 rfl (lv_at hl 2 rfl) ?_
  refine lv_aload_n hx hb dX0_goOrders_1 rfl (lv_at hl 0 rfl) ?_
  refine x_geti C0 hG 1 (by decide) rfl q175 dX0_goOrders_2 hF (fun x_1 hF => ?_)
  refine lv_icmp_ne (tgt := 14) hx hb dX0_goOrders_5 (by decide) (fun c_2 => ?_) (fun c_2 => ?_)
  · have hF := ifn hF c_2
    refine lv_iconst (v := 0) hx hb dX0_goOrders_14 (by decide) ?_
    refine lv_istore (lv' := [(4, .int 0), (0, .ref L.1), (1, .int a0), (2, .int a1), (3, .int a2)]) hx hb dX0_goOrders_15 hl (by decide) rfl (fun ls hl => ?_)
    exact bX_goOrders_17 C0 hRo hrc N _ _ _ _ _ H locs ls hG (lv_sub hl [1, 2, 3, 4, 0] rfl) hF
  · have hF := ifp hF c_2
    refine lv_aload_n hx hb dX0_goOrders_8 rfl (lv_at hl 0 rfl) ?_
    refine lv_iload_n hx hb dX0_goOrders_9 rfl (lv_at hl 1 rfl) ?_
    obtain ⟨σ_3, r_4, e_5, hF⟩ := obi_of hF
    refine x_cVv0 (As := [.int a0]) (rest := []) C0 hG (mtX_meetsOrder l hst e_5) (lw_V q991 q993 qs40 q100 q994) yd_X0_meetsOrder (x_rc0 C0 hG) ⟨by omega, by omega⟩ ⟨by omega, by omega⟩ rfl rfl hl.1 (Nat.le_of_ble_eq_true rfl) dX0_goOrders_10 (fun H locs hG => ?_)
    exact x_vret C0 hG ⟨by omega, by omega⟩ dX0_goOrders_13 hF
theorem mtX_goOrders_e (l : Launch) (hst : l.stackTraces = false) {N : Nat} {L : xL} {g : xg} {rc : xS → Int32 → Int32 → Int32 → Option (xS × Unit)} {fr lo : Nat} (hrc : ∀ {σ σ1 : xS} {a0 a1 a2 : Int32} {r : Unit}, rc σ a0 a1 a2 = some (σ1, r) → xMet l yX0_goOrders cX0_goOrders 5 none (fr) (lo) 0 0 [.ref L.1, .int a0, .int a1, .int a2] L g σ none σ1) {σ σ' : xS} {r : Unit} {a0 : Int32} {a1 : Int32} {a2 : Int32} (hF : fX_goOrders_e N rc σ a0 a1 a2 = some (σ', r)) : xMet l yX0_goOrders cX0_goOrders 5 none (fr + 2) (lo + 46) 0 0 [.ref L.1, .int a0, .int a1, .int a2] L g σ none σ' := by
  refine x_head hst (by decide) rfl ?_
  intro p e s m below meth c A C0 hG
  have hl := lv_entry ([.ref L.1, .int a0, .int a1, .int a2]) (n := 5) (Nat.le_of_ble_eq_true rfl)
  rw [lg_entry_eq]
  generalize (lg_sl ([.ref L.1, .int a0, .int a1, .int a2]) ++ List.replicate (5 - (lg_sl ([.ref L.1, .int a0, .int a1, .int a2])).length) Slot.unset).toArray = ls at hl ⊢
  have hl : lv_has ls 5 [(0, .ref L.1), (1, .int a0), (2, .int a1), (3, .int a2)] := hl
  exact bX_goOrders_e C0 ⟨Nat.le_refl _, Nat.le_refl _⟩ hrc _ _ _ _ _ [] ls hG hl hF
theorem mtX_goOrders (l : Launch) (hst : l.stackTraces = false) {N : Nat} {L : xL} {g : xg} : ∀ (d : Nat) {σ σ' : xS} { a0 a1 a2 : Int32} {r : Unit}, fX_goOrders N d σ a0 a1 a2 = some (σ', r) → xMet l yX0_goOrders cX0_goOrders 5 none (2 * d) (46 * d) 0 0 [.ref L.1, .int a0, .int a1, .int a2] L g σ none σ' := by
  intro d
  induction d with
  | zero => intro σ σ' a0 a1 a2 r hF; cases hF
  | succ d ih =>
    intro σ σ' a0 a1 a2 r hF
    unfold fX_goOrders at hF
    simp only [Nat.mul_succ]
    exact mtX_goOrders_e l hst ih hF
def fX_line (N : Nat) (σ : xS) (a0 : Int32) (a1 : Int32) : Option (xS × Int32) :=
  obi (fX_in N σ a0 0 9) fun σ_1 r_2 =>
  if r_2 = 0 then (
    some (σ_1, (-1)))
  else (
    if (-1) ≤ a1 then (
      nmv (xI σ_1 1) fun x_6 =>
      if x_6 ≤ 6 then (
        nmv (xSi σ_1 23 (-1)) fun σ_8 =>
        obi (fX_goOrders N 9 σ_8 a0 0 0) fun σ_9 r_10 =>
        if 0 ≤ a1 then (
          nmv (xI σ_9 1) fun x_13 =>
          if x_13 ≤ a1 then (
            some (σ_9, (-2)))
          else (
            chk a1 8 <| nmv (xJ σ_9 22 a1.toNatClampNeg) fun x_15 =>
            some (σ_9, x_15)))
        else (
          nmv (xI σ_9 23) fun x_16 =>
          some (σ_9, x_16)))
      else (
        some (σ_1, (-5))))
    else (
      some (σ_1, (-1))))
theorem bX_line_e {N : Nat} (C0 : xCx p l s m args meth c RX0 cX0_line 3 (some .int) L A) (hRo : 19 ≤ R.frames ∧ 438 ≤ R.locals) {σ' : xS} {r : Int32} (σ : xS) (a0 : Int32) (a1 : Int32) (H : Heap) (locs : List Loc) (ls : Array Slot) (hG : xG A L g s σ H locs) (hl : lv_has ls 3 [(0, .ref L.1), (1, .int a0), (2, .int a1)]) (hF : fX_line N σ a0 a1 = some (σ', r)) : W p l e R s m args below meth c H locs 0 0 (xZ below L g A s args σ' (some (.int r)) 0 0) (F0 m 0 ls []) := by
  have hx := C0.1
  have hb := C0.2.1
  have hst := C0.2.2.2.2.2.2.2.2.2.2
  unfold fX_line at hF
  refine lv_iload_n hx hb dX0_line_0 rfl (lv_at hl 1 rfl) ?_
  refine lv_iconst (v := 0) hx hb dX0_line_1 (by decide) ?_
  refine lv_bipush (v := 9) hx hb dX0_line_2 (by decide) ?_
  obtain ⟨σ_1, r_2, e_3, hF⟩ := obi_of hF
  refine x_cSi0 (As := [.int a0, .int 0, .int 9]) (rest := []) C0 hG (mtX_in l hst e_3) (lw_S q316 q317 q100 q318) yd_X0_in ⟨by omega, by omega⟩ ⟨by omega, by omega⟩ rfl rfl hl.1 (Nat.le_of_ble_eq_true rfl) dX0_line_4 (fun H locs hG => ?_)
  refine lv_if_eq (tgt := 15) hx hb dX0_line_7 (by decide) (fun c_4 => ?_) (fun c_4 => ?_)
  · have hF := ifp hF c_4
    refine lv_iconst (v := (-1)) hx hb dX0_line_15 (by decide) ?_
    exact x_iret C0 hG ⟨by omega, by omega⟩ dX0_line_16 hF
  · have hF := ifn hF c_4
    refine lv_iload_n hx hb dX0_line_10 rfl (lv_at hl 2 rfl) ?_
    refine lv_iconst (v := (-1)) hx hb dX0_line_11 (by decide) ?_
    refine lv_icmp_ge (tgt := 17) hx hb dX0_line_12 (by decide) (fun c_5 => ?_) (fun c_5 => ?_)
    · have hF := ifp hF c_5
      refine lv_aload_n hx hb dX0_line_17 rfl (lv_at hl 0 rfl) ?_
      refine x_geti C0 hG 1 (by decide) rfl q175 dX0_line_18 hF (fun x_6 hF => ?_)
      refine lv_bipush (v := 6) hx hb dX0_line_21 (by decide) ?_
      refine lv_icmp_le (tgt := 29) hx hb dX0_line_23 (by decide) (fun c_7 => ?_) (fun c_7 => ?_)
      · have hF := ifp hF c_7
        refine lv_aload_n hx hb dX0_line_29 rfl (lv_at hl 0 rfl) ?_
        refine lv_iconst (v := (-1)) hx hb dX0_line_30 (by decide) ?_
        refine x_puti C0 hG 23 (by decide) rfl q199 dX0_line_31 (Or.inl (by decide)) hF (fun σ_8 H locs hG hF => ?_)
        refine lv_aload_n hx hb dX0_line_34 rfl (lv_at hl 0 rfl) ?_
        refine lv_iload_n hx hb dX0_line_35 rfl (lv_at hl 1 rfl) ?_
        refine lv_iconst (v := 0) hx hb dX0_line_36 (by decide) ?_
        refine lv_iconst (v := 0) hx hb dX0_line_37 (by decide) ?_
        obtain ⟨σ_9, r_10, e_11, hF⟩ := obi_of hF
        refine x_cVv0 (As := [.int a0, .int 0, .int 0]) (rest := []) C0 hG (mtX_goOrders l hst 9 e_11) (lw_V q987 q989 qs39 q100 q990) yd_X0_goOrders (x_rc0 C0 hG) ⟨by omega, by omega⟩ ⟨by omega, by omega⟩ rfl rfl hl.1 (Nat.le_of_ble_eq_true rfl) dX0_line_38 (fun H locs hG => ?_)
        refine lv_iload_n hx hb dX0_line_41 rfl (lv_at hl 2 rfl) ?_
        refine lv_if_ge (tgt := 52) hx hb dX0_line_42 (by decide) (fun c_12 => ?_) (fun c_12 => ?_)
        · have hF := ifp hF c_12
          refine lv_iload_n hx hb dX0_line_52 rfl (lv_at hl 2 rfl) ?_
          refine lv_aload_n hx hb dX0_line_53 rfl (lv_at hl 0 rfl) ?_
          refine x_geti C0 hG 1 (by decide) rfl q175 dX0_line_54 hF (fun x_13 hF => ?_)
          refine lv_icmp_ge (tgt := 69) hx hb dX0_line_57 (by decide) (fun c_14 => ?_) (fun c_14 => ?_)
          · have hF := ifp hF c_14
            refine lv_bipush (v := (-2)) hx hb dX0_line_69 (by decide) ?_
            exact x_iret C0 hG ⟨by omega, by omega⟩ dX0_line_71 hF
          · have hF := ifn hF c_14
            refine lv_aload_n hx hb dX0_line_60 rfl (lv_at hl 0 rfl) ?_
            refine x_geta C0 hG 22 (by decide) rfl (by decide) q198 dX0_line_61 ?_
            refine lv_iload_n hx hb dX0_line_64 rfl (lv_at hl 2 rfl) ?_
            refine x_ld C0 hG 22 ⟨by decide, rfl, rfl⟩ dX0_line_65 hF (fun x_15 hF => ?_)
            refine lv_goto (tgt := 71) hx hb dX0_line_66 (by decide) ?_
            exact x_iret C0 hG ⟨by omega, by omega⟩ dX0_line_71 hF
        · have hF := ifn hF c_12
          refine lv_aload_n hx hb dX0_line_45 rfl (lv_at hl 0 rfl) ?_
          refine x_geti C0 hG 23 (by decide) rfl q199 dX0_line_46 hF (fun x_16 hF => ?_)
          refine lv_goto (tgt := 71) hx hb dX0_line_49 (by decide) ?_
          exact x_iret C0 hG ⟨by omega, by omega⟩ dX0_line_71 hF
      · have hF := ifn hF c_7
        refine lv_bipush (v := (-5)) hx hb dX0_line_26 (by decide) ?_
        exact x_iret C0 hG ⟨by omega, by omega⟩ dX0_line_28 hF
    · have hF := ifn hF c_5
      refine lv_iconst (v := (-1)) hx hb dX0_line_15 (by decide) ?_
      exact x_iret C0 hG ⟨by omega, by omega⟩ dX0_line_16 hF
theorem mtX_line (l : Launch) (hst : l.stackTraces = false) {N : Nat} {L : xL} {g : xg} {σ σ' : xS} {r : Int32} {a0 : Int32} {a1 : Int32} (hF : fX_line N σ a0 a1 = some (σ', r)) : xMet l yX0_line cX0_line 3 (some .int) (19) (438) 0 0 [.ref L.1, .int a0, .int a1] L g σ (some (.int r)) σ' := by
  refine x_head hst (by decide) rfl ?_
  intro p e s m below meth c A C0 hG
  have hl := lv_entry ([.ref L.1, .int a0, .int a1]) (n := 3) (Nat.le_of_ble_eq_true rfl)
  rw [lg_entry_eq]
  generalize (lg_sl ([.ref L.1, .int a0, .int a1]) ++ List.replicate (3 - (lg_sl ([.ref L.1, .int a0, .int a1])).length) Slot.unset).toArray = ls at hl ⊢
  have hl : lv_has ls 3 [(0, .ref L.1), (1, .int a0), (2, .int a1)] := hl
  exact bX_line_e C0 ⟨Nat.le_refl _, Nat.le_refl _⟩ _ _ _ _ [] ls hG hl hF
def fX_tallOf_b34 (N : Nat) (k4 : xS → Int32 → Int32 → Int32 → Option (xS × Int32)) (σ : xS) (y0 : Int32) (y1 : Int32) (x1 : Int32) (x3 : Int32) : Option (xS × Int32) :=
  nmv (y1 + y0) fun x_9 =>
  nmv (x3 + 1) fun x_10 =>
  k4 σ x1 x_9 x_10
def fX_tallOf_b4 (N : Nat) : Nat → xS → Int32 → Int32 → Int32 → Option (xS × Int32)
  | 0, _, _, _, _ => none
  | n + 1, σ, x1, x2, x3 =>
    nmv (xI σ 1) fun x_1 =>
    if x_1 ≤ x3 then (
      some (σ, x2))
    else (
      obi (fX_has N σ x1 x3) fun σ_3 r_4 =>
      if r_4 = 0 then (
        fX_tallOf_b34 N (fX_tallOf_b4 N n) σ_3 0 x2 x1 x3)
      else (
        chk x3 8 <| chl x3.toNatClampNeg (xn σ_3) <| nmv x3.toNatClampNeg fun u_7 =>
        chl u_7 (xn σ_3) <| nmv (xE σ_3 u_7 2) fun x_8 =>
        fX_tallOf_b34 N (fX_tallOf_b4 N n) σ_3 x_8 x2 x1 x3))
def fX_tallOf (N : Nat) (σ : xS) (a0 : Int32) : Option (xS × Int32) :=
  fX_tallOf_b4 N N σ a0 0 0
theorem bX_tallOf_34 {N : Nat} (C0 : xCx p l s m args meth c RX0 cX0_tallOf 4 (some .int) L A) (hRo : 1 ≤ R.frames ∧ 21 ≤ R.locals) {σ' : xS} {r : Int32} {k4 : xS → Int32 → Int32 → Int32 → Option (xS × Int32)} (hk4 : ∀ (σ : xS) (x1 : Int32) (x2 : Int32) (x3 : Int32) (H : Heap) (locs : List Loc) (ls : Array Slot), xG A L g s σ H locs → lv_has ls 4 [(0, .ref L.1), (1, .int x1), (2, .int x2), (3, .int x3)] → k4 σ x1 x2 x3 = some (σ', r) → W p l e R s m args below meth c H locs 0 0 (xZ below L g A s args σ' (some (.int r)) 0 0) (F0 m 4 ls [])) (σ : xS) (y0 : Int32) (y1 : Int32) (x1 : Int32) (x3 : Int32) (H : Heap) (locs : List Loc) (ls : Array Slot) (hG : xG A L g s σ H locs) (hl : lv_has ls 4 [(0, .ref L.1), (1, .int x1), (3, .int x3)]) (hF : fX_tallOf_b34 N k4 σ y0 y1 x1 x3 = some (σ', r)) : W p l e R s m args below meth c H locs 0 0 (xZ below L g A s args σ' (some (.int r)) 0 0) (F0 m 34 ls [.int y0, .int y1]) := by
  have hx := C0.1
  have hb := C0.2.1
  have hst := C0.2.2.2.2.2.2.2.2.2.2
  unfold fX_tallOf_b34 at hF
  refine lv_iadd hx hb dX0_tallOf_34 ?_
  refine w_nm hF (fun x_9 hF => ?_)
  refine lv_istore_n (lv' := [(2, .int x_9), (0, .ref L.1), (1, .int x1), (3, .int x3)]) hx hb dX0_tallOf_35 rfl hl (by decide) rfl (fun ls hl => ?_)
  refine w_iinc hx hb dX0_tallOf_36 hl 3 rfl (v := 1) (by decide) (by decide) hF (fun x_10 ls hl hF => ?_)
  have hl : lv_has ls 4 [(3, .int x_10), (2, .int x_9), (0, .ref L.1), (1, .int x1)] := hl
  refine lv_goto (tgt := 4) hx hb dX0_tallOf_39 (by decide) ?_
  exact hk4 _ _ _ _ H locs ls hG (lv_sub hl [2, 3, 1, 0] rfl) hF
theorem bX_tallOf_4 {N : Nat} (C0 : xCx p l s m args meth c RX0 cX0_tallOf 4 (some .int) L A) (hRo : 1 ≤ R.frames ∧ 21 ≤ R.locals) {σ' : xS} {r : Int32} : ∀ (n : Nat) (σ : xS) (x1 : Int32) (x2 : Int32) (x3 : Int32) (H : Heap) (locs : List Loc) (ls : Array Slot), xG A L g s σ H locs → lv_has ls 4 [(0, .ref L.1), (1, .int x1), (2, .int x2), (3, .int x3)] → fX_tallOf_b4 N n σ x1 x2 x3 = some (σ', r) → W p l e R s m args below meth c H locs 0 0 (xZ below L g A s args σ' (some (.int r)) 0 0) (F0 m 4 ls []) := by
  have hx := C0.1
  have hb := C0.2.1
  have hst := C0.2.2.2.2.2.2.2.2.2.2
  intro n
  induction n with
  | zero => intro σ x1 x2 x3 H locs ls hG hl hF; cases hF
  | succ n ih =>
    intro σ x1 x2 x3 H locs ls hG hl hF
    unfold fX_tallOf_b4 at hF
    refine lv_iload_n hx hb dX0_tallOf_4 rfl (lv_at hl 3 rfl) ?_
    refine lv_aload_n hx hb dX0_tallOf_5 rfl (lv_at hl 0 rfl) ?_
    refine x_geti C0 hG 1 (by decide) rfl q175 dX0_tallOf_6 hF (fun x_1 hF => ?_)
    refine lv_icmp_ge (tgt := 42) hx hb dX0_tallOf_9 (by decide) (fun c_2 => ?_) (fun c_2 => ?_)
    · have hF := ifp hF c_2
      refine lv_iload_n hx hb dX0_tallOf_42 rfl (lv_at hl 2 rfl) ?_
      exact x_iret C0 hG ⟨by omega, by omega⟩ dX0_tallOf_43 hF
    · have hF := ifn hF c_2
      refine lv_iload_n hx hb dX0_tallOf_12 rfl (lv_at hl 2 rfl) ?_
      refine lv_iload_n hx hb dX0_tallOf_13 rfl (lv_at hl 1 rfl) ?_
      refine lv_iload_n hx hb dX0_tallOf_14 rfl (lv_at hl 3 rfl) ?_
      obtain ⟨σ_3, r_4, e_5, hF⟩ := obi_of hF
      refine x_cSi0 (As := [.int x1, .int x3]) (rest := [.int x2]) C0 hG (mtX_has l hst e_5) (lw_S q957 q958 q100 q959) yd_X0_has ⟨by omega, by omega⟩ ⟨by omega, by omega⟩ rfl rfl hl.1 (Nat.le_of_ble_eq_true rfl) dX0_tallOf_15 (fun H locs hG => ?_)
      refine lv_if_eq (tgt := 33) hx hb dX0_tallOf_18 (by decide) (fun c_6 => ?_) (fun c_6 => ?_)
      · have hF := ifp hF c_6
        refine lv_iconst (v := 0) hx hb dX0_tallOf_33 (by decide) ?_
        exact bX_tallOf_34 C0 hRo ih _ _ _ _ _ H locs ls hG (lv_sub hl [0, 1, 3] rfl) hF
      · have hF := ifn hF c_6
        refine lv_aload_n hx hb dX0_tallOf_21 rfl (lv_at hl 0 rfl) ?_
        refine x_geta C0 hG 0 (by decide) rfl (by decide) q174 dX0_tallOf_22 ?_
        refine lv_iload_n hx hb dX0_tallOf_25 rfl (lv_at hl 3 rfl) ?_
        refine x_swld C0 hG dX0_tallOf_26 hF (fun u_7 hF => ?_)
        refine x_swg C0 hG 2 (by decide) q333 dX0_tallOf_27 hF (fun x_8 hF => ?_)
        refine lv_goto (tgt := 34) hx hb dX0_tallOf_30 (by decide) ?_
        exact bX_tallOf_34 C0 hRo ih _ _ _ _ _ H locs ls hG (lv_sub hl [0, 1, 3] rfl) hF
theorem bX_tallOf_e {N : Nat} (C0 : xCx p l s m args meth c RX0 cX0_tallOf 4 (some .int) L A) (hRo : 1 ≤ R.frames ∧ 21 ≤ R.locals) {σ' : xS} {r : Int32} (σ : xS) (a0 : Int32) (H : Heap) (locs : List Loc) (ls : Array Slot) (hG : xG A L g s σ H locs) (hl : lv_has ls 4 [(0, .ref L.1), (1, .int a0)]) (hF : fX_tallOf N σ a0 = some (σ', r)) : W p l e R s m args below meth c H locs 0 0 (xZ below L g A s args σ' (some (.int r)) 0 0) (F0 m 0 ls []) := by
  have hx := C0.1
  have hb := C0.2.1
  have hst := C0.2.2.2.2.2.2.2.2.2.2
  unfold fX_tallOf at hF
  refine lv_iconst (v := 0) hx hb dX0_tallOf_0 (by decide) ?_
  refine lv_istore_n (lv' := [(2, .int 0), (0, .ref L.1), (1, .int a0)]) hx hb dX0_tallOf_1 rfl hl (by decide) rfl (fun ls hl => ?_)
  refine lv_iconst (v := 0) hx hb dX0_tallOf_2 (by decide) ?_
  refine lv_istore_n (lv' := [(3, .int 0), (2, .int 0), (0, .ref L.1), (1, .int a0)]) hx hb dX0_tallOf_3 rfl hl (by decide) rfl (fun ls hl => ?_)
  exact bX_tallOf_4 C0 hRo N _ _ _ _ H locs ls hG (lv_sub hl [2, 3, 1, 0] rfl) hF
theorem mtX_tallOf (l : Launch) (hst : l.stackTraces = false) {N : Nat} {L : xL} {g : xg} {σ σ' : xS} {r : Int32} {a0 : Int32} (hF : fX_tallOf N σ a0 = some (σ', r)) : xMet l yX0_tallOf cX0_tallOf 4 (some .int) (1) (21) 0 0 [.ref L.1, .int a0] L g σ (some (.int r)) σ' := by
  refine x_head hst (by decide) rfl ?_
  intro p e s m below meth c A C0 hG
  have hl := lv_entry ([.ref L.1, .int a0]) (n := 4) (Nat.le_of_ble_eq_true rfl)
  rw [lg_entry_eq]
  generalize (lg_sl ([.ref L.1, .int a0]) ++ List.replicate (4 - (lg_sl ([.ref L.1, .int a0])).length) Slot.unset).toArray = ls at hl ⊢
  have hl : lv_has ls 4 [(0, .ref L.1), (1, .int a0)] := hl
  exact bX_tallOf_e C0 ⟨Nat.le_refl _, Nat.le_refl _⟩ _ _ _ [] ls hG hl hF
def fX_lift_b118 (N : Nat) (k35 : xS → Int32 → Int32 → Int32 → Int32 → Int32 → Int32 → Option (xS × Int32)) (σ : xS) (x1 : Int32) (x2 : Int32) (x3 : Int32) (x4 : Int32) (x5 : Int32) (x6 : Int32) : Option (xS × Int32) :=
  nmv (x6 + 1) fun x_26 =>
  k35 σ x1 x2 x3 x4 x5 x_26
def fX_lift_b108 (N : Nat) (k35 : xS → Int32 → Int32 → Int32 → Int32 → Int32 → Int32 → Option (xS × Int32)) (σ : xS) (x1 : Int32) (x5 : Int32) (x6 : Int32) (x7 : Int32) : Option (xS × Int32) :=
  fX_lift_b118 N k35 σ x1 x5 x6 x7 x5 x6
def fX_lift_b35 (N : Nat) (k23 : xS → Int32 → Int32 → Int32 → Int32 → Int32 → Option (xS × Int32)) : Nat → xS → Int32 → Int32 → Int32 → Int32 → Int32 → Int32 → Option (xS × Int32)
  | 0, _, _, _, _, _, _, _ => none
  | n + 1, σ, x1, x2, x3, x4, x5, x6 =>
    nmv (xI σ 1) fun x_8 =>
    if (1 <<< (x_8 &&& 31)) ≤ x6 then (
      nmv (x5 + 1) fun x_10 =>
      k23 σ x1 x2 x3 x4 x_10)
    else (
      nmv (bitC x6) fun x_11 =>
      if x_11 = 3 then (
        obi (fX_has N σ x6 x5) fun σ_13 r_14 =>
        if r_14 = 0 then (
          obi (fX_tallOf N σ_13 x6) fun σ_17 r_18 =>
          chk x5 8 <| chl x5.toNatClampNeg (xn σ_17) <| nmv x5.toNatClampNeg fun u_20 =>
          chl u_20 (xn σ_17) <| nmv (xE σ_17 u_20 2) fun x_21 =>
          nmv (r_18 - ((3 : Int32) * x_21)) fun x_22 =>
          if x_22 < 0 then (
            fX_lift_b118 N (fX_lift_b35 N k23 n) σ_17 x1 x2 x3 x4 x5 x6)
          else (
            if x2 < 0 then (
              fX_lift_b108 N (fX_lift_b35 N k23 n) σ_17 x1 x5 x6 x_22)
            else (
              if x_22 < x4 then (
                fX_lift_b108 N (fX_lift_b35 N k23 n) σ_17 x1 x5 x6 x_22)
              else (
                fX_lift_b118 N (fX_lift_b35 N k23 n) σ_17 x1 x2 x3 x4 x5 x6))))
        else (
          fX_lift_b118 N (fX_lift_b35 N k23 n) σ_13 x1 x2 x3 x4 x5 x6))
      else (
        fX_lift_b118 N (fX_lift_b35 N k23 n) σ x1 x2 x3 x4 x5 x6))
def fX_lift_b23 (N : Nat) : Nat → xS → Int32 → Int32 → Int32 → Int32 → Int32 → Option (xS × Int32)
  | 0, _, _, _, _, _, _ => none
  | n + 1, σ, x1, x2, x3, x4, x5 =>
    nmv (xI σ 1) fun x_5 =>
    if x_5 ≤ x5 then (
      if x1 = 0 then (
        some (σ, x2))
      else (
        some (σ, x3)))
    else (
      fX_lift_b35 N (fX_lift_b23 N n) N σ x1 x2 x3 x4 x5 0)
def fX_lift (N : Nat) (σ : xS) (a0 : Int32) : Option (xS × Int32) :=
  obi (fX_in N σ a0 0 1) fun σ_1 r_2 =>
  if r_2 = 0 then (
    some (σ_1, (-1)))
  else (
    fX_lift_b23 N N σ_1 a0 (-2) (-2) 0 0)
theorem bX_lift_118 {N : Nat} (C0 : xCx p l s m args meth c RX0 cX0_lift 8 (some .int) L A) (hRo : 2 ≤ R.frames ∧ 44 ≤ R.locals) {σ' : xS} {r : Int32} {k35 : xS → Int32 → Int32 → Int32 → Int32 → Int32 → Int32 → Option (xS × Int32)} (hk35 : ∀ (σ : xS) (x1 : Int32) (x2 : Int32) (x3 : Int32) (x4 : Int32) (x5 : Int32) (x6 : Int32) (H : Heap) (locs : List Loc) (ls : Array Slot), xG A L g s σ H locs → lv_has ls 8 [(0, .ref L.1), (1, .int x1), (2, .int x2), (3, .int x3), (4, .int x4), (5, .int x5), (6, .int x6)] → k35 σ x1 x2 x3 x4 x5 x6 = some (σ', r) → W p l e R s m args below meth c H locs 0 0 (xZ below L g A s args σ' (some (.int r)) 0 0) (F0 m 35 ls [])) (σ : xS) (x1 : Int32) (x2 : Int32) (x3 : Int32) (x4 : Int32) (x5 : Int32) (x6 : Int32) (H : Heap) (locs : List Loc) (ls : Array Slot) (hG : xG A L g s σ H locs) (hl : lv_has ls 8 [(0, .ref L.1), (1, .int x1), (2, .int x2), (3, .int x3), (4, .int x4), (5, .int x5), (6, .int x6)]) (hF : fX_lift_b118 N k35 σ x1 x2 x3 x4 x5 x6 = some (σ', r)) : W p l e R s m args below meth c H locs 0 0 (xZ below L g A s args σ' (some (.int r)) 0 0) (F0 m 118 ls []) := by
  have hx := C0.1
  have hb := C0.2.1
  have hst := C0.2.2.2.2.2.2.2.2.2.2
  unfold fX_lift_b118 at hF
  refine w_iinc hx hb dX0_lift_118 hl 6 rfl (v := 1) (by decide) (by decide) hF (fun x_26 ls hl hF => ?_)
  have hl : lv_has ls 8 [(6, .int x_26), (0, .ref L.1), (1, .int x1), (2, .int x2), (3, .int x3), (4, .int x4), (5, .int x5)] := hl
  refine lv_goto (tgt := 35) hx hb dX0_lift_121 (by decide) ?_
  exact hk35 _ _ _ _ _ _ _ H locs ls hG (lv_sub hl [1, 2, 3, 4, 5, 6, 0] rfl) hF
theorem bX_lift_108 {N : Nat} (C0 : xCx p l s m args meth c RX0 cX0_lift 8 (some .int) L A) (hRo : 2 ≤ R.frames ∧ 44 ≤ R.locals) {σ' : xS} {r : Int32} {k35 : xS → Int32 → Int32 → Int32 → Int32 → Int32 → Int32 → Option (xS × Int32)} (hk35 : ∀ (σ : xS) (x1 : Int32) (x2 : Int32) (x3 : Int32) (x4 : Int32) (x5 : Int32) (x6 : Int32) (H : Heap) (locs : List Loc) (ls : Array Slot), xG A L g s σ H locs → lv_has ls 8 [(0, .ref L.1), (1, .int x1), (2, .int x2), (3, .int x3), (4, .int x4), (5, .int x5), (6, .int x6)] → k35 σ x1 x2 x3 x4 x5 x6 = some (σ', r) → W p l e R s m args below meth c H locs 0 0 (xZ below L g A s args σ' (some (.int r)) 0 0) (F0 m 35 ls [])) (σ : xS) (x1 : Int32) (x5 : Int32) (x6 : Int32) (x7 : Int32) (H : Heap) (locs : List Loc) (ls : Array Slot) (hG : xG A L g s σ H locs) (hl : lv_has ls 8 [(0, .ref L.1), (1, .int x1), (5, .int x5), (6, .int x6), (7, .int x7)]) (hF : fX_lift_b108 N k35 σ x1 x5 x6 x7 = some (σ', r)) : W p l e R s m args below meth c H locs 0 0 (xZ below L g A s args σ' (some (.int r)) 0 0) (F0 m 108 ls []) := by
  have hx := C0.1
  have hb := C0.2.1
  have hst := C0.2.2.2.2.2.2.2.2.2.2
  unfold fX_lift_b108 at hF
  refine lv_iload hx hb dX0_lift_108 (lv_at hl 2 rfl) ?_
  refine lv_istore_n (lv' := [(2, .int x5), (0, .ref L.1), (1, .int x1), (5, .int x5), (6, .int x6), (7, .int x7)]) hx hb dX0_lift_110 rfl hl (by decide) rfl (fun ls hl => ?_)
  refine lv_iload hx hb dX0_lift_111 (lv_at hl 4 rfl) ?_
  refine lv_istore_n (lv' := [(3, .int x6), (2, .int x5), (0, .ref L.1), (1, .int x1), (5, .int x5), (6, .int x6), (7, .int x7)]) hx hb dX0_lift_113 rfl hl (by decide) rfl (fun ls hl => ?_)
  refine lv_iload hx hb dX0_lift_114 (lv_at hl 6 rfl) ?_
  refine lv_istore (lv' := [(4, .int x7), (3, .int x6), (2, .int x5), (0, .ref L.1), (1, .int x1), (5, .int x5), (6, .int x6), (7, .int x7)]) hx hb dX0_lift_116 hl (by decide) rfl (fun ls hl => ?_)
  exact bX_lift_118 C0 hRo hk35 _ _ _ _ _ _ _ H locs ls hG (lv_sub hl [3, 4, 2, 1, 0, 5, 6] rfl) hF
theorem bX_lift_35 {N : Nat} (C0 : xCx p l s m args meth c RX0 cX0_lift 8 (some .int) L A) (hRo : 2 ≤ R.frames ∧ 44 ≤ R.locals) {σ' : xS} {r : Int32} {k23 : xS → Int32 → Int32 → Int32 → Int32 → Int32 → Option (xS × Int32)} (hk23 : ∀ (σ : xS) (x1 : Int32) (x2 : Int32) (x3 : Int32) (x4 : Int32) (x5 : Int32) (H : Heap) (locs : List Loc) (ls : Array Slot), xG A L g s σ H locs → lv_has ls 8 [(0, .ref L.1), (1, .int x1), (2, .int x2), (3, .int x3), (4, .int x4), (5, .int x5)] → k23 σ x1 x2 x3 x4 x5 = some (σ', r) → W p l e R s m args below meth c H locs 0 0 (xZ below L g A s args σ' (some (.int r)) 0 0) (F0 m 23 ls [])) : ∀ (n : Nat) (σ : xS) (x1 : Int32) (x2 : Int32) (x3 : Int32) (x4 : Int32) (x5 : Int32) (x6 : Int32) (H : Heap) (locs : List Loc) (ls : Array Slot), xG A L g s σ H locs → lv_has ls 8 [(0, .ref L.1), (1, .int x1), (2, .int x2), (3, .int x3), (4, .int x4), (5, .int x5), (6, .int x6)] → fX_lift_b35 N k23 n σ x1 x2 x3 x4 x5 x6 = some (σ', r) → W p l e R s m args below meth c H locs 0 0 (xZ below L g A s args σ' (some (.int r)) 0 0) (F0 m 35 ls []) := by
  have hx := C0.1
  have hb := C0.2.1
  have hst := C0.2.2.2.2.2.2.2.2.2.2
  intro n
  induction n with
  | zero => intro σ x1 x2 x3 x4 x5 x6 H locs ls hG hl hF; cases hF
  | succ n ih =>
    intro σ x1 x2 x3 x4 x5 x6 H locs ls hG hl hF
    unfold fX_lift_b35 at hF
    refine lv_iload hx hb dX0_lift_35 (lv_at hl 6 rfl) ?_
    refine lv_iconst (v := 1) hx hb dX0_lift_37 (by decide) ?_
    refine lv_aload_n hx hb dX0_lift_38 rfl (lv_at hl 0 rfl) ?_
    refine x_geti C0 hG 1 (by decide) rfl q175 dX0_lift_39 hF (fun x_8 hF => ?_)
    refine lv_ishl hx hb dX0_lift_42 ?_
    refine lv_icmp_ge (tgt := 124) hx hb dX0_lift_43 (by decide) (fun c_9 => ?_) (fun c_9 => ?_)
    · have hF := ifp hF c_9
      refine w_iinc hx hb dX0_lift_124 hl 5 rfl (v := 1) (by decide) (by decide) hF (fun x_10 ls hl hF => ?_)
      have hl : lv_has ls 8 [(5, .int x_10), (0, .ref L.1), (1, .int x1), (2, .int x2), (3, .int x3), (4, .int x4), (6, .int x6)] := hl
      refine lv_goto (tgt := 23) hx hb dX0_lift_127 (by decide) ?_
      exact hk23 _ _ _ _ _ _ H locs ls hG (lv_sub hl [1, 2, 3, 4, 5, 0] rfl) hF
    · have hF := ifn hF c_9
      refine lv_iload hx hb dX0_lift_46 (lv_at hl 6 rfl) ?_
      refine x_cP (As := [.int x6]) (rest := []) C0 (mtP_bitC l _) (lw_S q999 q1000 q126 q1001) yd_J13_bitCount ⟨by omega, by omega⟩ ⟨by omega, by omega⟩ rfl rfl hl.1 (Nat.le_of_ble_eq_true rfl) dX0_lift_48 hF (fun x_11 hF => ?_)
      refine lv_iconst (v := 3) hx hb dX0_lift_51 (by decide) ?_
      refine lv_icmp_ne (tgt := 118) hx hb dX0_lift_52 (by decide) (fun c_12 => ?_) (fun c_12 => ?_)
      · have hF := ifn hF c_12
        exact bX_lift_118 C0 hRo ih _ _ _ _ _ _ _ H locs ls hG (lv_sub hl [0, 1, 2, 3, 4, 5, 6] rfl) hF
      · have hF := ifp hF c_12
        refine lv_iload hx hb dX0_lift_55 (lv_at hl 6 rfl) ?_
        refine lv_iload hx hb dX0_lift_57 (lv_at hl 5 rfl) ?_
        obtain ⟨σ_13, r_14, e_15, hF⟩ := obi_of hF
        refine x_cSi0 (As := [.int x6, .int x5]) (rest := []) C0 hG (mtX_has l hst e_15) (lw_S q957 q958 q100 q959) yd_X0_has ⟨by omega, by omega⟩ ⟨by omega, by omega⟩ rfl rfl hl.1 (Nat.le_of_ble_eq_true rfl) dX0_lift_59 (fun H locs hG => ?_)
        refine lv_if_eq (tgt := 68) hx hb dX0_lift_62 (by decide) (fun c_16 => ?_) (fun c_16 => ?_)
        · have hF := ifp hF c_16
          refine lv_aload_n hx hb dX0_lift_68 rfl (lv_at hl 0 rfl) ?_
          refine lv_iload hx hb dX0_lift_69 (lv_at hl 6 rfl) ?_
          obtain ⟨σ_17, r_18, e_19, hF⟩ := obi_of hF
          refine x_cVi0 (As := [.int x6]) (rest := []) C0 hG (mtX_tallOf l hst e_19) (lw_V q1005 q1007 qs41 q100 q1008) yd_X0_tallOf (x_rc0 C0 hG) ⟨by omega, by omega⟩ ⟨by omega, by omega⟩ rfl rfl hl.1 (Nat.le_of_ble_eq_true rfl) dX0_lift_71 (fun H locs hG => ?_)
          refine lv_iconst (v := 3) hx hb dX0_lift_74 (by decide) ?_
          refine lv_aload_n hx hb dX0_lift_75 rfl (lv_at hl 0 rfl) ?_
          refine x_geta C0 hG 0 (by decide) rfl (by decide) q174 dX0_lift_76 ?_
          refine lv_iload hx hb dX0_lift_79 (lv_at hl 5 rfl) ?_
          refine x_swld C0 hG dX0_lift_81 hF (fun u_20 hF => ?_)
          refine x_swg C0 hG 2 (by decide) q333 dX0_lift_82 hF (fun x_21 hF => ?_)
          refine lv_imul hx hb dX0_lift_85 ?_
          refine lv_isub hx hb dX0_lift_86 ?_
          refine w_nm hF (fun x_22 hF => ?_)
          refine lv_istore (lv' := [(7, .int x_22), (0, .ref L.1), (1, .int x1), (2, .int x2), (3, .int x3), (4, .int x4), (5, .int x5), (6, .int x6)]) hx hb dX0_lift_87 hl (by decide) rfl (fun ls hl => ?_)
          refine lv_iload hx hb dX0_lift_89 (lv_at hl 0 rfl) ?_
          refine lv_if_lt (tgt := 118) hx hb dX0_lift_91 (by decide) (fun c_23 => ?_) (fun c_23 => ?_)
          · have hF := ifp hF c_23
            exact bX_lift_118 C0 hRo ih _ _ _ _ _ _ _ H locs ls hG (lv_sub hl [1, 2, 3, 4, 5, 6, 7] rfl) hF
          · have hF := ifn hF c_23
            refine lv_iload_n hx hb dX0_lift_94 rfl (lv_at hl 3 rfl) ?_
            refine lv_if_lt (tgt := 108) hx hb dX0_lift_95 (by decide) (fun c_24 => ?_) (fun c_24 => ?_)
            · have hF := ifp hF c_24
              exact bX_lift_108 C0 hRo ih _ _ _ _ _ H locs ls hG (lv_sub hl [1, 2, 6, 7, 0] rfl) hF
            · have hF := ifn hF c_24
              refine lv_iload hx hb dX0_lift_98 (lv_at hl 0 rfl) ?_
              refine lv_iload hx hb dX0_lift_100 (lv_at hl 5 rfl) ?_
              refine lv_icmp_lt (tgt := 108) hx hb dX0_lift_102 (by decide) (fun c_25 => ?_) (fun c_25 => ?_)
              · have hF := ifp hF c_25
                exact bX_lift_108 C0 hRo ih _ _ _ _ _ H locs ls hG (lv_sub hl [1, 2, 6, 7, 0] rfl) hF
              · have hF := ifn hF c_25
                refine lv_goto (tgt := 118) hx hb dX0_lift_105 (by decide) ?_
                exact bX_lift_118 C0 hRo ih _ _ _ _ _ _ _ H locs ls hG (lv_sub hl [1, 2, 3, 4, 5, 6, 7] rfl) hF
        · have hF := ifn hF c_16
          refine lv_goto (tgt := 118) hx hb dX0_lift_65 (by decide) ?_
          exact bX_lift_118 C0 hRo ih _ _ _ _ _ _ _ H locs ls hG (lv_sub hl [0, 1, 2, 3, 4, 5, 6] rfl) hF
theorem bX_lift_23 {N : Nat} (C0 : xCx p l s m args meth c RX0 cX0_lift 8 (some .int) L A) (hRo : 2 ≤ R.frames ∧ 44 ≤ R.locals) {σ' : xS} {r : Int32} : ∀ (n : Nat) (σ : xS) (x1 : Int32) (x2 : Int32) (x3 : Int32) (x4 : Int32) (x5 : Int32) (H : Heap) (locs : List Loc) (ls : Array Slot), xG A L g s σ H locs → lv_has ls 8 [(0, .ref L.1), (1, .int x1), (2, .int x2), (3, .int x3), (4, .int x4), (5, .int x5)] → fX_lift_b23 N n σ x1 x2 x3 x4 x5 = some (σ', r) → W p l e R s m args below meth c H locs 0 0 (xZ below L g A s args σ' (some (.int r)) 0 0) (F0 m 23 ls []) := by
  have hx := C0.1
  have hb := C0.2.1
  have hst := C0.2.2.2.2.2.2.2.2.2.2
  intro n
  induction n with
  | zero => intro σ x1 x2 x3 x4 x5 H locs ls hG hl hF; cases hF
  | succ n ih =>
    intro σ x1 x2 x3 x4 x5 H locs ls hG hl hF
    unfold fX_lift_b23 at hF
    refine lv_iload hx hb dX0_lift_23 (lv_at hl 5 rfl) ?_
    refine lv_aload_n hx hb dX0_lift_25 rfl (lv_at hl 0 rfl) ?_
    refine x_geti C0 hG 1 (by decide) rfl q175 dX0_lift_26 hF (fun x_5 hF => ?_)
    refine lv_icmp_ge (tgt := 130) hx hb dX0_lift_29 (by decide) (fun c_6 => ?_) (fun c_6 => ?_)
    · have hF := ifp hF c_6
      refine lv_iload_n hx hb dX0_lift_130 rfl (lv_at hl 1 rfl) ?_
      refine lv_if_ne (tgt := 138) hx hb dX0_lift_131 (by decide) (fun c_7 => ?_) (fun c_7 => ?_)
      · have hF := ifn hF c_7
        refine lv_iload_n hx hb dX0_lift_138 rfl (lv_at hl 3 rfl) ?_
        exact x_iret C0 hG ⟨by omega, by omega⟩ dX0_lift_139 hF
      · have hF := ifp hF c_7
        refine lv_iload_n hx hb dX0_lift_134 rfl (lv_at hl 2 rfl) ?_
        refine lv_goto (tgt := 139) hx hb dX0_lift_135 (by decide) ?_
        exact x_iret C0 hG ⟨by omega, by omega⟩ dX0_lift_139 hF
    · have hF := ifn hF c_6
      refine lv_iconst (v := 0) hx hb dX0_lift_32 (by decide) ?_
      refine lv_istore (lv' := [(6, .int 0), (0, .ref L.1), (1, .int x1), (2, .int x2), (3, .int x3), (4, .int x4), (5, .int x5)]) hx hb dX0_lift_33 hl (by decide) rfl (fun ls hl => ?_)
      exact bX_lift_35 C0 hRo ih N _ _ _ _ _ _ _ H locs ls hG (lv_sub hl [1, 2, 3, 4, 5, 6, 0] rfl) hF
theorem bX_lift_e {N : Nat} (C0 : xCx p l s m args meth c RX0 cX0_lift 8 (some .int) L A) (hRo : 2 ≤ R.frames ∧ 44 ≤ R.locals) {σ' : xS} {r : Int32} (σ : xS) (a0 : Int32) (H : Heap) (locs : List Loc) (ls : Array Slot) (hG : xG A L g s σ H locs) (hl : lv_has ls 8 [(0, .ref L.1), (1, .int a0)]) (hF : fX_lift N σ a0 = some (σ', r)) : W p l e R s m args below meth c H locs 0 0 (xZ below L g A s args σ' (some (.int r)) 0 0) (F0 m 0 ls []) := by
  have hx := C0.1
  have hb := C0.2.1
  have hst := C0.2.2.2.2.2.2.2.2.2.2
  unfold fX_lift at hF
  refine lv_iload_n hx hb dX0_lift_0 rfl (lv_at hl 1 rfl) ?_
  refine lv_iconst (v := 0) hx hb dX0_lift_1 (by decide) ?_
  refine lv_iconst (v := 1) hx hb dX0_lift_2 (by decide) ?_
  obtain ⟨σ_1, r_2, e_3, hF⟩ := obi_of hF
  refine x_cSi0 (As := [.int a0, .int 0, .int 1]) (rest := []) C0 hG (mtX_in l hst e_3) (lw_S q316 q317 q100 q318) yd_X0_in ⟨by omega, by omega⟩ ⟨by omega, by omega⟩ rfl rfl hl.1 (Nat.le_of_ble_eq_true rfl) dX0_lift_3 (fun H locs hG => ?_)
  refine lv_if_ne (tgt := 11) hx hb dX0_lift_6 (by decide) (fun c_4 => ?_) (fun c_4 => ?_)
  · have hF := ifn hF c_4
    refine lv_bipush (v := (-2)) hx hb dX0_lift_11 (by decide) ?_
    refine lv_istore_n (lv' := [(2, .int (-2)), (0, .ref L.1), (1, .int a0)]) hx hb dX0_lift_13 rfl hl (by decide) rfl (fun ls hl => ?_)
    refine lv_bipush (v := (-2)) hx hb dX0_lift_14 (by decide) ?_
    refine lv_istore_n (lv' := [(3, .int (-2)), (2, .int (-2)), (0, .ref L.1), (1, .int a0)]) hx hb dX0_lift_16 rfl hl (by decide) rfl (fun ls hl => ?_)
    refine lv_iconst (v := 0) hx hb dX0_lift_17 (by decide) ?_
    refine lv_istore (lv' := [(4, .int 0), (3, .int (-2)), (2, .int (-2)), (0, .ref L.1), (1, .int a0)]) hx hb dX0_lift_18 hl (by decide) rfl (fun ls hl => ?_)
    refine lv_iconst (v := 0) hx hb dX0_lift_20 (by decide) ?_
    refine lv_istore (lv' := [(5, .int 0), (4, .int 0), (3, .int (-2)), (2, .int (-2)), (0, .ref L.1), (1, .int a0)]) hx hb dX0_lift_21 hl (by decide) rfl (fun ls hl => ?_)
    exact bX_lift_23 C0 hRo N _ _ _ _ _ _ H locs ls hG (lv_sub hl [4, 5, 3, 2, 1, 0] rfl) hF
  · have hF := ifp hF c_4
    refine lv_iconst (v := (-1)) hx hb dX0_lift_9 (by decide) ?_
    exact x_iret C0 hG ⟨by omega, by omega⟩ dX0_lift_10 hF
theorem mtX_lift (l : Launch) (hst : l.stackTraces = false) {N : Nat} {L : xL} {g : xg} {σ σ' : xS} {r : Int32} {a0 : Int32} (hF : fX_lift N σ a0 = some (σ', r)) : xMet l yX0_lift cX0_lift 8 (some .int) (2) (44) 0 0 [.ref L.1, .int a0] L g σ (some (.int r)) σ' := by
  refine x_head hst (by decide) rfl ?_
  intro p e s m below meth c A C0 hG
  have hl := lv_entry ([.ref L.1, .int a0]) (n := 8) (Nat.le_of_ble_eq_true rfl)
  rw [lg_entry_eq]
  generalize (lg_sl ([.ref L.1, .int a0]) ++ List.replicate (8 - (lg_sl ([.ref L.1, .int a0])).length) Slot.unset).toArray = ls at hl ⊢
  have hl : lv_has ls 8 [(0, .ref L.1), (1, .int a0)] := hl
  exact bX_lift_e C0 ⟨Nat.le_refl _, Nat.le_refl _⟩ _ _ _ [] ls hG hl hF
def fX_sideOf_b78 (N : Nat) (k7 : xS → Int32 → Int32 → Int32 → Int32 → Option (xS × Int32)) (σ : xS) (y0 : Int32) (x1 : Int32) (x2 : Int32) (x4 : Int32) : Option (xS × Int32) :=
  nmv (x4 + 1) fun x_14 =>
  k7 σ x1 x2 y0 x_14
def fX_sideOf_b61 (N : Nat) (k7 : xS → Int32 → Int32 → Int32 → Int32 → Option (xS × Int32)) (σ : xS) (y0 : Int32) (x1 : Int32) (x3 : Int32) (x4 : Int32) (x5 : Int32) : Option (xS × Int32) :=
  if x4 = 0 then (
    fX_sideOf_b78 N k7 σ x5 x1 y0 x4)
  else (
    nmv (if x3 < x5 then x5 else x3) fun x_13 =>
    fX_sideOf_b78 N k7 σ x_13 x1 y0 x4)
def fX_sideOf_b43 (N : Nat) (k7 : xS → Int32 → Int32 → Int32 → Int32 → Option (xS × Int32)) (σ : xS) (y0 : Int32) (x1 : Int32) (x2 : Int32) (x3 : Int32) (x4 : Int32) : Option (xS × Int32) :=
  if x4 = 0 then (
    fX_sideOf_b61 N k7 σ y0 x1 x3 x4 y0)
  else (
    nmv (if y0 < x2 then y0 else x2) fun x_11 =>
    fX_sideOf_b61 N k7 σ x_11 x1 x3 x4 y0)
def fX_sideOf_b7 (N : Nat) : Nat → xS → Int32 → Int32 → Int32 → Int32 → Option (xS × Int32)
  | 0, _, _, _, _, _ => none
  | n + 1, σ, x1, x2, x3, x4 =>
    nmv (xI σ 1) fun x_1 =>
    if x_1 ≤ x4 then (
      nmv (xI σ 1) fun x_3 =>
      if x_3 = 0 then (
        some (σ, 0))
      else (
        some (σ, (x3 - x2) + 1)))
    else (
      if x1 = 0 then (
        chk x4 8 <| chl x4.toNatClampNeg (xn σ) <| nmv x4.toNatClampNeg fun u_6 =>
        chl u_6 (xn σ) <| nmv (xE σ u_6 1) fun x_7 =>
        fX_sideOf_b43 N (fX_sideOf_b7 N n) σ x_7 x1 x2 x3 x4)
      else (
        chk x4 8 <| chl x4.toNatClampNeg (xn σ) <| nmv x4.toNatClampNeg fun u_8 =>
        chl u_8 (xn σ) <| nmv (xE σ u_8 0) fun x_9 =>
        fX_sideOf_b43 N (fX_sideOf_b7 N n) σ x_9 x1 x2 x3 x4))
def fX_sideOf (N : Nat) (σ : xS) (a0 : Int32) : Option (xS × Int32) :=
  fX_sideOf_b7 N N σ a0 0 0 0
theorem bX_sideOf_78 {N : Nat} (C0 : xCx p l s m args meth c RX0 cX0_sideOf 6 (some .int) L A) (hRo : 1 ≤ R.frames ∧ 21 ≤ R.locals) {σ' : xS} {r : Int32} {k7 : xS → Int32 → Int32 → Int32 → Int32 → Option (xS × Int32)} (hk7 : ∀ (σ : xS) (x1 : Int32) (x2 : Int32) (x3 : Int32) (x4 : Int32) (H : Heap) (locs : List Loc) (ls : Array Slot), xG A L g s σ H locs → lv_has ls 6 [(0, .ref L.1), (1, .int x1), (2, .int x2), (3, .int x3), (4, .int x4)] → k7 σ x1 x2 x3 x4 = some (σ', r) → W p l e R s m args below meth c H locs 0 0 (xZ below L g A s args σ' (some (.int r)) 0 0) (F0 m 7 ls [])) (σ : xS) (y0 : Int32) (x1 : Int32) (x2 : Int32) (x4 : Int32) (H : Heap) (locs : List Loc) (ls : Array Slot) (hG : xG A L g s σ H locs) (hl : lv_has ls 6 [(0, .ref L.1), (1, .int x1), (2, .int x2), (4, .int x4)]) (hF : fX_sideOf_b78 N k7 σ y0 x1 x2 x4 = some (σ', r)) : W p l e R s m args below meth c H locs 0 0 (xZ below L g A s args σ' (some (.int r)) 0 0) (F0 m 78 ls [.int y0]) := by
  have hx := C0.1
  have hb := C0.2.1
  have hst := C0.2.2.2.2.2.2.2.2.2.2
  unfold fX_sideOf_b78 at hF
  refine lv_istore_n (lv' := [(3, .int y0), (0, .ref L.1), (1, .int x1), (2, .int x2), (4, .int x4)]) hx hb dX0_sideOf_78 rfl hl (by decide) rfl (fun ls hl => ?_)
  refine w_iinc hx hb dX0_sideOf_79 hl 4 rfl (v := 1) (by decide) (by decide) hF (fun x_14 ls hl hF => ?_)
  have hl : lv_has ls 6 [(4, .int x_14), (3, .int y0), (0, .ref L.1), (1, .int x1), (2, .int x2)] := hl
  refine lv_goto (tgt := 7) hx hb dX0_sideOf_82 (by decide) ?_
  exact hk7 _ _ _ _ _ H locs ls hG (lv_sub hl [2, 3, 4, 1, 0] rfl) hF
theorem bX_sideOf_61 {N : Nat} (C0 : xCx p l s m args meth c RX0 cX0_sideOf 6 (some .int) L A) (hRo : 1 ≤ R.frames ∧ 21 ≤ R.locals) {σ' : xS} {r : Int32} {k7 : xS → Int32 → Int32 → Int32 → Int32 → Option (xS × Int32)} (hk7 : ∀ (σ : xS) (x1 : Int32) (x2 : Int32) (x3 : Int32) (x4 : Int32) (H : Heap) (locs : List Loc) (ls : Array Slot), xG A L g s σ H locs → lv_has ls 6 [(0, .ref L.1), (1, .int x1), (2, .int x2), (3, .int x3), (4, .int x4)] → k7 σ x1 x2 x3 x4 = some (σ', r) → W p l e R s m args below meth c H locs 0 0 (xZ below L g A s args σ' (some (.int r)) 0 0) (F0 m 7 ls [])) (σ : xS) (y0 : Int32) (x1 : Int32) (x3 : Int32) (x4 : Int32) (x5 : Int32) (H : Heap) (locs : List Loc) (ls : Array Slot) (hG : xG A L g s σ H locs) (hl : lv_has ls 6 [(0, .ref L.1), (1, .int x1), (3, .int x3), (4, .int x4), (5, .int x5)]) (hF : fX_sideOf_b61 N k7 σ y0 x1 x3 x4 x5 = some (σ', r)) : W p l e R s m args below meth c H locs 0 0 (xZ below L g A s args σ' (some (.int r)) 0 0) (F0 m 61 ls [.int y0]) := by
  have hx := C0.1
  have hb := C0.2.1
  have hst := C0.2.2.2.2.2.2.2.2.2.2
  unfold fX_sideOf_b61 at hF
  refine lv_istore_n (lv' := [(2, .int y0), (0, .ref L.1), (1, .int x1), (3, .int x3), (4, .int x4), (5, .int x5)]) hx hb dX0_sideOf_61 rfl hl (by decide) rfl (fun ls hl => ?_)
  refine lv_iload hx hb dX0_sideOf_62 (lv_at hl 4 rfl) ?_
  refine lv_if_ne (tgt := 72) hx hb dX0_sideOf_64 (by decide) (fun c_12 => ?_) (fun c_12 => ?_)
  · have hF := ifn hF c_12
    refine lv_iload_n hx hb dX0_sideOf_72 rfl (lv_at hl 3 rfl) ?_
    refine lv_iload hx hb dX0_sideOf_73 (lv_at hl 5 rfl) ?_
    refine x_max C0 hl.1 q857 q676 q116 q677 ⟨by omega, by omega⟩ ⟨by omega, by omega⟩ (Nat.le_of_ble_eq_true rfl) dX0_sideOf_75 hF (fun x_13 hF => ?_)
    exact bX_sideOf_78 C0 hRo hk7 _ _ _ _ _ H locs ls hG (lv_sub hl [1, 2, 0, 4] rfl) hF
  · have hF := ifp hF c_12
    refine lv_iload hx hb dX0_sideOf_67 (lv_at hl 5 rfl) ?_
    refine lv_goto (tgt := 78) hx hb dX0_sideOf_69 (by decide) ?_
    exact bX_sideOf_78 C0 hRo hk7 _ _ _ _ _ H locs ls hG (lv_sub hl [1, 2, 0, 4] rfl) hF
theorem bX_sideOf_43 {N : Nat} (C0 : xCx p l s m args meth c RX0 cX0_sideOf 6 (some .int) L A) (hRo : 1 ≤ R.frames ∧ 21 ≤ R.locals) {σ' : xS} {r : Int32} {k7 : xS → Int32 → Int32 → Int32 → Int32 → Option (xS × Int32)} (hk7 : ∀ (σ : xS) (x1 : Int32) (x2 : Int32) (x3 : Int32) (x4 : Int32) (H : Heap) (locs : List Loc) (ls : Array Slot), xG A L g s σ H locs → lv_has ls 6 [(0, .ref L.1), (1, .int x1), (2, .int x2), (3, .int x3), (4, .int x4)] → k7 σ x1 x2 x3 x4 = some (σ', r) → W p l e R s m args below meth c H locs 0 0 (xZ below L g A s args σ' (some (.int r)) 0 0) (F0 m 7 ls [])) (σ : xS) (y0 : Int32) (x1 : Int32) (x2 : Int32) (x3 : Int32) (x4 : Int32) (H : Heap) (locs : List Loc) (ls : Array Slot) (hG : xG A L g s σ H locs) (hl : lv_has ls 6 [(0, .ref L.1), (1, .int x1), (2, .int x2), (3, .int x3), (4, .int x4)]) (hF : fX_sideOf_b43 N k7 σ y0 x1 x2 x3 x4 = some (σ', r)) : W p l e R s m args below meth c H locs 0 0 (xZ below L g A s args σ' (some (.int r)) 0 0) (F0 m 43 ls [.int y0]) := by
  have hx := C0.1
  have hb := C0.2.1
  have hst := C0.2.2.2.2.2.2.2.2.2.2
  unfold fX_sideOf_b43 at hF
  refine lv_istore (lv' := [(5, .int y0), (0, .ref L.1), (1, .int x1), (2, .int x2), (3, .int x3), (4, .int x4)]) hx hb dX0_sideOf_43 hl (by decide) rfl (fun ls hl => ?_)
  refine lv_iload hx hb dX0_sideOf_45 (lv_at hl 5 rfl) ?_
  refine lv_if_ne (tgt := 55) hx hb dX0_sideOf_47 (by decide) (fun c_10 => ?_) (fun c_10 => ?_)
  · have hF := ifn hF c_10
    refine lv_iload_n hx hb dX0_sideOf_55 rfl (lv_at hl 3 rfl) ?_
    refine lv_iload hx hb dX0_sideOf_56 (lv_at hl 0 rfl) ?_
    refine x_min C0 hl.1 q856 q679 q116 q680 ⟨by omega, by omega⟩ ⟨by omega, by omega⟩ (Nat.le_of_ble_eq_true rfl) dX0_sideOf_58 hF (fun x_11 hF => ?_)
    exact bX_sideOf_61 C0 hRo hk7 _ _ _ _ _ _ H locs ls hG (lv_sub hl [1, 2, 4, 5, 0] rfl) hF
  · have hF := ifp hF c_10
    refine lv_iload hx hb dX0_sideOf_50 (lv_at hl 0 rfl) ?_
    refine lv_goto (tgt := 61) hx hb dX0_sideOf_52 (by decide) ?_
    exact bX_sideOf_61 C0 hRo hk7 _ _ _ _ _ _ H locs ls hG (lv_sub hl [1, 2, 4, 5, 0] rfl) hF
theorem bX_sideOf_7 {N : Nat} (C0 : xCx p l s m args meth c RX0 cX0_sideOf 6 (some .int) L A) (hRo : 1 ≤ R.frames ∧ 21 ≤ R.locals) {σ' : xS} {r : Int32} : ∀ (n : Nat) (σ : xS) (x1 : Int32) (x2 : Int32) (x3 : Int32) (x4 : Int32) (H : Heap) (locs : List Loc) (ls : Array Slot), xG A L g s σ H locs → lv_has ls 6 [(0, .ref L.1), (1, .int x1), (2, .int x2), (3, .int x3), (4, .int x4)] → fX_sideOf_b7 N n σ x1 x2 x3 x4 = some (σ', r) → W p l e R s m args below meth c H locs 0 0 (xZ below L g A s args σ' (some (.int r)) 0 0) (F0 m 7 ls []) := by
  have hx := C0.1
  have hb := C0.2.1
  have hst := C0.2.2.2.2.2.2.2.2.2.2
  intro n
  induction n with
  | zero => intro σ x1 x2 x3 x4 H locs ls hG hl hF; cases hF
  | succ n ih =>
    intro σ x1 x2 x3 x4 H locs ls hG hl hF
    unfold fX_sideOf_b7 at hF
    refine lv_iload hx hb dX0_sideOf_7 (lv_at hl 4 rfl) ?_
    refine lv_aload_n hx hb dX0_sideOf_9 rfl (lv_at hl 0 rfl) ?_
    refine x_geti C0 hG 1 (by decide) rfl q175 dX0_sideOf_10 hF (fun x_1 hF => ?_)
    refine lv_icmp_ge (tgt := 85) hx hb dX0_sideOf_13 (by decide) (fun c_2 => ?_) (fun c_2 => ?_)
    · have hF := ifp hF c_2
      refine lv_aload_n hx hb dX0_sideOf_85 rfl (lv_at hl 0 rfl) ?_
      refine x_geti C0 hG 1 (by decide) rfl q175 dX0_sideOf_86 hF (fun x_3 hF => ?_)
      refine lv_if_ne (tgt := 96) hx hb dX0_sideOf_89 (by decide) (fun c_4 => ?_) (fun c_4 => ?_)
      · have hF := ifn hF c_4
        refine lv_iload_n hx hb dX0_sideOf_96 rfl (lv_at hl 3 rfl) ?_
        refine lv_iload_n hx hb dX0_sideOf_97 rfl (lv_at hl 2 rfl) ?_
        refine lv_isub hx hb dX0_sideOf_98 ?_
        refine lv_iconst (v := 1) hx hb dX0_sideOf_99 (by decide) ?_
        refine lv_iadd hx hb dX0_sideOf_100 ?_
        exact x_iret C0 hG ⟨by omega, by omega⟩ dX0_sideOf_101 hF
      · have hF := ifp hF c_4
        refine lv_iconst (v := 0) hx hb dX0_sideOf_92 (by decide) ?_
        refine lv_goto (tgt := 101) hx hb dX0_sideOf_93 (by decide) ?_
        exact x_iret C0 hG ⟨by omega, by omega⟩ dX0_sideOf_101 hF
    · have hF := ifn hF c_2
      refine lv_iload_n hx hb dX0_sideOf_16 rfl (lv_at hl 1 rfl) ?_
      refine lv_if_eq (tgt := 33) hx hb dX0_sideOf_17 (by decide) (fun c_5 => ?_) (fun c_5 => ?_)
      · have hF := ifp hF c_5
        refine lv_aload_n hx hb dX0_sideOf_33 rfl (lv_at hl 0 rfl) ?_
        refine x_geta C0 hG 0 (by decide) rfl (by decide) q174 dX0_sideOf_34 ?_
        refine lv_iload hx hb dX0_sideOf_37 (lv_at hl 4 rfl) ?_
        refine x_swld C0 hG dX0_sideOf_39 hF (fun u_6 hF => ?_)
        refine x_swg C0 hG 1 (by decide) q331 dX0_sideOf_40 hF (fun x_7 hF => ?_)
        exact bX_sideOf_43 C0 hRo ih _ _ _ _ _ _ H locs ls hG (lv_sub hl [0, 1, 2, 3, 4] rfl) hF
      · have hF := ifn hF c_5
        refine lv_aload_n hx hb dX0_sideOf_20 rfl (lv_at hl 0 rfl) ?_
        refine x_geta C0 hG 0 (by decide) rfl (by decide) q174 dX0_sideOf_21 ?_
        refine lv_iload hx hb dX0_sideOf_24 (lv_at hl 4 rfl) ?_
        refine x_swld C0 hG dX0_sideOf_26 hF (fun u_8 hF => ?_)
        refine x_swg C0 hG 0 (by decide) q329 dX0_sideOf_27 hF (fun x_9 hF => ?_)
        refine lv_goto (tgt := 43) hx hb dX0_sideOf_30 (by decide) ?_
        exact bX_sideOf_43 C0 hRo ih _ _ _ _ _ _ H locs ls hG (lv_sub hl [0, 1, 2, 3, 4] rfl) hF
theorem bX_sideOf_e {N : Nat} (C0 : xCx p l s m args meth c RX0 cX0_sideOf 6 (some .int) L A) (hRo : 1 ≤ R.frames ∧ 21 ≤ R.locals) {σ' : xS} {r : Int32} (σ : xS) (a0 : Int32) (H : Heap) (locs : List Loc) (ls : Array Slot) (hG : xG A L g s σ H locs) (hl : lv_has ls 6 [(0, .ref L.1), (1, .int a0)]) (hF : fX_sideOf N σ a0 = some (σ', r)) : W p l e R s m args below meth c H locs 0 0 (xZ below L g A s args σ' (some (.int r)) 0 0) (F0 m 0 ls []) := by
  have hx := C0.1
  have hb := C0.2.1
  have hst := C0.2.2.2.2.2.2.2.2.2.2
  unfold fX_sideOf at hF
  refine lv_iconst (v := 0) hx hb dX0_sideOf_0 (by decide) ?_
  refine lv_istore_n (lv' := [(2, .int 0), (0, .ref L.1), (1, .int a0)]) hx hb dX0_sideOf_1 rfl hl (by decide) rfl (fun ls hl => ?_)
  refine lv_iconst (v := 0) hx hb dX0_sideOf_2 (by decide) ?_
  refine lv_istore_n (lv' := [(3, .int 0), (2, .int 0), (0, .ref L.1), (1, .int a0)]) hx hb dX0_sideOf_3 rfl hl (by decide) rfl (fun ls hl => ?_)
  refine lv_iconst (v := 0) hx hb dX0_sideOf_4 (by decide) ?_
  refine lv_istore (lv' := [(4, .int 0), (3, .int 0), (2, .int 0), (0, .ref L.1), (1, .int a0)]) hx hb dX0_sideOf_5 hl (by decide) rfl (fun ls hl => ?_)
  exact bX_sideOf_7 C0 hRo N _ _ _ _ _ H locs ls hG (lv_sub hl [3, 4, 2, 1, 0] rfl) hF
theorem mtX_sideOf (l : Launch) (hst : l.stackTraces = false) {N : Nat} {L : xL} {g : xg} {σ σ' : xS} {r : Int32} {a0 : Int32} (hF : fX_sideOf N σ a0 = some (σ', r)) : xMet l yX0_sideOf cX0_sideOf 6 (some .int) (1) (21) 0 0 [.ref L.1, .int a0] L g σ (some (.int r)) σ' := by
  refine x_head hst (by decide) rfl ?_
  intro p e s m below meth c A C0 hG
  have hl := lv_entry ([.ref L.1, .int a0]) (n := 6) (Nat.le_of_ble_eq_true rfl)
  rw [lg_entry_eq]
  generalize (lg_sl ([.ref L.1, .int a0]) ++ List.replicate (6 - (lg_sl ([.ref L.1, .int a0])).length) Slot.unset).toArray = ls at hl ⊢
  have hl : lv_has ls 6 [(0, .ref L.1), (1, .int a0)] := hl
  exact bX_sideOf_e C0 ⟨Nat.le_refl _, Nat.le_refl _⟩ _ _ _ [] ls hG hl hF
def fX_onOne_b63 (N : Nat) (k14 : xS → Int32 → Int32 → Int32 → Option (xS × Int32)) (σ : xS) (x1 : Int32) (x2 : Int32) (x3 : Int32) : Option (xS × Int32) :=
  nmv (x3 + 1) fun x_18 =>
  k14 σ x1 x2 x_18
def fX_onOne_b14 (N : Nat) (k4 : xS → Int32 → Int32 → Option (xS × Int32)) : Nat → xS → Int32 → Int32 → Int32 → Option (xS × Int32)
  | 0, _, _, _, _ => none
  | n + 1, σ, x1, x2, x3 =>
    nmv (xI σ 1) fun x_3 =>
    if x_3 ≤ x3 then (
      nmv (x2 + 1) fun x_5 =>
      k4 σ x1 x_5)
    else (
      if x2 = x3 then (
        fX_onOne_b63 N (fX_onOne_b14 N k4 n) σ x1 x2 x3)
      else (
        chk x2 8 <| chl x2.toNatClampNeg (xn σ) <| nmv x2.toNatClampNeg fun u_7 =>
        chk x3 8 <| chl x3.toNatClampNeg (xn σ) <| nmv x3.toNatClampNeg fun u_8 =>
        chl u_8 (xn σ) <| nmv (xE σ u_8 0) fun x_9 =>
        chk x3 8 <| chl x3.toNatClampNeg (xn σ) <| nmv x3.toNatClampNeg fun u_10 =>
        chl u_10 (xn σ) <| nmv (xE σ u_10 1) fun x_11 =>
        chl u_7 (xn σ) <|
        obi (fX_Swimmer_isOn N σ u_7 x_9 x_11) fun σ_12 r_13 =>
        if r_13 = 0 then (
          fX_onOne_b63 N (fX_onOne_b14 N k4 n) σ_12 x1 x2 x3)
        else (
          nmv (x1 ||| (1 <<< (x2 &&& 31))) fun x_17 =>
          fX_onOne_b63 N (fX_onOne_b14 N k4 n) σ_12 x_17 x2 x3)))
def fX_onOne_b4 (N : Nat) : Nat → xS → Int32 → Int32 → Option (xS × Int32)
  | 0, _, _, _ => none
  | n + 1, σ, x1, x2 =>
    nmv (xI σ 1) fun x_1 =>
    if x_1 ≤ x2 then (
      some (σ, x1))
    else (
      fX_onOne_b14 N (fX_onOne_b4 N n) N σ x1 x2 0)
def fX_onOne (N : Nat) (σ : xS) : Option (xS × Int32) :=
  fX_onOne_b4 N N σ 0 0
theorem bX_onOne_63 {N : Nat} (C0 : xCx p l s m args meth c RX0 cX0_onOne 4 (some .int) L A) (hRo : 1 ≤ R.frames ∧ 22 ≤ R.locals) {σ' : xS} {r : Int32} {k14 : xS → Int32 → Int32 → Int32 → Option (xS × Int32)} (hk14 : ∀ (σ : xS) (x1 : Int32) (x2 : Int32) (x3 : Int32) (H : Heap) (locs : List Loc) (ls : Array Slot), xG A L g s σ H locs → lv_has ls 4 [(0, .ref L.1), (1, .int x1), (2, .int x2), (3, .int x3)] → k14 σ x1 x2 x3 = some (σ', r) → W p l e R s m args below meth c H locs 0 0 (xZ below L g A s args σ' (some (.int r)) 0 0) (F0 m 14 ls [])) (σ : xS) (x1 : Int32) (x2 : Int32) (x3 : Int32) (H : Heap) (locs : List Loc) (ls : Array Slot) (hG : xG A L g s σ H locs) (hl : lv_has ls 4 [(0, .ref L.1), (1, .int x1), (2, .int x2), (3, .int x3)]) (hF : fX_onOne_b63 N k14 σ x1 x2 x3 = some (σ', r)) : W p l e R s m args below meth c H locs 0 0 (xZ below L g A s args σ' (some (.int r)) 0 0) (F0 m 63 ls []) := by
  have hx := C0.1
  have hb := C0.2.1
  have hst := C0.2.2.2.2.2.2.2.2.2.2
  unfold fX_onOne_b63 at hF
  refine w_iinc hx hb dX0_onOne_63 hl 3 rfl (v := 1) (by decide) (by decide) hF (fun x_18 ls hl hF => ?_)
  have hl : lv_has ls 4 [(3, .int x_18), (0, .ref L.1), (1, .int x1), (2, .int x2)] := hl
  refine lv_goto (tgt := 14) hx hb dX0_onOne_66 (by decide) ?_
  exact hk14 _ _ _ _ H locs ls hG (lv_sub hl [1, 2, 3, 0] rfl) hF
theorem bX_onOne_14 {N : Nat} (C0 : xCx p l s m args meth c RX0 cX0_onOne 4 (some .int) L A) (hRo : 1 ≤ R.frames ∧ 22 ≤ R.locals) {σ' : xS} {r : Int32} {k4 : xS → Int32 → Int32 → Option (xS × Int32)} (hk4 : ∀ (σ : xS) (x1 : Int32) (x2 : Int32) (H : Heap) (locs : List Loc) (ls : Array Slot), xG A L g s σ H locs → lv_has ls 4 [(0, .ref L.1), (1, .int x1), (2, .int x2)] → k4 σ x1 x2 = some (σ', r) → W p l e R s m args below meth c H locs 0 0 (xZ below L g A s args σ' (some (.int r)) 0 0) (F0 m 4 ls [])) : ∀ (n : Nat) (σ : xS) (x1 : Int32) (x2 : Int32) (x3 : Int32) (H : Heap) (locs : List Loc) (ls : Array Slot), xG A L g s σ H locs → lv_has ls 4 [(0, .ref L.1), (1, .int x1), (2, .int x2), (3, .int x3)] → fX_onOne_b14 N k4 n σ x1 x2 x3 = some (σ', r) → W p l e R s m args below meth c H locs 0 0 (xZ below L g A s args σ' (some (.int r)) 0 0) (F0 m 14 ls []) := by
  have hx := C0.1
  have hb := C0.2.1
  have hst := C0.2.2.2.2.2.2.2.2.2.2
  intro n
  induction n with
  | zero => intro σ x1 x2 x3 H locs ls hG hl hF; cases hF
  | succ n ih =>
    intro σ x1 x2 x3 H locs ls hG hl hF
    unfold fX_onOne_b14 at hF
    refine lv_iload_n hx hb dX0_onOne_14 rfl (lv_at hl 3 rfl) ?_
    refine lv_aload_n hx hb dX0_onOne_15 rfl (lv_at hl 0 rfl) ?_
    refine x_geti C0 hG 1 (by decide) rfl q175 dX0_onOne_16 hF (fun x_3 hF => ?_)
    refine lv_icmp_ge (tgt := 69) hx hb dX0_onOne_19 (by decide) (fun c_4 => ?_) (fun c_4 => ?_)
    · have hF := ifp hF c_4
      refine w_iinc hx hb dX0_onOne_69 hl 2 rfl (v := 1) (by decide) (by decide) hF (fun x_5 ls hl hF => ?_)
      have hl : lv_has ls 4 [(2, .int x_5), (0, .ref L.1), (1, .int x1), (3, .int x3)] := hl
      refine lv_goto (tgt := 4) hx hb dX0_onOne_72 (by decide) ?_
      exact hk4 _ _ _ H locs ls hG (lv_sub hl [1, 2, 0] rfl) hF
    · have hF := ifn hF c_4
      refine lv_iload_n hx hb dX0_onOne_22 rfl (lv_at hl 2 rfl) ?_
      refine lv_iload_n hx hb dX0_onOne_23 rfl (lv_at hl 3 rfl) ?_
      refine lv_icmp_eq (tgt := 63) hx hb dX0_onOne_24 (by decide) (fun c_6 => ?_) (fun c_6 => ?_)
      · have hF := ifp hF c_6
        exact bX_onOne_63 C0 hRo ih _ _ _ _ H locs ls hG (lv_sub hl [0, 1, 2, 3] rfl) hF
      · have hF := ifn hF c_6
        refine lv_aload_n hx hb dX0_onOne_27 rfl (lv_at hl 0 rfl) ?_
        refine x_geta C0 hG 0 (by decide) rfl (by decide) q174 dX0_onOne_28 ?_
        refine lv_iload_n hx hb dX0_onOne_31 rfl (lv_at hl 2 rfl) ?_
        refine x_swld C0 hG dX0_onOne_32 hF (fun u_7 hF => ?_)
        refine lv_aload_n hx hb dX0_onOne_33 rfl (lv_at hl 0 rfl) ?_
        refine x_geta C0 hG 0 (by decide) rfl (by decide) q174 dX0_onOne_34 ?_
        refine lv_iload_n hx hb dX0_onOne_37 rfl (lv_at hl 3 rfl) ?_
        refine x_swld C0 hG dX0_onOne_38 hF (fun u_8 hF => ?_)
        refine x_swg C0 hG 0 (by decide) q329 dX0_onOne_39 hF (fun x_9 hF => ?_)
        refine lv_aload_n hx hb dX0_onOne_42 rfl (lv_at hl 0 rfl) ?_
        refine x_geta C0 hG 0 (by decide) rfl (by decide) q174 dX0_onOne_43 ?_
        refine lv_iload_n hx hb dX0_onOne_46 rfl (lv_at hl 3 rfl) ?_
        refine x_swld C0 hG dX0_onOne_47 hF (fun u_10 hF => ?_)
        refine x_swg C0 hG 1 (by decide) q331 dX0_onOne_48 hF (fun x_11 hF => ?_)
        obtain ⟨h_15, hF⟩ := chl_of hF
        obtain ⟨σ_12, r_13, e_14, hF⟩ := obi_of hF
        refine x_cVi0 (As := [.int x_9, .int x_11]) (rest := []) C0 hG (mtX_Swimmer_isOn l hst e_14) (lw_V q1021 q1022 q1023 q103 q1024) yd_X3_isOn (x_rcs C0 hG h_15) ⟨by omega, by omega⟩ ⟨by omega, by omega⟩ rfl rfl hl.1 (Nat.le_of_ble_eq_true rfl) dX0_onOne_51 (fun H locs hG => ?_)
        refine lv_if_eq (tgt := 63) hx hb dX0_onOne_54 (by decide) (fun c_16 => ?_) (fun c_16 => ?_)
        · have hF := ifp hF c_16
          exact bX_onOne_63 C0 hRo ih _ _ _ _ H locs ls hG (lv_sub hl [0, 1, 2, 3] rfl) hF
        · have hF := ifn hF c_16
          refine lv_iload_n hx hb dX0_onOne_57 rfl (lv_at hl 1 rfl) ?_
          refine lv_iconst (v := 1) hx hb dX0_onOne_58 (by decide) ?_
          refine lv_iload_n hx hb dX0_onOne_59 rfl (lv_at hl 2 rfl) ?_
          refine lv_ishl hx hb dX0_onOne_60 ?_
          refine lv_ior hx hb dX0_onOne_61 ?_
          refine w_nm hF (fun x_17 hF => ?_)
          refine lv_istore_n (lv' := [(1, .int x_17), (0, .ref L.1), (2, .int x2), (3, .int x3)]) hx hb dX0_onOne_62 rfl hl (by decide) rfl (fun ls hl => ?_)
          exact bX_onOne_63 C0 hRo ih _ _ _ _ H locs ls hG (lv_sub hl [1, 0, 2, 3] rfl) hF
theorem bX_onOne_4 {N : Nat} (C0 : xCx p l s m args meth c RX0 cX0_onOne 4 (some .int) L A) (hRo : 1 ≤ R.frames ∧ 22 ≤ R.locals) {σ' : xS} {r : Int32} : ∀ (n : Nat) (σ : xS) (x1 : Int32) (x2 : Int32) (H : Heap) (locs : List Loc) (ls : Array Slot), xG A L g s σ H locs → lv_has ls 4 [(0, .ref L.1), (1, .int x1), (2, .int x2)] → fX_onOne_b4 N n σ x1 x2 = some (σ', r) → W p l e R s m args below meth c H locs 0 0 (xZ below L g A s args σ' (some (.int r)) 0 0) (F0 m 4 ls []) := by
  have hx := C0.1
  have hb := C0.2.1
  have hst := C0.2.2.2.2.2.2.2.2.2.2
  intro n
  induction n with
  | zero => intro σ x1 x2 H locs ls hG hl hF; cases hF
  | succ n ih =>
    intro σ x1 x2 H locs ls hG hl hF
    unfold fX_onOne_b4 at hF
    refine lv_iload_n hx hb dX0_onOne_4 rfl (lv_at hl 2 rfl) ?_
    refine lv_aload_n hx hb dX0_onOne_5 rfl (lv_at hl 0 rfl) ?_
    refine x_geti C0 hG 1 (by decide) rfl q175 dX0_onOne_6 hF (fun x_1 hF => ?_)
    refine lv_icmp_ge (tgt := 75) hx hb dX0_onOne_9 (by decide) (fun c_2 => ?_) (fun c_2 => ?_)
    · have hF := ifp hF c_2
      refine lv_iload_n hx hb dX0_onOne_75 rfl (lv_at hl 1 rfl) ?_
      exact x_iret C0 hG ⟨by omega, by omega⟩ dX0_onOne_76 hF
    · have hF := ifn hF c_2
      refine lv_iconst (v := 0) hx hb dX0_onOne_12 (by decide) ?_
      refine lv_istore_n (lv' := [(3, .int 0), (0, .ref L.1), (1, .int x1), (2, .int x2)]) hx hb dX0_onOne_13 rfl hl (by decide) rfl (fun ls hl => ?_)
      exact bX_onOne_14 C0 hRo ih N _ _ _ _ H locs ls hG (lv_sub hl [1, 2, 3, 0] rfl) hF
theorem bX_onOne_e {N : Nat} (C0 : xCx p l s m args meth c RX0 cX0_onOne 4 (some .int) L A) (hRo : 1 ≤ R.frames ∧ 22 ≤ R.locals) {σ' : xS} {r : Int32} (σ : xS) (H : Heap) (locs : List Loc) (ls : Array Slot) (hG : xG A L g s σ H locs) (hl : lv_has ls 4 [(0, .ref L.1)]) (hF : fX_onOne N σ = some (σ', r)) : W p l e R s m args below meth c H locs 0 0 (xZ below L g A s args σ' (some (.int r)) 0 0) (F0 m 0 ls []) := by
  have hx := C0.1
  have hb := C0.2.1
  have hst := C0.2.2.2.2.2.2.2.2.2.2
  unfold fX_onOne at hF
  refine lv_iconst (v := 0) hx hb dX0_onOne_0 (by decide) ?_
  refine lv_istore_n (lv' := [(1, .int 0), (0, .ref L.1)]) hx hb dX0_onOne_1 rfl hl (by decide) rfl (fun ls hl => ?_)
  refine lv_iconst (v := 0) hx hb dX0_onOne_2 (by decide) ?_
  refine lv_istore_n (lv' := [(2, .int 0), (1, .int 0), (0, .ref L.1)]) hx hb dX0_onOne_3 rfl hl (by decide) rfl (fun ls hl => ?_)
  exact bX_onOne_4 C0 hRo N _ _ _ H locs ls hG (lv_sub hl [2, 1, 0] rfl) hF
theorem mtX_onOne (l : Launch) (hst : l.stackTraces = false) {N : Nat} {L : xL} {g : xg} {σ σ' : xS} {r : Int32} (hF : fX_onOne N σ = some (σ', r)) : xMet l yX0_onOne cX0_onOne 4 (some .int) (1) (22) 0 0 [.ref L.1] L g σ (some (.int r)) σ' := by
  refine x_head hst (by decide) rfl ?_
  intro p e s m below meth c A C0 hG
  have hl := lv_entry ([.ref L.1]) (n := 4) (Nat.le_of_ble_eq_true rfl)
  rw [lg_entry_eq]
  generalize (lg_sl ([.ref L.1]) ++ List.replicate (4 - (lg_sl ([.ref L.1])).length) Slot.unset).toArray = ls at hl ⊢
  have hl : lv_has ls 4 [(0, .ref L.1)] := hl
  exact bX_onOne_e C0 ⟨Nat.le_refl _, Nat.le_refl _⟩ _ _ [] ls hG hl hF
end XWALK4
