section XWALK3
variable {p : Program} {l : Launch} {e : Env} {R : Room} {s : State} {m : MethodId} {args : Array Value} {below : List Frame} {meth : Method} {c : Code} {A : Nat → Prop}
variable {L : xL} {g : xg}
def fX_goneAt_b85 (N : Nat) (k16 : xS → Int32 → Int32 → Int32 → Int32 → Int32 → Option (xS × Int32)) (σ : xS) (x1 : Int32) (x2 : Int32) (x3 : Int32) (x4 : Int32) (x5 : Int32) : Option (xS × Int32) :=
  nmv (x5 + 1) fun x_18 =>
  k16 σ x1 x2 x3 x4 x_18
def fX_goneAt_b16 (N : Nat) : Nat → xS → Int32 → Int32 → Int32 → Int32 → Int32 → Option (xS × Int32)
  | 0, _, _, _, _, _, _ => none
  | n + 1, σ, x1, x2, x3, x4, x5 =>
    nmv (xI σ 15) fun x_2 =>
    if x_2 ≤ x5 then (
      some (σ, x4))
    else (
      chk x5 60 <| nmv (xJ σ 12 x5.toNatClampNeg) fun x_4 =>
      obi (fX_isBelow N σ x_4) fun σ_5 r_6 =>
      if r_6 = 0 then (
        nmv (x3 + 1) fun x_9 =>
        nmv (xI σ_5 4) fun x_10 =>
        if x_9 < x_10 then (
          fX_goneAt_b85 N (fX_goneAt_b16 N n) σ_5 x1 x2 x_9 x4 x5)
        else (
          fX_goneAt_b85 N (fX_goneAt_b16 N n) σ_5 x1 0 x_9 x4 x5))
      else (
        nmv (x2 + 1) fun x_12 =>
        nmv (xI σ_5 19) fun x_13 =>
        nmv (if x_13 < x_12 then x_12 else x_13) fun x_14 =>
        nmv (xSi σ_5 19 x_14) fun σ_15 =>
        if 0 ≤ x4 then (
          fX_goneAt_b85 N (fX_goneAt_b16 N n) σ_15 x1 x_12 0 x4 x5)
        else (
          if x_12 ≤ x1 then (
            fX_goneAt_b85 N (fX_goneAt_b16 N n) σ_15 x1 x_12 0 x4 x5)
          else (
            fX_goneAt_b85 N (fX_goneAt_b16 N n) σ_15 x1 x_12 0 x5 x5))))
def fX_goneAt (N : Nat) (σ : xS) (a0 : Int32) : Option (xS × Int32) :=
  nmv (xSi σ 19 0) fun σ_1 =>
  fX_goneAt_b16 N N σ_1 a0 0 0 (-2) 0
theorem bX_goneAt_85 {N : Nat} (C0 : xCx p l s m args meth c RX0 cX0_goneAt 6 (some .int) L A) (hRo : 1 ≤ R.frames ∧ 21 ≤ R.locals) {σ' : xS} {r : Int32} {k16 : xS → Int32 → Int32 → Int32 → Int32 → Int32 → Option (xS × Int32)} (hk16 : ∀ (σ : xS) (x1 : Int32) (x2 : Int32) (x3 : Int32) (x4 : Int32) (x5 : Int32) (H : Heap) (locs : List Loc) (ls : Array Slot), xG A L g s σ H locs → lv_has ls 6 [(0, .ref L.1), (1, .int x1), (2, .int x2), (3, .int x3), (4, .int x4), (5, .int x5)] → k16 σ x1 x2 x3 x4 x5 = some (σ', r) → W p l e R s m args below meth c H locs 0 0 (xZ below L g A s args σ' (some (.int r)) 0 0) (F0 m 16 ls [])) (σ : xS) (x1 : Int32) (x2 : Int32) (x3 : Int32) (x4 : Int32) (x5 : Int32) (H : Heap) (locs : List Loc) (ls : Array Slot) (hG : xG A L g s σ H locs) (hl : lv_has ls 6 [(0, .ref L.1), (1, .int x1), (2, .int x2), (3, .int x3), (4, .int x4), (5, .int x5)]) (hF : fX_goneAt_b85 N k16 σ x1 x2 x3 x4 x5 = some (σ', r)) : W p l e R s m args below meth c H locs 0 0 (xZ below L g A s args σ' (some (.int r)) 0 0) (F0 m 85 ls []) := by
  have hx := C0.1
  have hb := C0.2.1
  have hst := C0.2.2.2.2.2.2.2.2.2.2
  unfold fX_goneAt_b85 at hF
  refine w_iinc hx hb dX0_goneAt_85 hl 5 rfl (v := 1) (by decide) (by decide) hF (fun x_18 ls hl hF => ?_)
  have hl : lv_has ls 6 [(5, .int x_18), (0, .ref L.1), (1, .int x1), (2, .int x2), (3, .int x3), (4, .int x4)] := hl
  refine lv_goto (tgt := 16) hx hb dX0_goneAt_88 (by decide) ?_
  exact hk16 _ _ _ _ _ _ H locs ls hG (lv_sub hl [1, 2, 3, 4, 5, 0] rfl) hF
theorem bX_goneAt_16 {N : Nat} (C0 : xCx p l s m args meth c RX0 cX0_goneAt 6 (some .int) L A) (hRo : 1 ≤ R.frames ∧ 21 ≤ R.locals) {σ' : xS} {r : Int32} : ∀ (n : Nat) (σ : xS) (x1 : Int32) (x2 : Int32) (x3 : Int32) (x4 : Int32) (x5 : Int32) (H : Heap) (locs : List Loc) (ls : Array Slot), xG A L g s σ H locs → lv_has ls 6 [(0, .ref L.1), (1, .int x1), (2, .int x2), (3, .int x3), (4, .int x4), (5, .int x5)] → fX_goneAt_b16 N n σ x1 x2 x3 x4 x5 = some (σ', r) → W p l e R s m args below meth c H locs 0 0 (xZ below L g A s args σ' (some (.int r)) 0 0) (F0 m 16 ls []) := by
  have hx := C0.1
  have hb := C0.2.1
  have hst := C0.2.2.2.2.2.2.2.2.2.2
  intro n
  induction n with
  | zero => intro σ x1 x2 x3 x4 x5 H locs ls hG hl hF; cases hF
  | succ n ih =>
    intro σ x1 x2 x3 x4 x5 H locs ls hG hl hF
    unfold fX_goneAt_b16 at hF
    refine lv_iload hx hb dX0_goneAt_16 (lv_at hl 5 rfl) ?_
    refine lv_aload_n hx hb dX0_goneAt_18 rfl (lv_at hl 0 rfl) ?_
    refine x_geti C0 hG 15 (by decide) rfl q191 dX0_goneAt_19 hF (fun x_2 hF => ?_)
    refine lv_icmp_ge (tgt := 91) hx hb dX0_goneAt_22 (by decide) (fun c_3 => ?_) (fun c_3 => ?_)
    · have hF := ifp hF c_3
      refine lv_iload hx hb dX0_goneAt_91 (lv_at hl 4 rfl) ?_
      exact x_iret C0 hG ⟨by omega, by omega⟩ dX0_goneAt_93 hF
    · have hF := ifn hF c_3
      refine lv_aload_n hx hb dX0_goneAt_25 rfl (lv_at hl 0 rfl) ?_
      refine x_geta C0 hG 12 (by decide) rfl (by decide) q188 dX0_goneAt_26 ?_
      refine lv_iload hx hb dX0_goneAt_29 (lv_at hl 5 rfl) ?_
      refine x_ld C0 hG 12 ⟨by decide, rfl, rfl⟩ dX0_goneAt_31 hF (fun x_4 hF => ?_)
      obtain ⟨σ_5, r_6, e_7, hF⟩ := obi_of hF
      refine x_cSi0 (As := [.int x_4]) (rest := []) C0 hG (mtX_isBelow l hst e_7) (lw_S q934 q935 q100 q936) yd_X0_isBelow ⟨by omega, by omega⟩ ⟨by omega, by omega⟩ rfl rfl hl.1 (Nat.le_of_ble_eq_true rfl) dX0_goneAt_32 (fun H locs hG => ?_)
      refine lv_if_eq (tgt := 72) hx hb dX0_goneAt_35 (by decide) (fun c_8 => ?_) (fun c_8 => ?_)
      · have hF := ifp hF c_8
        refine w_iinc hx hb dX0_goneAt_72 hl 3 rfl (v := 1) (by decide) (by decide) hF (fun x_9 ls hl hF => ?_)
        have hl : lv_has ls 6 [(3, .int x_9), (0, .ref L.1), (1, .int x1), (2, .int x2), (4, .int x4), (5, .int x5)] := hl
        refine lv_iload_n hx hb dX0_goneAt_75 rfl (lv_at hl 0 rfl) ?_
        refine lv_aload_n hx hb dX0_goneAt_76 rfl (lv_at hl 1 rfl) ?_
        refine x_geti C0 hG 4 (by decide) rfl q178 dX0_goneAt_77 hF (fun x_10 hF => ?_)
        refine lv_icmp_lt (tgt := 85) hx hb dX0_goneAt_80 (by decide) (fun c_11 => ?_) (fun c_11 => ?_)
        · have hF := ifp hF c_11
          exact bX_goneAt_85 C0 hRo ih _ _ _ _ _ _ H locs ls hG (lv_sub hl [1, 2, 3, 0, 4, 5] rfl) hF
        · have hF := ifn hF c_11
          refine lv_iconst (v := 0) hx hb dX0_goneAt_83 (by decide) ?_
          refine lv_istore_n (lv' := [(2, .int 0), (3, .int x_9), (0, .ref L.1), (1, .int x1), (4, .int x4), (5, .int x5)]) hx hb dX0_goneAt_84 rfl hl (by decide) rfl (fun ls hl => ?_)
          exact bX_goneAt_85 C0 hRo ih _ _ _ _ _ _ H locs ls hG (lv_sub hl [2, 3, 0, 1, 4, 5] rfl) hF
      · have hF := ifn hF c_8
        refine lv_iconst (v := 0) hx hb dX0_goneAt_38 (by decide) ?_
        refine lv_istore_n (lv' := [(3, .int 0), (0, .ref L.1), (1, .int x1), (2, .int x2), (4, .int x4), (5, .int x5)]) hx hb dX0_goneAt_39 rfl hl (by decide) rfl (fun ls hl => ?_)
        refine w_iinc hx hb dX0_goneAt_40 hl 3 rfl (v := 1) (by decide) (by decide) hF (fun x_12 ls hl hF => ?_)
        have hl : lv_has ls 6 [(2, .int x_12), (3, .int 0), (0, .ref L.1), (1, .int x1), (4, .int x4), (5, .int x5)] := hl
        refine lv_aload_n hx hb dX0_goneAt_43 rfl (lv_at hl 2 rfl) ?_
        refine lv_aload_n hx hb dX0_goneAt_44 rfl (lv_at hl 2 rfl) ?_
        refine x_geti C0 hG 19 (by decide) rfl q195 dX0_goneAt_45 hF (fun x_13 hF => ?_)
        refine lv_iload_n hx hb dX0_goneAt_48 rfl (lv_at hl 0 rfl) ?_
        refine x_max C0 hl.1 q857 q676 q116 q677 ⟨by omega, by omega⟩ ⟨by omega, by omega⟩ (Nat.le_of_ble_eq_true rfl) dX0_goneAt_49 hF (fun x_14 hF => ?_)
        refine x_puti C0 hG 19 (by decide) rfl q195 dX0_goneAt_52 (Or.inl (by decide)) hF (fun σ_15 H locs hG hF => ?_)
        refine lv_iload hx hb dX0_goneAt_55 (lv_at hl 4 rfl) ?_
        refine lv_if_ge (tgt := 85) hx hb dX0_goneAt_57 (by decide) (fun c_16 => ?_) (fun c_16 => ?_)
        · have hF := ifp hF c_16
          exact bX_goneAt_85 C0 hRo ih _ _ _ _ _ _ H locs ls hG (lv_sub hl [2, 3, 0, 1, 4, 5] rfl) hF
        · have hF := ifn hF c_16
          refine lv_iload_n hx hb dX0_goneAt_60 rfl (lv_at hl 0 rfl) ?_
          refine lv_iload_n hx hb dX0_goneAt_61 rfl (lv_at hl 3 rfl) ?_
          refine lv_icmp_le (tgt := 85) hx hb dX0_goneAt_62 (by decide) (fun c_17 => ?_) (fun c_17 => ?_)
          · have hF := ifp hF c_17
            exact bX_goneAt_85 C0 hRo ih _ _ _ _ _ _ H locs ls hG (lv_sub hl [2, 3, 0, 1, 4, 5] rfl) hF
          · have hF := ifn hF c_17
            refine lv_iload hx hb dX0_goneAt_65 (lv_at hl 5 rfl) ?_
            refine lv_istore (lv' := [(4, .int x5), (2, .int x_12), (3, .int 0), (0, .ref L.1), (1, .int x1), (5, .int x5)]) hx hb dX0_goneAt_67 hl (by decide) rfl (fun ls hl => ?_)
            refine lv_goto (tgt := 85) hx hb dX0_goneAt_69 (by decide) ?_
            exact bX_goneAt_85 C0 hRo ih _ _ _ _ _ _ H locs ls hG (lv_sub hl [3, 4, 1, 2, 0, 5] rfl) hF
theorem bX_goneAt_e {N : Nat} (C0 : xCx p l s m args meth c RX0 cX0_goneAt 6 (some .int) L A) (hRo : 1 ≤ R.frames ∧ 21 ≤ R.locals) {σ' : xS} {r : Int32} (σ : xS) (a0 : Int32) (H : Heap) (locs : List Loc) (ls : Array Slot) (hG : xG A L g s σ H locs) (hl : lv_has ls 6 [(0, .ref L.1), (1, .int a0)]) (hF : fX_goneAt N σ a0 = some (σ', r)) : W p l e R s m args below meth c H locs 0 0 (xZ below L g A s args σ' (some (.int r)) 0 0) (F0 m 0 ls []) := by
  have hx := C0.1
  have hb := C0.2.1
  have hst := C0.2.2.2.2.2.2.2.2.2.2
  unfold fX_goneAt at hF
  refine lv_iconst (v := 0) hx hb dX0_goneAt_0 (by decide) ?_
  refine lv_istore_n (lv' := [(2, .int 0), (0, .ref L.1), (1, .int a0)]) hx hb dX0_goneAt_1 rfl hl (by decide) rfl (fun ls hl => ?_)
  refine lv_iconst (v := 0) hx hb dX0_goneAt_2 (by decide) ?_
  refine lv_istore_n (lv' := [(3, .int 0), (2, .int 0), (0, .ref L.1), (1, .int a0)]) hx hb dX0_goneAt_3 rfl hl (by decide) rfl (fun ls hl => ?_)
  refine lv_bipush (v := (-2)) hx hb dX0_goneAt_4 (by decide) ?_
  refine lv_istore (lv' := [(4, .int (-2)), (3, .int 0), (2, .int 0), (0, .ref L.1), (1, .int a0)]) hx hb dX0_goneAt_6 hl (by decide) rfl (fun ls hl => ?_)
  refine lv_aload_n hx hb dX0_goneAt_8 rfl (lv_at hl 3 rfl) ?_
  refine lv_iconst (v := 0) hx hb dX0_goneAt_9 (by decide) ?_
  refine x_puti C0 hG 19 (by decide) rfl q195 dX0_goneAt_10 (Or.inl (by decide)) hF (fun σ_1 H locs hG hF => ?_)
  refine lv_iconst (v := 0) hx hb dX0_goneAt_13 (by decide) ?_
  refine lv_istore (lv' := [(5, .int 0), (4, .int (-2)), (3, .int 0), (2, .int 0), (0, .ref L.1), (1, .int a0)]) hx hb dX0_goneAt_14 hl (by decide) rfl (fun ls hl => ?_)
  exact bX_goneAt_16 C0 hRo N _ _ _ _ _ _ H locs ls hG (lv_sub hl [4, 5, 3, 2, 1, 0] rfl) hF
theorem mtX_goneAt (l : Launch) (hst : l.stackTraces = false) {N : Nat} {L : xL} {g : xg} {σ σ' : xS} {r : Int32} {a0 : Int32} (hF : fX_goneAt N σ a0 = some (σ', r)) : xMet l yX0_goneAt cX0_goneAt 6 (some .int) (1) (21) 0 0 [.ref L.1, .int a0] L g σ (some (.int r)) σ' := by
  refine x_head hst (by decide) rfl ?_
  intro p e s m below meth c A C0 hG
  have hl := lv_entry ([.ref L.1, .int a0]) (n := 6) (Nat.le_of_ble_eq_true rfl)
  rw [lg_entry_eq]
  generalize (lg_sl ([.ref L.1, .int a0]) ++ List.replicate (6 - (lg_sl ([.ref L.1, .int a0])).length) Slot.unset).toArray = ls at hl ⊢
  have hl : lv_has ls 6 [(0, .ref L.1), (1, .int a0)] := hl
  exact bX_goneAt_e C0 ⟨Nat.le_refl _, Nat.le_refl _⟩ _ _ _ [] ls hG hl hF
def fX_allGone_b34 (N : Nat) (k4 : xS → Int32 → Int32 → Option (xS × Int32)) (σ : xS) (x1 : Int32) (x2 : Int32) : Option (xS × Int32) :=
  nmv (x2 + 1) fun x_10 =>
  k4 σ x1 x_10
def fX_allGone_b4 (N : Nat) : Nat → xS → Int32 → Int32 → Option (xS × Int32)
  | 0, _, _, _ => none
  | n + 1, σ, x1, x2 =>
    nmv (xI σ 1) fun x_1 =>
    if x_1 ≤ x2 then (
      some (σ, x1))
    else (
      chk x2 8 <| chl x2.toNatClampNeg (xn σ) <| nmv x2.toNatClampNeg fun u_3 =>
      chl u_3 (xn σ) <| nmv (xE σ u_3 3) fun x_4 =>
      obi (fX_goneAt N σ x_4) fun σ_5 r_6 =>
      if r_6 < 0 then (
        fX_allGone_b34 N (fX_allGone_b4 N n) σ_5 x1 x2)
      else (
        nmv (x1 ||| (1 <<< (x2 &&& 31))) fun x_9 =>
        fX_allGone_b34 N (fX_allGone_b4 N n) σ_5 x_9 x2))
def fX_allGone (N : Nat) (σ : xS) : Option (xS × Int32) :=
  fX_allGone_b4 N N σ 0 0
theorem bX_allGone_34 {N : Nat} (C0 : xCx p l s m args meth c RX0 cX0_allGone 3 (some .int) L A) (hRo : 2 ≤ R.frames ∧ 46 ≤ R.locals) {σ' : xS} {r : Int32} {k4 : xS → Int32 → Int32 → Option (xS × Int32)} (hk4 : ∀ (σ : xS) (x1 : Int32) (x2 : Int32) (H : Heap) (locs : List Loc) (ls : Array Slot), xG A L g s σ H locs → lv_has ls 3 [(0, .ref L.1), (1, .int x1), (2, .int x2)] → k4 σ x1 x2 = some (σ', r) → W p l e R s m args below meth c H locs 0 0 (xZ below L g A s args σ' (some (.int r)) 0 0) (F0 m 4 ls [])) (σ : xS) (x1 : Int32) (x2 : Int32) (H : Heap) (locs : List Loc) (ls : Array Slot) (hG : xG A L g s σ H locs) (hl : lv_has ls 3 [(0, .ref L.1), (1, .int x1), (2, .int x2)]) (hF : fX_allGone_b34 N k4 σ x1 x2 = some (σ', r)) : W p l e R s m args below meth c H locs 0 0 (xZ below L g A s args σ' (some (.int r)) 0 0) (F0 m 34 ls []) := by
  have hx := C0.1
  have hb := C0.2.1
  have hst := C0.2.2.2.2.2.2.2.2.2.2
  unfold fX_allGone_b34 at hF
  refine w_iinc hx hb dX0_allGone_34 hl 2 rfl (v := 1) (by decide) (by decide) hF (fun x_10 ls hl hF => ?_)
  have hl : lv_has ls 3 [(2, .int x_10), (0, .ref L.1), (1, .int x1)] := hl
  refine lv_goto (tgt := 4) hx hb dX0_allGone_37 (by decide) ?_
  exact hk4 _ _ _ H locs ls hG (lv_sub hl [1, 2, 0] rfl) hF
theorem bX_allGone_4 {N : Nat} (C0 : xCx p l s m args meth c RX0 cX0_allGone 3 (some .int) L A) (hRo : 2 ≤ R.frames ∧ 46 ≤ R.locals) {σ' : xS} {r : Int32} : ∀ (n : Nat) (σ : xS) (x1 : Int32) (x2 : Int32) (H : Heap) (locs : List Loc) (ls : Array Slot), xG A L g s σ H locs → lv_has ls 3 [(0, .ref L.1), (1, .int x1), (2, .int x2)] → fX_allGone_b4 N n σ x1 x2 = some (σ', r) → W p l e R s m args below meth c H locs 0 0 (xZ below L g A s args σ' (some (.int r)) 0 0) (F0 m 4 ls []) := by
  have hx := C0.1
  have hb := C0.2.1
  have hst := C0.2.2.2.2.2.2.2.2.2.2
  intro n
  induction n with
  | zero => intro σ x1 x2 H locs ls hG hl hF; cases hF
  | succ n ih =>
    intro σ x1 x2 H locs ls hG hl hF
    unfold fX_allGone_b4 at hF
    refine lv_iload_n hx hb dX0_allGone_4 rfl (lv_at hl 2 rfl) ?_
    refine lv_aload_n hx hb dX0_allGone_5 rfl (lv_at hl 0 rfl) ?_
    refine x_geti C0 hG 1 (by decide) rfl q175 dX0_allGone_6 hF (fun x_1 hF => ?_)
    refine lv_icmp_ge (tgt := 40) hx hb dX0_allGone_9 (by decide) (fun c_2 => ?_) (fun c_2 => ?_)
    · have hF := ifp hF c_2
      refine lv_iload_n hx hb dX0_allGone_40 rfl (lv_at hl 1 rfl) ?_
      exact x_iret C0 hG ⟨by omega, by omega⟩ dX0_allGone_41 hF
    · have hF := ifn hF c_2
      refine lv_aload_n hx hb dX0_allGone_12 rfl (lv_at hl 0 rfl) ?_
      refine lv_aload_n hx hb dX0_allGone_13 rfl (lv_at hl 0 rfl) ?_
      refine x_geta C0 hG 0 (by decide) rfl (by decide) q174 dX0_allGone_14 ?_
      refine lv_iload_n hx hb dX0_allGone_17 rfl (lv_at hl 2 rfl) ?_
      refine x_swld C0 hG dX0_allGone_18 hF (fun u_3 hF => ?_)
      refine x_swg C0 hG 3 (by decide) q335 dX0_allGone_19 hF (fun x_4 hF => ?_)
      obtain ⟨σ_5, r_6, e_7, hF⟩ := obi_of hF
      refine x_cVi0 (As := [.int x_4]) (rest := []) C0 hG (mtX_goneAt l hst e_7) (lw_V q930 q932 qs35 q100 q933) yd_X0_goneAt (x_rc0 C0 hG) ⟨by omega, by omega⟩ ⟨by omega, by omega⟩ rfl rfl hl.1 (Nat.le_of_ble_eq_true rfl) dX0_allGone_22 (fun H locs hG => ?_)
      refine lv_if_lt (tgt := 34) hx hb dX0_allGone_25 (by decide) (fun c_8 => ?_) (fun c_8 => ?_)
      · have hF := ifp hF c_8
        exact bX_allGone_34 C0 hRo ih _ _ _ H locs ls hG (lv_sub hl [0, 1, 2] rfl) hF
      · have hF := ifn hF c_8
        refine lv_iload_n hx hb dX0_allGone_28 rfl (lv_at hl 1 rfl) ?_
        refine lv_iconst (v := 1) hx hb dX0_allGone_29 (by decide) ?_
        refine lv_iload_n hx hb dX0_allGone_30 rfl (lv_at hl 2 rfl) ?_
        refine lv_ishl hx hb dX0_allGone_31 ?_
        refine lv_ior hx hb dX0_allGone_32 ?_
        refine w_nm hF (fun x_9 hF => ?_)
        refine lv_istore_n (lv' := [(1, .int x_9), (0, .ref L.1), (2, .int x2)]) hx hb dX0_allGone_33 rfl hl (by decide) rfl (fun ls hl => ?_)
        exact bX_allGone_34 C0 hRo ih _ _ _ H locs ls hG (lv_sub hl [1, 0, 2] rfl) hF
theorem bX_allGone_e {N : Nat} (C0 : xCx p l s m args meth c RX0 cX0_allGone 3 (some .int) L A) (hRo : 2 ≤ R.frames ∧ 46 ≤ R.locals) {σ' : xS} {r : Int32} (σ : xS) (H : Heap) (locs : List Loc) (ls : Array Slot) (hG : xG A L g s σ H locs) (hl : lv_has ls 3 [(0, .ref L.1)]) (hF : fX_allGone N σ = some (σ', r)) : W p l e R s m args below meth c H locs 0 0 (xZ below L g A s args σ' (some (.int r)) 0 0) (F0 m 0 ls []) := by
  have hx := C0.1
  have hb := C0.2.1
  have hst := C0.2.2.2.2.2.2.2.2.2.2
  unfold fX_allGone at hF
  refine lv_iconst (v := 0) hx hb dX0_allGone_0 (by decide) ?_
  refine lv_istore_n (lv' := [(1, .int 0), (0, .ref L.1)]) hx hb dX0_allGone_1 rfl hl (by decide) rfl (fun ls hl => ?_)
  refine lv_iconst (v := 0) hx hb dX0_allGone_2 (by decide) ?_
  refine lv_istore_n (lv' := [(2, .int 0), (1, .int 0), (0, .ref L.1)]) hx hb dX0_allGone_3 rfl hl (by decide) rfl (fun ls hl => ?_)
  exact bX_allGone_4 C0 hRo N _ _ _ H locs ls hG (lv_sub hl [2, 1, 0] rfl) hF
theorem mtX_allGone (l : Launch) (hst : l.stackTraces = false) {N : Nat} {L : xL} {g : xg} {σ σ' : xS} {r : Int32} (hF : fX_allGone N σ = some (σ', r)) : xMet l yX0_allGone cX0_allGone 3 (some .int) (2) (46) 0 0 [.ref L.1] L g σ (some (.int r)) σ' := by
  refine x_head hst (by decide) rfl ?_
  intro p e s m below meth c A C0 hG
  have hl := lv_entry ([.ref L.1]) (n := 3) (Nat.le_of_ble_eq_true rfl)
  rw [lg_entry_eq]
  generalize (lg_sl ([.ref L.1]) ++ List.replicate (3 - (lg_sl ([.ref L.1])).length) Slot.unset).toArray = ls at hl ⊢
  have hl : lv_has ls 3 [(0, .ref L.1)] := hl
  exact bX_allGone_e C0 ⟨Nat.le_refl _, Nat.le_refl _⟩ _ _ [] ls hG hl hF
def fX_isEnough (N : Nat) (σ : xS) (a0 : Int32) : Option (xS × Int32) :=
  if a0 = 0 then (
    obi (fX_allGone N σ) fun σ_2 r_3 =>
    if r_3 = 0 then (
      chb 1 (some (σ_2, 1)))
    else (
      chb 0 (some (σ_2, 0))))
  else (
    obi (fX_firstSeen N σ) fun σ_6 r_7 =>
    if r_7 = (-2) then (
      chb 1 (some (σ_6, 1)))
    else (
      chb 0 (some (σ_6, 0))))
theorem bX_isEnough_e {N : Nat} (C0 : xCx p l s m args meth c RX0 cX0_isEnough 2 (some .boolean) L A) (hRo : 4 ≤ R.frames ∧ 87 ≤ R.locals) {σ' : xS} {r : Int32} (σ : xS) (a0 : Int32) (H : Heap) (locs : List Loc) (ls : Array Slot) (hG : xG A L g s σ H locs) (hl : lv_has ls 2 [(0, .ref L.1), (1, .int a0)]) (hF : fX_isEnough N σ a0 = some (σ', r)) : W p l e R s m args below meth c H locs 0 0 (xZ below L g A s args σ' (some (.int r)) 0 0) (F0 m 0 ls []) := by
  have hx := C0.1
  have hb := C0.2.1
  have hst := C0.2.2.2.2.2.2.2.2.2.2
  unfold fX_isEnough at hF
  refine lv_iload_n hx hb dX0_isEnough_0 rfl (lv_at hl 1 rfl) ?_
  refine lv_if_eq (tgt := 21) hx hb dX0_isEnough_1 (by decide) (fun c_1 => ?_) (fun c_1 => ?_)
  · have hF := ifp hF c_1
    refine lv_aload_n hx hb dX0_isEnough_21 rfl (lv_at hl 0 rfl) ?_
    obtain ⟨σ_2, r_3, e_4, hF⟩ := obi_of hF
    refine x_cVi0 (As := []) (rest := []) C0 hG (mtX_allGone l hst e_4) (lw_V q926 q928 qs34 q100 q929) yd_X0_allGone (x_rc0 C0 hG) ⟨by omega, by omega⟩ ⟨by omega, by omega⟩ rfl rfl hl.1 (Nat.le_of_ble_eq_true rfl) dX0_isEnough_22 (fun H locs hG => ?_)
    refine lv_if_ne (tgt := 32) hx hb dX0_isEnough_25 (by decide) (fun c_5 => ?_) (fun c_5 => ?_)
    · have hF := ifn hF c_5
      refine lv_iconst (v := 0) hx hb dX0_isEnough_32 (by decide) ?_
      exact x_zret C0 hG ⟨by omega, by omega⟩ dX0_isEnough_33 hF
    · have hF := ifp hF c_5
      refine lv_iconst (v := 1) hx hb dX0_isEnough_28 (by decide) ?_
      refine lv_goto (tgt := 33) hx hb dX0_isEnough_29 (by decide) ?_
      exact x_zret C0 hG ⟨by omega, by omega⟩ dX0_isEnough_33 hF
  · have hF := ifn hF c_1
    refine lv_aload_n hx hb dX0_isEnough_4 rfl (lv_at hl 0 rfl) ?_
    obtain ⟨σ_6, r_7, e_8, hF⟩ := obi_of hF
    refine x_cVi0 (As := []) (rest := []) C0 hG (mtX_firstSeen l hst e_8) (lw_V q894 q896 qs29 q100 q897) yd_X0_firstSeen (x_rc0 C0 hG) ⟨by omega, by omega⟩ ⟨by omega, by omega⟩ rfl rfl hl.1 (Nat.le_of_ble_eq_true rfl) dX0_isEnough_5 (fun H locs hG => ?_)
    refine lv_bipush (v := (-2)) hx hb dX0_isEnough_8 (by decide) ?_
    refine lv_icmp_ne (tgt := 17) hx hb dX0_isEnough_10 (by decide) (fun c_9 => ?_) (fun c_9 => ?_)
    · have hF := ifn hF c_9
      refine lv_iconst (v := 0) hx hb dX0_isEnough_17 (by decide) ?_
      refine lv_goto (tgt := 33) hx hb dX0_isEnough_18 (by decide) ?_
      exact x_zret C0 hG ⟨by omega, by omega⟩ dX0_isEnough_33 hF
    · have hF := ifp hF c_9
      refine lv_iconst (v := 1) hx hb dX0_isEnough_13 (by decide) ?_
      refine lv_goto (tgt := 33) hx hb dX0_isEnough_14 (by decide) ?_
      exact x_zret C0 hG ⟨by omega, by omega⟩ dX0_isEnough_33 hF
theorem mtX_isEnough (l : Launch) (hst : l.stackTraces = false) {N : Nat} {L : xL} {g : xg} {σ σ' : xS} {r : Int32} {a0 : Int32} (hF : fX_isEnough N σ a0 = some (σ', r)) : xMet l yX0_isEnough cX0_isEnough 2 (some .boolean) (4) (87) 0 0 [.ref L.1, .int a0] L g σ (some (.int r)) σ' := by
  refine x_head hst (by decide) rfl ?_
  intro p e s m below meth c A C0 hG
  have hl := lv_entry ([.ref L.1, .int a0]) (n := 2) (Nat.le_of_ble_eq_true rfl)
  rw [lg_entry_eq]
  generalize (lg_sl ([.ref L.1, .int a0]) ++ List.replicate (2 - (lg_sl ([.ref L.1, .int a0])).length) Slot.unset).toArray = ls at hl ⊢
  have hl : lv_has ls 2 [(0, .ref L.1), (1, .int a0)] := hl
  exact bX_isEnough_e C0 ⟨Nat.le_refl _, Nat.le_refl _⟩ _ _ _ [] ls hG hl hF
def fX_choose_b134 (N : Nat) (rc : xS → Int32 → Int32 → Int32 → Option (xS × Int32)) (k24 : xS → Int32 → Int32 → Int32 → Int32 → Option (xS × Int32)) (σ : xS) (x2 : Int32) (x3 : Int32) (x4 : Int32) (x5 : Int32) : Option (xS × Int32) :=
  nmv (x5 + 1) fun x_16 =>
  k24 σ x2 x3 x4 x_16
def fX_choose_b75 (N : Nat) (rc : xS → Int32 → Int32 → Int32 → Option (xS × Int32)) (k24 : xS → Int32 → Int32 → Int32 → Int32 → Option (xS × Int32)) (σ : xS) (y0 : Int32) (y1 : Int32) (x2 : Int32) (x3 : Int32) (x4 : Int32) (x5 : Int32) : Option (xS × Int32) :=
  chk y1 60 <| nmv (xSj σ 12 y1.toNatClampNeg y0) fun σ_17 =>
  nmv (xI σ_17 20) fun x_18 =>
  nmv (xSi σ_17 20 (x_18 ||| (1 <<< (x5 &&& 31)))) fun σ_19 =>
  obi (rc σ_19 (x5 + 1) (x2 - 1) x3) fun σ_20 r_21 =>
  chk x5 60 <| nmv (xSj σ_20 12 x5.toNatClampNeg x4) fun σ_23 =>
  if r_21 = 0 then (
    nmv (xI σ_23 20) fun x_25 =>
    nmv (xSi σ_23 20 (x_25 &&& ((1 <<< (x5 &&& 31)) ^^^ (-1)))) fun σ_26 =>
    fX_choose_b134 N rc k24 σ_26 x2 x3 x4 x5)
  else (
    chb 1 (some (σ_23, 1)))
def fX_choose_b24 (N : Nat) (rc : xS → Int32 → Int32 → Int32 → Option (xS × Int32)) : Nat → xS → Int32 → Int32 → Int32 → Int32 → Option (xS × Int32)
  | 0, _, _, _, _, _ => none
  | n + 1, σ, x2, x3, x4, x5 =>
    nmv (xI σ 15) fun x_6 =>
    if x_6 ≤ x5 then (
      chb 0 (some (σ, 0)))
    else (
      chk x5 60 <| nmv (xJ σ 12 x5.toNatClampNeg) fun x_8 =>
      if x_8 = x4 then (
        nmv (xI σ 20) fun x_10 =>
        obi (fX_has N σ x_10 x5) fun σ_11 r_12 =>
        if r_12 = 0 then (
          if x3 = 0 then (
            fX_choose_b75 N rc (fX_choose_b24 N rc n) σ_11 0 x5 x2 x3 x4 x5)
          else (
            fX_choose_b75 N rc (fX_choose_b24 N rc n) σ_11 4 x5 x2 x3 x4 x5))
        else (
          fX_choose_b134 N rc (fX_choose_b24 N rc n) σ_11 x2 x3 x4 x5))
      else (
        fX_choose_b134 N rc (fX_choose_b24 N rc n) σ x2 x3 x4 x5))
def fX_choose_b19 (N : Nat) (rc : xS → Int32 → Int32 → Int32 → Option (xS × Int32)) (σ : xS) (y0 : Int32) (x1 : Int32) (x2 : Int32) (x3 : Int32) : Option (xS × Int32) :=
  fX_choose_b24 N rc N σ x2 x3 y0 x1
def fX_choose_e (N : Nat) (rc : xS → Int32 → Int32 → Int32 → Option (xS × Int32)) (σ : xS) (a0 : Int32) (a1 : Int32) (a2 : Int32) : Option (xS × Int32) :=
  if a1 = 0 then (
    obi (fX_isEnough N σ a2) fun σ_3 r_4 =>
    chb r_4 (some (σ_3, r_4)))
  else (
    if a2 = 0 then (
      fX_choose_b19 N rc σ 1 a0 a1 a2)
    else (
      fX_choose_b19 N rc σ 0 a0 a1 a2))
def fX_choose (N : Nat) : Nat → xS → Int32 → Int32 → Int32 → Option (xS × Int32)
  | 0, _, _, _, _ => none
  | d + 1, σ, a0, a1, a2 => fX_choose_e N (fX_choose N d) σ a0 a1 a2
theorem bX_choose_134 {N : Nat} {rc : xS → Int32 → Int32 → Int32 → Option (xS × Int32)} {fr lo : Nat} (C0 : xCx p l s m args meth c RX0 cX0_choose 7 (some .boolean) L A) (hRo : fr + 5 ≤ R.frames ∧ lo + 108 ≤ R.locals) (hrc : ∀ {σ σ1 : xS} {a0 a1 a2 : Int32} {r : Int32}, rc σ a0 a1 a2 = some (σ1, r) → xMet l yX0_choose cX0_choose 7 (some .boolean) (fr) (lo) 0 0 [.ref L.1, .int a0, .int a1, .int a2] L g σ (some (.int r)) σ1) {σ' : xS} {r : Int32} {k24 : xS → Int32 → Int32 → Int32 → Int32 → Option (xS × Int32)} (hk24 : ∀ (σ : xS) (x2 : Int32) (x3 : Int32) (x4 : Int32) (x5 : Int32) (H : Heap) (locs : List Loc) (ls : Array Slot), xG A L g s σ H locs → lv_has ls 7 [(0, .ref L.1), (2, .int x2), (3, .int x3), (4, .int x4), (5, .int x5)] → k24 σ x2 x3 x4 x5 = some (σ', r) → W p l e R s m args below meth c H locs 0 0 (xZ below L g A s args σ' (some (.int r)) 0 0) (F0 m 24 ls [])) (σ : xS) (x2 : Int32) (x3 : Int32) (x4 : Int32) (x5 : Int32) (H : Heap) (locs : List Loc) (ls : Array Slot) (hG : xG A L g s σ H locs) (hl : lv_has ls 7 [(0, .ref L.1), (2, .int x2), (3, .int x3), (4, .int x4), (5, .int x5)]) (hF : fX_choose_b134 N rc k24 σ x2 x3 x4 x5 = some (σ', r)) : W p l e R s m args below meth c H locs 0 0 (xZ below L g A s args σ' (some (.int r)) 0 0) (F0 m 134 ls []) := by
  have hx := C0.1
  have hb := C0.2.1
  have hst := C0.2.2.2.2.2.2.2.2.2.2
  unfold fX_choose_b134 at hF
  refine w_iinc hx hb dX0_choose_134 hl 4 rfl (v := 1) (by decide) (by decide) hF (fun x_16 ls hl hF => ?_)
  have hl : lv_has ls 7 [(5, .int x_16), (0, .ref L.1), (2, .int x2), (3, .int x3), (4, .int x4)] := hl
  refine lv_goto (tgt := 24) hx hb dX0_choose_137 (by decide) ?_
  exact hk24 _ _ _ _ _ H locs ls hG (lv_sub hl [1, 2, 3, 4, 0] rfl) hF
theorem bX_choose_75 {N : Nat} {rc : xS → Int32 → Int32 → Int32 → Option (xS × Int32)} {fr lo : Nat} (C0 : xCx p l s m args meth c RX0 cX0_choose 7 (some .boolean) L A) (hRo : fr + 5 ≤ R.frames ∧ lo + 108 ≤ R.locals) (hrc : ∀ {σ σ1 : xS} {a0 a1 a2 : Int32} {r : Int32}, rc σ a0 a1 a2 = some (σ1, r) → xMet l yX0_choose cX0_choose 7 (some .boolean) (fr) (lo) 0 0 [.ref L.1, .int a0, .int a1, .int a2] L g σ (some (.int r)) σ1) {σ' : xS} {r : Int32} {k24 : xS → Int32 → Int32 → Int32 → Int32 → Option (xS × Int32)} (hk24 : ∀ (σ : xS) (x2 : Int32) (x3 : Int32) (x4 : Int32) (x5 : Int32) (H : Heap) (locs : List Loc) (ls : Array Slot), xG A L g s σ H locs → lv_has ls 7 [(0, .ref L.1), (2, .int x2), (3, .int x3), (4, .int x4), (5, .int x5)] → k24 σ x2 x3 x4 x5 = some (σ', r) → W p l e R s m args below meth c H locs 0 0 (xZ below L g A s args σ' (some (.int r)) 0 0) (F0 m 24 ls [])) (σ : xS) (y0 : Int32) (y1 : Int32) (x2 : Int32) (x3 : Int32) (x4 : Int32) (x5 : Int32) (H : Heap) (locs : List Loc) (ls : Array Slot) (hG : xG A L g s σ H locs) (hl : lv_has ls 7 [(0, .ref L.1), (2, .int x2), (3, .int x3), (4, .int x4), (5, .int x5)]) (hF : fX_choose_b75 N rc k24 σ y0 y1 x2 x3 x4 x5 = some (σ', r)) : W p l e R s m args below meth c H locs 0 0 (xZ below L g A s args σ' (some (.int r)) 0 0) (F0 m 75 ls [.int y0, .int y1, .ref (L.2.1 12)]) := by
  have hx := C0.1
  have hb := C0.2.1
  have hst := C0.2.2.2.2.2.2.2.2.2.2
  unfold fX_choose_b75 at hF
  refine x_st C0 hG 12 ⟨by decide, rfl, rfl⟩ dX0_choose_75 hF (fun σ_17 H locs hG hF => ?_)
  refine lv_aload_n hx hb dX0_choose_76 rfl (lv_at hl 0 rfl) ?_
  refine lv_dup hx hb dX0_choose_77 rfl ?_
  refine x_geti C0 hG 20 (by decide) rfl q196 dX0_choose_78 hF (fun x_18 hF => ?_)
  refine lv_iconst (v := 1) hx hb dX0_choose_81 (by decide) ?_
  refine lv_iload hx hb dX0_choose_82 (lv_at hl 4 rfl) ?_
  refine lv_ishl hx hb dX0_choose_84 ?_
  refine lv_ior hx hb dX0_choose_85 ?_
  refine x_puti C0 hG 20 (by decide) rfl q196 dX0_choose_86 (Or.inl (by decide)) hF (fun σ_19 H locs hG hF => ?_)
  refine lv_aload_n hx hb dX0_choose_89 rfl (lv_at hl 0 rfl) ?_
  refine lv_iload hx hb dX0_choose_90 (lv_at hl 4 rfl) ?_
  refine lv_iconst (v := 1) hx hb dX0_choose_92 (by decide) ?_
  refine lv_iadd hx hb dX0_choose_93 ?_
  refine lv_iload_n hx hb dX0_choose_94 rfl (lv_at hl 1 rfl) ?_
  refine lv_iconst (v := 1) hx hb dX0_choose_95 (by decide) ?_
  refine lv_isub hx hb dX0_choose_96 ?_
  refine lv_iload_n hx hb dX0_choose_97 rfl (lv_at hl 2 rfl) ?_
  obtain ⟨σ_20, r_21, e_22, hF⟩ := obi_of hF
  refine x_cVi0 (As := [.int (x5 + 1), .int (x2 - 1), .int x3]) (rest := []) C0 hG (hrc e_22) (lw_V q949 q951 qs37 q100 q952) yd_X0_choose (x_rc0 C0 hG) ⟨by omega, by omega⟩ ⟨by omega, by omega⟩ rfl rfl hl.1 (Nat.le_of_ble_eq_true rfl) dX0_choose_98 (fun H locs hG => ?_)
  refine lv_istore (lv' := [(6, .int r_21), (0, .ref L.1), (2, .int x2), (3, .int x3), (4, .int x4), (5, .int x5)]) hx hb dX0_choose_101 hl (by decide) rfl (fun ls hl => ?_)
  refine lv_aload_n hx hb dX0_choose_103 rfl (lv_at hl 1 rfl) ?_
  refine x_geta C0 hG 12 (by decide) rfl (by decide) q188 dX0_choose_104 ?_
  refine lv_iload hx hb dX0_choose_107 (lv_at hl 5 rfl) ?_
  refine lv_iload hx hb dX0_choose_109 (lv_at hl 4 rfl) ?_
  refine x_st C0 hG 12 ⟨by decide, rfl, rfl⟩ dX0_choose_111 hF (fun σ_23 H locs hG hF => ?_)
  refine lv_iload hx hb dX0_choose_112 (lv_at hl 0 rfl) ?_
  refine lv_if_eq (tgt := 119) hx hb dX0_choose_114 (by decide) (fun c_24 => ?_) (fun c_24 => ?_)
  · have hF := ifp hF c_24
    refine lv_aload_n hx hb dX0_choose_119 rfl (lv_at hl 1 rfl) ?_
    refine lv_dup hx hb dX0_choose_120 rfl ?_
    refine x_geti C0 hG 20 (by decide) rfl q196 dX0_choose_121 hF (fun x_25 hF => ?_)
    refine lv_iconst (v := 1) hx hb dX0_choose_124 (by decide) ?_
    refine lv_iload hx hb dX0_choose_125 (lv_at hl 5 rfl) ?_
    refine lv_ishl hx hb dX0_choose_127 ?_
    refine lv_iconst (v := (-1)) hx hb dX0_choose_128 (by decide) ?_
    refine lv_ixor hx hb dX0_choose_129 ?_
    refine lv_iand hx hb dX0_choose_130 ?_
    refine x_puti C0 hG 20 (by decide) rfl q196 dX0_choose_131 (Or.inl (by decide)) hF (fun σ_26 H locs hG hF => ?_)
    exact bX_choose_134 C0 hRo hrc hk24 _ _ _ _ _ H locs ls hG (lv_sub hl [1, 2, 3, 4, 5] rfl) hF
  · have hF := ifn hF c_24
    refine lv_iconst (v := 1) hx hb dX0_choose_117 (by decide) ?_
    exact x_zret C0 hG ⟨by omega, by omega⟩ dX0_choose_118 hF
theorem bX_choose_24 {N : Nat} {rc : xS → Int32 → Int32 → Int32 → Option (xS × Int32)} {fr lo : Nat} (C0 : xCx p l s m args meth c RX0 cX0_choose 7 (some .boolean) L A) (hRo : fr + 5 ≤ R.frames ∧ lo + 108 ≤ R.locals) (hrc : ∀ {σ σ1 : xS} {a0 a1 a2 : Int32} {r : Int32}, rc σ a0 a1 a2 = some (σ1, r) → xMet l yX0_choose cX0_choose 7 (some .boolean) (fr) (lo) 0 0 [.ref L.1, .int a0, .int a1, .int a2] L g σ (some (.int r)) σ1) {σ' : xS} {r : Int32} : ∀ (n : Nat) (σ : xS) (x2 : Int32) (x3 : Int32) (x4 : Int32) (x5 : Int32) (H : Heap) (locs : List Loc) (ls : Array Slot), xG A L g s σ H locs → lv_has ls 7 [(0, .ref L.1), (2, .int x2), (3, .int x3), (4, .int x4), (5, .int x5)] → fX_choose_b24 N rc n σ x2 x3 x4 x5 = some (σ', r) → W p l e R s m args below meth c H locs 0 0 (xZ below L g A s args σ' (some (.int r)) 0 0) (F0 m 24 ls []) := by
  have hx := C0.1
  have hb := C0.2.1
  have hst := C0.2.2.2.2.2.2.2.2.2.2
  intro n
  induction n with
  | zero => intro σ x2 x3 x4 x5 H locs ls hG hl hF; cases hF
  | succ n ih =>
    intro σ x2 x3 x4 x5 H locs ls hG hl hF
    unfold fX_choose_b24 at hF
    refine lv_iload hx hb dX0_choose_24 (lv_at hl 4 rfl) ?_
    refine lv_aload_n hx hb dX0_choose_26 rfl (lv_at hl 0 rfl) ?_
    refine x_geti C0 hG 15 (by decide) rfl q191 dX0_choose_27 hF (fun x_6 hF => ?_)
    refine lv_icmp_ge (tgt := 140) hx hb dX0_choose_30 (by decide) (fun c_7 => ?_) (fun c_7 => ?_)
    · have hF := ifp hF c_7
      refine lv_iconst (v := 0) hx hb dX0_choose_140 (by decide) ?_
      exact x_zret C0 hG ⟨by omega, by omega⟩ dX0_choose_141 hF
    · have hF := ifn hF c_7
      refine lv_aload_n hx hb dX0_choose_33 rfl (lv_at hl 0 rfl) ?_
      refine x_geta C0 hG 12 (by decide) rfl (by decide) q188 dX0_choose_34 ?_
      refine lv_iload hx hb dX0_choose_37 (lv_at hl 4 rfl) ?_
      refine x_ld C0 hG 12 ⟨by decide, rfl, rfl⟩ dX0_choose_39 hF (fun x_8 hF => ?_)
      refine lv_iload hx hb dX0_choose_40 (lv_at hl 3 rfl) ?_
      refine lv_icmp_ne (tgt := 134) hx hb dX0_choose_42 (by decide) (fun c_9 => ?_) (fun c_9 => ?_)
      · have hF := ifn hF c_9
        exact bX_choose_134 C0 hRo hrc ih _ _ _ _ _ H locs ls hG (lv_sub hl [0, 1, 2, 3, 4] rfl) hF
      · have hF := ifp hF c_9
        refine lv_aload_n hx hb dX0_choose_45 rfl (lv_at hl 0 rfl) ?_
        refine x_geti C0 hG 20 (by decide) rfl q196 dX0_choose_46 hF (fun x_10 hF => ?_)
        refine lv_iload hx hb dX0_choose_49 (lv_at hl 4 rfl) ?_
        obtain ⟨σ_11, r_12, e_13, hF⟩ := obi_of hF
        refine x_cSi0 (As := [.int x_10, .int x5]) (rest := []) C0 hG (mtX_has l hst e_13) (lw_S q957 q958 q100 q959) yd_X0_has ⟨by omega, by omega⟩ ⟨by omega, by omega⟩ rfl rfl hl.1 (Nat.le_of_ble_eq_true rfl) dX0_choose_51 (fun H locs hG => ?_)
        refine lv_if_eq (tgt := 60) hx hb dX0_choose_54 (by decide) (fun c_14 => ?_) (fun c_14 => ?_)
        · have hF := ifp hF c_14
          refine lv_aload_n hx hb dX0_choose_60 rfl (lv_at hl 0 rfl) ?_
          refine x_geta C0 hG 12 (by decide) rfl (by decide) q188 dX0_choose_61 ?_
          refine lv_iload hx hb dX0_choose_64 (lv_at hl 4 rfl) ?_
          refine lv_iload_n hx hb dX0_choose_66 rfl (lv_at hl 2 rfl) ?_
          refine lv_if_eq (tgt := 74) hx hb dX0_choose_67 (by decide) (fun c_15 => ?_) (fun c_15 => ?_)
          · have hF := ifp hF c_15
            refine lv_iconst (v := 0) hx hb dX0_choose_74 (by decide) ?_
            exact bX_choose_75 C0 hRo hrc ih _ _ _ _ _ _ _ H locs ls hG (lv_sub hl [0, 1, 2, 3, 4] rfl) hF
          · have hF := ifn hF c_15
            refine lv_iconst (v := 4) hx hb dX0_choose_70 (by decide) ?_
            refine lv_goto (tgt := 75) hx hb dX0_choose_71 (by decide) ?_
            exact bX_choose_75 C0 hRo hrc ih _ _ _ _ _ _ _ H locs ls hG (lv_sub hl [0, 1, 2, 3, 4] rfl) hF
        · have hF := ifn hF c_14
          refine lv_goto (tgt := 134) hx hb dX0_choose_57 (by decide) ?_
          exact bX_choose_134 C0 hRo hrc ih _ _ _ _ _ H locs ls hG (lv_sub hl [0, 1, 2, 3, 4] rfl) hF
theorem bX_choose_19 {N : Nat} {rc : xS → Int32 → Int32 → Int32 → Option (xS × Int32)} {fr lo : Nat} (C0 : xCx p l s m args meth c RX0 cX0_choose 7 (some .boolean) L A) (hRo : fr + 5 ≤ R.frames ∧ lo + 108 ≤ R.locals) (hrc : ∀ {σ σ1 : xS} {a0 a1 a2 : Int32} {r : Int32}, rc σ a0 a1 a2 = some (σ1, r) → xMet l yX0_choose cX0_choose 7 (some .boolean) (fr) (lo) 0 0 [.ref L.1, .int a0, .int a1, .int a2] L g σ (some (.int r)) σ1) {σ' : xS} {r : Int32} (σ : xS) (y0 : Int32) (x1 : Int32) (x2 : Int32) (x3 : Int32) (H : Heap) (locs : List Loc) (ls : Array Slot) (hG : xG A L g s σ H locs) (hl : lv_has ls 7 [(0, .ref L.1), (1, .int x1), (2, .int x2), (3, .int x3)]) (hF : fX_choose_b19 N rc σ y0 x1 x2 x3 = some (σ', r)) : W p l e R s m args below meth c H locs 0 0 (xZ below L g A s args σ' (some (.int r)) 0 0) (F0 m 19 ls [.int y0]) := by
  have hx := C0.1
  have hb := C0.2.1
  have hst := C0.2.2.2.2.2.2.2.2.2.2
  unfold fX_choose_b19 at hF
  refine lv_istore (lv' := [(4, .int y0), (0, .ref L.1), (1, .int x1), (2, .int x2), (3, .int x3)]) hx hb dX0_choose_19 hl (by decide) rfl (fun ls hl => ?_)
  refine lv_iload_n hx hb dX0_choose_21 rfl (lv_at hl 2 rfl) ?_
  refine lv_istore (lv' := [(5, .int x1), (4, .int y0), (0, .ref L.1), (1, .int x1), (2, .int x2), (3, .int x3)]) hx hb dX0_choose_22 hl (by decide) rfl (fun ls hl => ?_)
  exact bX_choose_24 C0 hRo hrc N _ _ _ _ _ H locs ls hG (lv_sub hl [2, 4, 5, 1, 0] rfl) hF
theorem bX_choose_e {N : Nat} {rc : xS → Int32 → Int32 → Int32 → Option (xS × Int32)} {fr lo : Nat} (C0 : xCx p l s m args meth c RX0 cX0_choose 7 (some .boolean) L A) (hRo : fr + 5 ≤ R.frames ∧ lo + 108 ≤ R.locals) (hrc : ∀ {σ σ1 : xS} {a0 a1 a2 : Int32} {r : Int32}, rc σ a0 a1 a2 = some (σ1, r) → xMet l yX0_choose cX0_choose 7 (some .boolean) (fr) (lo) 0 0 [.ref L.1, .int a0, .int a1, .int a2] L g σ (some (.int r)) σ1) {σ' : xS} {r : Int32} (σ : xS) (a0 : Int32) (a1 : Int32) (a2 : Int32) (H : Heap) (locs : List Loc) (ls : Array Slot) (hG : xG A L g s σ H locs) (hl : lv_has ls 7 [(0, .ref L.1), (1, .int a0), (2, .int a1), (3, .int a2)]) (hF : fX_choose_e N rc σ a0 a1 a2 = some (σ', r)) : W p l e R s m args below meth c H locs 0 0 (xZ below L g A s args σ' (some (.int r)) 0 0) (F0 m 0 ls []) := by
  have hx := C0.1
  have hb := C0.2.1
  have hst := C0.2.2.2.2.2.2.2.2.2.2
  unfold fX_choose_e at hF
  refine lv_iload_n hx hb dX0_choose_0 rfl (lv_at hl 2 rfl) ?_
  refine lv_if_ne (tgt := 10) hx hb dX0_choose_1 (by decide) (fun c_1 => ?_) (fun c_1 => ?_)
  · have hF := ifn hF c_1
    refine lv_iload_n hx hb dX0_choose_10 rfl (lv_at hl 3 rfl) ?_
    refine lv_if_eq (tgt := 18) hx hb dX0_choose_11 (by decide) (fun c_2 => ?_) (fun c_2 => ?_)
    · have hF := ifp hF c_2
      refine lv_iconst (v := 1) hx hb dX0_choose_18 (by decide) ?_
      exact bX_choose_19 C0 hRo hrc _ _ _ _ _ H locs ls hG (lv_sub hl [0, 1, 2, 3] rfl) hF
    · have hF := ifn hF c_2
      refine lv_iconst (v := 0) hx hb dX0_choose_14 (by decide) ?_
      refine lv_goto (tgt := 19) hx hb dX0_choose_15 (by decide) ?_
      exact bX_choose_19 C0 hRo hrc _ _ _ _ _ H locs ls hG (lv_sub hl [0, 1, 2, 3] rfl) hF
  · have hF := ifp hF c_1
    refine lv_aload_n hx hb dX0_choose_4 rfl (lv_at hl 0 rfl) ?_
    refine lv_iload_n hx hb dX0_choose_5 rfl (lv_at hl 3 rfl) ?_
    obtain ⟨σ_3, r_4, e_5, hF⟩ := obi_of hF
    refine x_cVi0 (As := [.int a2]) (rest := []) C0 hG (mtX_isEnough l hst e_5) (lw_V q953 q955 qs38 q100 q956) yd_X0_isEnough (x_rc0 C0 hG) ⟨by omega, by omega⟩ ⟨by omega, by omega⟩ rfl rfl hl.1 (Nat.le_of_ble_eq_true rfl) dX0_choose_6 (fun H locs hG => ?_)
    exact x_zret C0 hG ⟨by omega, by omega⟩ dX0_choose_9 hF
theorem mtX_choose_e (l : Launch) (hst : l.stackTraces = false) {N : Nat} {L : xL} {g : xg} {rc : xS → Int32 → Int32 → Int32 → Option (xS × Int32)} {fr lo : Nat} (hrc : ∀ {σ σ1 : xS} {a0 a1 a2 : Int32} {r : Int32}, rc σ a0 a1 a2 = some (σ1, r) → xMet l yX0_choose cX0_choose 7 (some .boolean) (fr) (lo) 0 0 [.ref L.1, .int a0, .int a1, .int a2] L g σ (some (.int r)) σ1) {σ σ' : xS} {r : Int32} {a0 : Int32} {a1 : Int32} {a2 : Int32} (hF : fX_choose_e N rc σ a0 a1 a2 = some (σ', r)) : xMet l yX0_choose cX0_choose 7 (some .boolean) (fr + 5) (lo + 108) 0 0 [.ref L.1, .int a0, .int a1, .int a2] L g σ (some (.int r)) σ' := by
  refine x_head hst (by decide) rfl ?_
  intro p e s m below meth c A C0 hG
  have hl := lv_entry ([.ref L.1, .int a0, .int a1, .int a2]) (n := 7) (Nat.le_of_ble_eq_true rfl)
  rw [lg_entry_eq]
  generalize (lg_sl ([.ref L.1, .int a0, .int a1, .int a2]) ++ List.replicate (7 - (lg_sl ([.ref L.1, .int a0, .int a1, .int a2])).length) Slot.unset).toArray = ls at hl ⊢
  have hl : lv_has ls 7 [(0, .ref L.1), (1, .int a0), (2, .int a1), (3, .int a2)] := hl
  exact bX_choose_e C0 ⟨Nat.le_refl _, Nat.le_refl _⟩ hrc _ _ _ _ _ [] ls hG hl hF
theorem mtX_choose (l : Launch) (hst : l.stackTraces = false) {N : Nat} {L : xL} {g : xg} : ∀ (d : Nat) {σ σ' : xS} { a0 a1 a2 : Int32} {r : Int32}, fX_choose N d σ a0 a1 a2 = some (σ', r) → xMet l yX0_choose cX0_choose 7 (some .boolean) (5 * d) (108 * d) 0 0 [.ref L.1, .int a0, .int a1, .int a2] L g σ (some (.int r)) σ' := by
  intro d
  induction d with
  | zero => intro σ σ' a0 a1 a2 r hF; cases hF
  | succ d ih =>
    intro σ σ' a0 a1 a2 r hF
    unfold fX_choose at hF
    simp only [Nat.mul_succ]
    exact mtX_choose_e l hst ih hF
def fX_bitAt_b4 (N : Nat) : Nat → xS → Int32 → Int32 → Int32 → Option (xS × Int32)
  | 0, _, _, _, _ => none
  | n + 1, σ, x1, x2, x3 =>
    if x1 ≤ x3 then (
      nmv (nTZ x2) fun x_2 =>
      some (σ, x_2))
    else (
      nmv (x2 &&& (x2 - 1)) fun x_3 =>
      nmv (x3 + 1) fun x_4 =>
      (fX_bitAt_b4 N n) σ x1 x_3 x_4)
def fX_bitAt (N : Nat) (σ : xS) (a0 : Int32) (a1 : Int32) : Option (xS × Int32) :=
  fX_bitAt_b4 N N σ a1 a0 0
theorem bX_bitAt_4 {N : Nat} (C0 : xCx p l s m args meth c RX0 cX0_bitAt 4 (some .int) L A) (hRo : 1 ≤ R.frames ∧ 21 ≤ R.locals) {σ' : xS} {r : Int32} : ∀ (n : Nat) (σ : xS) (x1 : Int32) (x2 : Int32) (x3 : Int32) (H : Heap) (locs : List Loc) (ls : Array Slot), xG A L g s σ H locs → lv_has ls 4 [(1, .int x1), (2, .int x2), (3, .int x3)] → fX_bitAt_b4 N n σ x1 x2 x3 = some (σ', r) → W p l e R s m args below meth c H locs 0 0 (xZ below L g A s args σ' (some (.int r)) 0 0) (F0 m 4 ls []) := by
  have hx := C0.1
  have hb := C0.2.1
  have hst := C0.2.2.2.2.2.2.2.2.2.2
  intro n
  induction n with
  | zero => intro σ x1 x2 x3 H locs ls hG hl hF; cases hF
  | succ n ih =>
    intro σ x1 x2 x3 H locs ls hG hl hF
    unfold fX_bitAt_b4 at hF
    refine lv_iload_n hx hb dX0_bitAt_4 rfl (lv_at hl 2 rfl) ?_
    refine lv_iload_n hx hb dX0_bitAt_5 rfl (lv_at hl 0 rfl) ?_
    refine lv_icmp_ge (tgt := 21) hx hb dX0_bitAt_6 (by decide) (fun c_1 => ?_) (fun c_1 => ?_)
    · have hF := ifp hF c_1
      refine lv_iload_n hx hb dX0_bitAt_21 rfl (lv_at hl 1 rfl) ?_
      refine x_cP (As := [.int x2]) (rest := []) C0 (mtP_nTZ l _) (lw_S q963 q964 q126 q965) yd_J13_numberOfTrailingZeros ⟨by omega, by omega⟩ ⟨by omega, by omega⟩ rfl rfl hl.1 (Nat.le_of_ble_eq_true rfl) dX0_bitAt_22 hF (fun x_2 hF => ?_)
      exact x_iret C0 hG ⟨by omega, by omega⟩ dX0_bitAt_25 hF
    · have hF := ifn hF c_1
      refine lv_iload_n hx hb dX0_bitAt_9 rfl (lv_at hl 1 rfl) ?_
      refine lv_iload_n hx hb dX0_bitAt_10 rfl (lv_at hl 1 rfl) ?_
      refine lv_iconst (v := 1) hx hb dX0_bitAt_11 (by decide) ?_
      refine lv_isub hx hb dX0_bitAt_12 ?_
      refine lv_iand hx hb dX0_bitAt_13 ?_
      refine w_nm hF (fun x_3 hF => ?_)
      refine lv_istore_n (lv' := [(2, .int x_3), (1, .int x1), (3, .int x3)]) hx hb dX0_bitAt_14 rfl hl (by decide) rfl (fun ls hl => ?_)
      refine w_iinc hx hb dX0_bitAt_15 hl 2 rfl (v := 1) (by decide) (by decide) hF (fun x_4 ls hl hF => ?_)
      have hl : lv_has ls 4 [(3, .int x_4), (2, .int x_3), (1, .int x1)] := hl
      refine lv_goto (tgt := 4) hx hb dX0_bitAt_18 (by decide) ?_
      exact ih _ _ _ _ H locs ls hG (lv_sub hl [2, 1, 0] rfl) hF
theorem bX_bitAt_e {N : Nat} (C0 : xCx p l s m args meth c RX0 cX0_bitAt 4 (some .int) L A) (hRo : 1 ≤ R.frames ∧ 21 ≤ R.locals) {σ' : xS} {r : Int32} (σ : xS) (a0 : Int32) (a1 : Int32) (H : Heap) (locs : List Loc) (ls : Array Slot) (hG : xG A L g s σ H locs) (hl : lv_has ls 4 [(0, .int a0), (1, .int a1)]) (hF : fX_bitAt N σ a0 a1 = some (σ', r)) : W p l e R s m args below meth c H locs 0 0 (xZ below L g A s args σ' (some (.int r)) 0 0) (F0 m 0 ls []) := by
  have hx := C0.1
  have hb := C0.2.1
  have hst := C0.2.2.2.2.2.2.2.2.2.2
  unfold fX_bitAt at hF
  refine lv_iload_n hx hb dX0_bitAt_0 rfl (lv_at hl 0 rfl) ?_
  refine lv_istore_n (lv' := [(2, .int a0), (0, .int a0), (1, .int a1)]) hx hb dX0_bitAt_1 rfl hl (by decide) rfl (fun ls hl => ?_)
  refine lv_iconst (v := 0) hx hb dX0_bitAt_2 (by decide) ?_
  refine lv_istore_n (lv' := [(3, .int 0), (2, .int a0), (0, .int a0), (1, .int a1)]) hx hb dX0_bitAt_3 rfl hl (by decide) rfl (fun ls hl => ?_)
  exact bX_bitAt_4 C0 hRo N _ _ _ _ H locs ls hG (lv_sub hl [3, 1, 0] rfl) hF
theorem mtX_bitAt (l : Launch) (hst : l.stackTraces = false) {N : Nat} {L : xL} {g : xg} {σ σ' : xS} {r : Int32} {a0 : Int32} {a1 : Int32} (hF : fX_bitAt N σ a0 a1 = some (σ', r)) : xMet l yX0_bitAt cX0_bitAt 4 (some .int) (1) (21) 0 0 [.int a0, .int a1] L g σ (some (.int r)) σ' := by
  refine x_head hst (by decide) rfl ?_
  intro p e s m below meth c A C0 hG
  have hl := lv_entry ([.int a0, .int a1]) (n := 4) (Nat.le_of_ble_eq_true rfl)
  rw [lg_entry_eq]
  generalize (lg_sl ([.int a0, .int a1]) ++ List.replicate (4 - (lg_sl ([.int a0, .int a1])).length) Slot.unset).toArray = ls at hl ⊢
  have hl : lv_has ls 4 [(0, .int a0), (1, .int a1)] := hl
  exact bX_bitAt_e C0 ⟨Nat.le_refl _, Nat.le_refl _⟩ _ _ _ _ [] ls hG hl hF
def fX_fewest_b19 (N : Nat) : Nat → xS → Int32 → Int32 → Int32 → Option (xS × Int32)
  | 0, _, _, _, _ => none
  | n + 1, σ, x1, x2, x3 =>
    if 10 < x3 then (
      some (σ, (-2)))
    else (
      obi (fX_choose N 13 σ 0 x3 x1) fun σ_5 r_6 =>
      if r_6 = 0 then (
        nmv (x3 + 1) fun x_15 =>
        (fX_fewest_b19 N n) σ_5 x1 x2 x_15)
      else (
        if 0 ≤ x2 then (
          if x3 ≤ x2 then (
            some (σ_5, (-2)))
          else (
            nmv (xI σ_5 20) fun x_11 =>
            obi (fX_bitAt N σ_5 x_11 x2) fun σ_12 r_13 =>
            some (σ_12, r_13)))
        else (
          some (σ_5, x3))))
def fX_fewest (N : Nat) (σ : xS) (a0 : Int32) (a1 : Int32) : Option (xS × Int32) :=
  nmv (xI σ 15) fun x_1 =>
  if x_1 ≤ 16 then (
    nmv (xSi σ 20 0) fun σ_3 =>
    fX_fewest_b19 N N σ_3 a0 a1 0)
  else (
    some (σ, (-5)))
theorem bX_fewest_19 {N : Nat} (C0 : xCx p l s m args meth c RX0 cX0_fewest 4 (some .int) L A) (hRo : 66 ≤ R.frames ∧ 1430 ≤ R.locals) {σ' : xS} {r : Int32} : ∀ (n : Nat) (σ : xS) (x1 : Int32) (x2 : Int32) (x3 : Int32) (H : Heap) (locs : List Loc) (ls : Array Slot), xG A L g s σ H locs → lv_has ls 4 [(0, .ref L.1), (1, .int x1), (2, .int x2), (3, .int x3)] → fX_fewest_b19 N n σ x1 x2 x3 = some (σ', r) → W p l e R s m args below meth c H locs 0 0 (xZ below L g A s args σ' (some (.int r)) 0 0) (F0 m 19 ls []) := by
  have hx := C0.1
  have hb := C0.2.1
  have hst := C0.2.2.2.2.2.2.2.2.2.2
  intro n
  induction n with
  | zero => intro σ x1 x2 x3 H locs ls hG hl hF; cases hF
  | succ n ih =>
    intro σ x1 x2 x3 H locs ls hG hl hF
    unfold fX_fewest_b19 at hF
    refine lv_iload_n hx hb dX0_fewest_19 rfl (lv_at hl 3 rfl) ?_
    refine lv_bipush (v := 10) hx hb dX0_fewest_20 (by decide) ?_
    refine lv_icmp_gt (tgt := 69) hx hb dX0_fewest_22 (by decide) (fun c_4 => ?_) (fun c_4 => ?_)
    · have hF := ifp hF c_4
      refine lv_bipush (v := (-2)) hx hb dX0_fewest_69 (by decide) ?_
      exact x_iret C0 hG ⟨by omega, by omega⟩ dX0_fewest_71 hF
    · have hF := ifn hF c_4
      refine lv_aload_n hx hb dX0_fewest_25 rfl (lv_at hl 0 rfl) ?_
      refine lv_iconst (v := 0) hx hb dX0_fewest_26 (by decide) ?_
      refine lv_iload_n hx hb dX0_fewest_27 rfl (lv_at hl 3 rfl) ?_
      refine lv_iload_n hx hb dX0_fewest_28 rfl (lv_at hl 1 rfl) ?_
      obtain ⟨σ_5, r_6, e_7, hF⟩ := obi_of hF
      refine x_cVi0 (As := [.int 0, .int x3, .int x1]) (rest := []) C0 hG (mtX_choose l hst 13 e_7) (lw_V q949 q951 qs37 q100 q952) yd_X0_choose (x_rc0 C0 hG) ⟨by omega, by omega⟩ ⟨by omega, by omega⟩ rfl rfl hl.1 (Nat.le_of_ble_eq_true rfl) dX0_fewest_29 (fun H locs hG => ?_)
      refine lv_if_ne (tgt := 38) hx hb dX0_fewest_32 (by decide) (fun c_8 => ?_) (fun c_8 => ?_)
      · have hF := ifn hF c_8
        refine lv_iload_n hx hb dX0_fewest_38 rfl (lv_at hl 2 rfl) ?_
        refine lv_if_ge (tgt := 44) hx hb dX0_fewest_39 (by decide) (fun c_9 => ?_) (fun c_9 => ?_)
        · have hF := ifp hF c_9
          refine lv_iload_n hx hb dX0_fewest_44 rfl (lv_at hl 2 rfl) ?_
          refine lv_iload_n hx hb dX0_fewest_45 rfl (lv_at hl 3 rfl) ?_
          refine lv_icmp_ge (tgt := 60) hx hb dX0_fewest_46 (by decide) (fun c_10 => ?_) (fun c_10 => ?_)
          · have hF := ifp hF c_10
            refine lv_bipush (v := (-2)) hx hb dX0_fewest_60 (by decide) ?_
            exact x_iret C0 hG ⟨by omega, by omega⟩ dX0_fewest_62 hF
          · have hF := ifn hF c_10
            refine lv_aload_n hx hb dX0_fewest_49 rfl (lv_at hl 0 rfl) ?_
            refine x_geti C0 hG 20 (by decide) rfl q196 dX0_fewest_50 hF (fun x_11 hF => ?_)
            refine lv_iload_n hx hb dX0_fewest_53 rfl (lv_at hl 2 rfl) ?_
            obtain ⟨σ_12, r_13, e_14, hF⟩ := obi_of hF
            refine x_cSi0 (As := [.int x_11, .int x2]) (rest := []) C0 hG (mtX_bitAt l hst e_14) (lw_S q960 q961 q100 q962) yd_X0_bitAt ⟨by omega, by omega⟩ ⟨by omega, by omega⟩ rfl rfl hl.1 (Nat.le_of_ble_eq_true rfl) dX0_fewest_54 (fun H locs hG => ?_)
            refine lv_goto (tgt := 62) hx hb dX0_fewest_57 (by decide) ?_
            exact x_iret C0 hG ⟨by omega, by omega⟩ dX0_fewest_62 hF
        · have hF := ifn hF c_9
          refine lv_iload_n hx hb dX0_fewest_42 rfl (lv_at hl 3 rfl) ?_
          exact x_iret C0 hG ⟨by omega, by omega⟩ dX0_fewest_43 hF
      · have hF := ifp hF c_8
        refine lv_goto (tgt := 63) hx hb dX0_fewest_35 (by decide) ?_
        refine w_iinc hx hb dX0_fewest_63 hl 3 rfl (v := 1) (by decide) (by decide) hF (fun x_15 ls hl hF => ?_)
        have hl : lv_has ls 4 [(3, .int x_15), (0, .ref L.1), (1, .int x1), (2, .int x2)] := hl
        refine lv_goto (tgt := 19) hx hb dX0_fewest_66 (by decide) ?_
        exact ih _ _ _ _ H locs ls hG (lv_sub hl [1, 2, 3, 0] rfl) hF
theorem bX_fewest_e {N : Nat} (C0 : xCx p l s m args meth c RX0 cX0_fewest 4 (some .int) L A) (hRo : 66 ≤ R.frames ∧ 1430 ≤ R.locals) {σ' : xS} {r : Int32} (σ : xS) (a0 : Int32) (a1 : Int32) (H : Heap) (locs : List Loc) (ls : Array Slot) (hG : xG A L g s σ H locs) (hl : lv_has ls 4 [(0, .ref L.1), (1, .int a0), (2, .int a1)]) (hF : fX_fewest N σ a0 a1 = some (σ', r)) : W p l e R s m args below meth c H locs 0 0 (xZ below L g A s args σ' (some (.int r)) 0 0) (F0 m 0 ls []) := by
  have hx := C0.1
  have hb := C0.2.1
  have hst := C0.2.2.2.2.2.2.2.2.2.2
  unfold fX_fewest at hF
  refine lv_aload_n hx hb dX0_fewest_0 rfl (lv_at hl 0 rfl) ?_
  refine x_geti C0 hG 15 (by decide) rfl q191 dX0_fewest_1 hF (fun x_1 hF => ?_)
  refine lv_bipush (v := 16) hx hb dX0_fewest_4 (by decide) ?_
  refine lv_icmp_le (tgt := 12) hx hb dX0_fewest_6 (by decide) (fun c_2 => ?_) (fun c_2 => ?_)
  · have hF := ifp hF c_2
    refine lv_aload_n hx hb dX0_fewest_12 rfl (lv_at hl 0 rfl) ?_
    refine lv_iconst (v := 0) hx hb dX0_fewest_13 (by decide) ?_
    refine x_puti C0 hG 20 (by decide) rfl q196 dX0_fewest_14 (Or.inl (by decide)) hF (fun σ_3 H locs hG hF => ?_)
    refine lv_iconst (v := 0) hx hb dX0_fewest_17 (by decide) ?_
    refine lv_istore_n (lv' := [(3, .int 0), (0, .ref L.1), (1, .int a0), (2, .int a1)]) hx hb dX0_fewest_18 rfl hl (by decide) rfl (fun ls hl => ?_)
    exact bX_fewest_19 C0 hRo N _ _ _ _ H locs ls hG (lv_sub hl [1, 2, 3, 0] rfl) hF
  · have hF := ifn hF c_2
    refine lv_bipush (v := (-5)) hx hb dX0_fewest_9 (by decide) ?_
    exact x_iret C0 hG ⟨by omega, by omega⟩ dX0_fewest_11 hF
theorem mtX_fewest (l : Launch) (hst : l.stackTraces = false) {N : Nat} {L : xL} {g : xg} {σ σ' : xS} {r : Int32} {a0 : Int32} {a1 : Int32} (hF : fX_fewest N σ a0 a1 = some (σ', r)) : xMet l yX0_fewest cX0_fewest 4 (some .int) (66) (1430) 0 0 [.ref L.1, .int a0, .int a1] L g σ (some (.int r)) σ' := by
  refine x_head hst (by decide) rfl ?_
  intro p e s m below meth c A C0 hG
  have hl := lv_entry ([.ref L.1, .int a0, .int a1]) (n := 4) (Nat.le_of_ble_eq_true rfl)
  rw [lg_entry_eq]
  generalize (lg_sl ([.ref L.1, .int a0, .int a1]) ++ List.replicate (4 - (lg_sl ([.ref L.1, .int a0, .int a1])).length) Slot.unset).toArray = ls at hl ⊢
  have hl : lv_has ls 4 [(0, .ref L.1), (1, .int a0), (2, .int a1)] := hl
  exact bX_fewest_e C0 ⟨Nat.le_refl _, Nat.le_refl _⟩ _ _ _ _ [] ls hG hl hF
def fX_meetsOrder_b106 (N : Nat) : Nat → xS → Int32 → Option (xS × Unit)
  | 0, _, _ => none
  | n + 1, σ, x4 =>
    nmv (xI σ 1) fun x_16 =>
    if x_16 ≤ x4 then (
      some (σ, ()))
    else (
      chk x4 8 <| nmv (xJ σ 21 x4.toNatClampNeg) fun x_18 =>
      chk x4 8 <| nmv (xSj σ 22 x4.toNatClampNeg x_18) fun σ_19 =>
      nmv (x4 + 1) fun x_20 =>
      (fX_meetsOrder_b106 N n) σ_19 x_20)
def fX_meetsOrder_b96 (N : Nat) (σ : xS) (x2 : Int32) (x3 : Int32) : Option (xS × Unit) :=
  nmv (xSi σ 23 (x3 - x2)) fun σ_13 =>
  fX_meetsOrder_b106 N N σ_13 0
def fX_meetsOrder_b71 (N : Nat) (k7 : xS → Int32 → Int32 → Int32 → Int32 → Option (xS × Unit)) (σ : xS) (y0 : Int32) (x1 : Int32) (x2 : Int32) (x4 : Int32) : Option (xS × Unit) :=
  nmv (x4 + 1) fun x_21 =>
  k7 σ x1 x2 y0 x_21
def fX_meetsOrder_b54 (N : Nat) (k7 : xS → Int32 → Int32 → Int32 → Int32 → Option (xS × Unit)) (σ : xS) (y0 : Int32) (x1 : Int32) (x3 : Int32) (x4 : Int32) (x5 : Int32) : Option (xS × Unit) :=
  if x4 = 0 then (
    fX_meetsOrder_b71 N k7 σ x5 x1 y0 x4)
  else (
    nmv (if x3 < x5 then x5 else x3) fun x_15 =>
    fX_meetsOrder_b71 N k7 σ x_15 x1 y0 x4)
def fX_meetsOrder_b7 (N : Nat) : Nat → xS → Int32 → Int32 → Int32 → Int32 → Option (xS × Unit)
  | 0, _, _, _, _, _ => none
  | n + 1, σ, x1, x2, x3, x4 =>
    nmv (xI σ 1) fun x_1 =>
    if x_1 ≤ x4 then (
      nmv (xI σ 23) fun x_3 =>
      if x_3 < 0 then (
        fX_meetsOrder_b96 N σ x2 x3)
      else (
        nmv (xI σ 23) fun x_5 =>
        if (x3 - x2) < x_5 then (
          fX_meetsOrder_b96 N σ x2 x3)
        else (
          some (σ, ()))))
    else (
      chk x4 8 <| nmv (xJ σ 21 x4.toNatClampNeg) fun x_7 =>
      chk x_7 8 <| chl x_7.toNatClampNeg (xn σ) <| nmv x_7.toNatClampNeg fun u_8 =>
      chl u_8 (xn σ) <| nmv (xE σ u_8 2) fun x_9 =>
      nmv (x_9 - (x1 * x4)) fun x_10 =>
      if x4 = 0 then (
        fX_meetsOrder_b54 N (fX_meetsOrder_b7 N n) σ x_10 x1 x3 x4 x_10)
      else (
        nmv (if x_10 < x2 then x_10 else x2) fun x_12 =>
        fX_meetsOrder_b54 N (fX_meetsOrder_b7 N n) σ x_12 x1 x3 x4 x_10))
def fX_meetsOrder (N : Nat) (σ : xS) (a0 : Int32) : Option (xS × Unit) :=
  fX_meetsOrder_b7 N N σ a0 0 0 0
theorem bX_meetsOrder_106 {N : Nat} (C0 : xCx p l s m args meth c RX0 cX0_meetsOrder 6 none L A) (hRo : 1 ≤ R.frames ∧ 21 ≤ R.locals) {σ' : xS} {r : Unit} : ∀ (n : Nat) (σ : xS) (x4 : Int32) (H : Heap) (locs : List Loc) (ls : Array Slot), xG A L g s σ H locs → lv_has ls 6 [(0, .ref L.1), (4, .int x4)] → fX_meetsOrder_b106 N n σ x4 = some (σ', r) → W p l e R s m args below meth c H locs 0 0 (xZ below L g A s args σ' none 0 0) (F0 m 106 ls []) := by
  have hx := C0.1
  have hb := C0.2.1
  have hst := C0.2.2.2.2.2.2.2.2.2.2
  intro n
  induction n with
  | zero => intro σ x4 H locs ls hG hl hF; cases hF
  | succ n ih =>
    intro σ x4 H locs ls hG hl hF
    unfold fX_meetsOrder_b106 at hF
    refine lv_iload hx hb dX0_meetsOrder_106 (lv_at hl 1 rfl) ?_
    refine lv_aload_n hx hb dX0_meetsOrder_108 rfl (lv_at hl 0 rfl) ?_
    refine x_geti C0 hG 1 (by decide) rfl q175 dX0_meetsOrder_109 hF (fun x_16 hF => ?_)
    refine lv_icmp_ge (tgt := 135) hx hb dX0_meetsOrder_112 (by decide) (fun c_17 => ?_) (fun c_17 => ?_)
    · have hF := ifp hF c_17
      exact x_vret C0 hG ⟨by omega, by omega⟩ dX0_meetsOrder_135 hF
    · have hF := ifn hF c_17
      refine lv_aload_n hx hb dX0_meetsOrder_115 rfl (lv_at hl 0 rfl) ?_
      refine x_geta C0 hG 22 (by decide) rfl (by decide) q198 dX0_meetsOrder_116 ?_
      refine lv_iload hx hb dX0_meetsOrder_119 (lv_at hl 1 rfl) ?_
      refine lv_aload_n hx hb dX0_meetsOrder_121 rfl (lv_at hl 0 rfl) ?_
      refine x_geta C0 hG 21 (by decide) rfl (by decide) q197 dX0_meetsOrder_122 ?_
      refine lv_iload hx hb dX0_meetsOrder_125 (lv_at hl 1 rfl) ?_
      refine x_ld C0 hG 21 ⟨by decide, rfl, rfl⟩ dX0_meetsOrder_127 hF (fun x_18 hF => ?_)
      refine x_st C0 hG 22 ⟨by decide, rfl, rfl⟩ dX0_meetsOrder_128 hF (fun σ_19 H locs hG hF => ?_)
      refine w_iinc hx hb dX0_meetsOrder_129 hl 1 rfl (v := 1) (by decide) (by decide) hF (fun x_20 ls hl hF => ?_)
      have hl : lv_has ls 6 [(4, .int x_20), (0, .ref L.1)] := hl
      refine lv_goto (tgt := 106) hx hb dX0_meetsOrder_132 (by decide) ?_
      exact ih _ _ H locs ls hG (lv_sub hl [1, 0] rfl) hF
theorem bX_meetsOrder_96 {N : Nat} (C0 : xCx p l s m args meth c RX0 cX0_meetsOrder 6 none L A) (hRo : 1 ≤ R.frames ∧ 21 ≤ R.locals) {σ' : xS} {r : Unit} (σ : xS) (x2 : Int32) (x3 : Int32) (H : Heap) (locs : List Loc) (ls : Array Slot) (hG : xG A L g s σ H locs) (hl : lv_has ls 6 [(0, .ref L.1), (2, .int x2), (3, .int x3)]) (hF : fX_meetsOrder_b96 N σ x2 x3 = some (σ', r)) : W p l e R s m args below meth c H locs 0 0 (xZ below L g A s args σ' none 0 0) (F0 m 96 ls []) := by
  have hx := C0.1
  have hb := C0.2.1
  have hst := C0.2.2.2.2.2.2.2.2.2.2
  unfold fX_meetsOrder_b96 at hF
  refine lv_aload_n hx hb dX0_meetsOrder_96 rfl (lv_at hl 0 rfl) ?_
  refine lv_iload_n hx hb dX0_meetsOrder_97 rfl (lv_at hl 2 rfl) ?_
  refine lv_iload_n hx hb dX0_meetsOrder_98 rfl (lv_at hl 1 rfl) ?_
  refine lv_isub hx hb dX0_meetsOrder_99 ?_
  refine x_puti C0 hG 23 (by decide) rfl q199 dX0_meetsOrder_100 (Or.inl (by decide)) hF (fun σ_13 H locs hG hF => ?_)
  refine lv_iconst (v := 0) hx hb dX0_meetsOrder_103 (by decide) ?_
  refine lv_istore (lv' := [(4, .int 0), (0, .ref L.1), (2, .int x2), (3, .int x3)]) hx hb dX0_meetsOrder_104 hl (by decide) rfl (fun ls hl => ?_)
  exact bX_meetsOrder_106 C0 hRo N _ _ H locs ls hG (lv_sub hl [1, 0] rfl) hF
theorem bX_meetsOrder_71 {N : Nat} (C0 : xCx p l s m args meth c RX0 cX0_meetsOrder 6 none L A) (hRo : 1 ≤ R.frames ∧ 21 ≤ R.locals) {σ' : xS} {r : Unit} {k7 : xS → Int32 → Int32 → Int32 → Int32 → Option (xS × Unit)} (hk7 : ∀ (σ : xS) (x1 : Int32) (x2 : Int32) (x3 : Int32) (x4 : Int32) (H : Heap) (locs : List Loc) (ls : Array Slot), xG A L g s σ H locs → lv_has ls 6 [(0, .ref L.1), (1, .int x1), (2, .int x2), (3, .int x3), (4, .int x4)] → k7 σ x1 x2 x3 x4 = some (σ', r) → W p l e R s m args below meth c H locs 0 0 (xZ below L g A s args σ' none 0 0) (F0 m 7 ls [])) (σ : xS) (y0 : Int32) (x1 : Int32) (x2 : Int32) (x4 : Int32) (H : Heap) (locs : List Loc) (ls : Array Slot) (hG : xG A L g s σ H locs) (hl : lv_has ls 6 [(0, .ref L.1), (1, .int x1), (2, .int x2), (4, .int x4)]) (hF : fX_meetsOrder_b71 N k7 σ y0 x1 x2 x4 = some (σ', r)) : W p l e R s m args below meth c H locs 0 0 (xZ below L g A s args σ' none 0 0) (F0 m 71 ls [.int y0]) := by
  have hx := C0.1
  have hb := C0.2.1
  have hst := C0.2.2.2.2.2.2.2.2.2.2
  unfold fX_meetsOrder_b71 at hF
  refine lv_istore_n (lv' := [(3, .int y0), (0, .ref L.1), (1, .int x1), (2, .int x2), (4, .int x4)]) hx hb dX0_meetsOrder_71 rfl hl (by decide) rfl (fun ls hl => ?_)
  refine w_iinc hx hb dX0_meetsOrder_72 hl 4 rfl (v := 1) (by decide) (by decide) hF (fun x_21 ls hl hF => ?_)
  have hl : lv_has ls 6 [(4, .int x_21), (3, .int y0), (0, .ref L.1), (1, .int x1), (2, .int x2)] := hl
  refine lv_goto (tgt := 7) hx hb dX0_meetsOrder_75 (by decide) ?_
  exact hk7 _ _ _ _ _ H locs ls hG (lv_sub hl [2, 3, 4, 1, 0] rfl) hF
theorem bX_meetsOrder_54 {N : Nat} (C0 : xCx p l s m args meth c RX0 cX0_meetsOrder 6 none L A) (hRo : 1 ≤ R.frames ∧ 21 ≤ R.locals) {σ' : xS} {r : Unit} {k7 : xS → Int32 → Int32 → Int32 → Int32 → Option (xS × Unit)} (hk7 : ∀ (σ : xS) (x1 : Int32) (x2 : Int32) (x3 : Int32) (x4 : Int32) (H : Heap) (locs : List Loc) (ls : Array Slot), xG A L g s σ H locs → lv_has ls 6 [(0, .ref L.1), (1, .int x1), (2, .int x2), (3, .int x3), (4, .int x4)] → k7 σ x1 x2 x3 x4 = some (σ', r) → W p l e R s m args below meth c H locs 0 0 (xZ below L g A s args σ' none 0 0) (F0 m 7 ls [])) (σ : xS) (y0 : Int32) (x1 : Int32) (x3 : Int32) (x4 : Int32) (x5 : Int32) (H : Heap) (locs : List Loc) (ls : Array Slot) (hG : xG A L g s σ H locs) (hl : lv_has ls 6 [(0, .ref L.1), (1, .int x1), (3, .int x3), (4, .int x4), (5, .int x5)]) (hF : fX_meetsOrder_b54 N k7 σ y0 x1 x3 x4 x5 = some (σ', r)) : W p l e R s m args below meth c H locs 0 0 (xZ below L g A s args σ' none 0 0) (F0 m 54 ls [.int y0]) := by
  have hx := C0.1
  have hb := C0.2.1
  have hst := C0.2.2.2.2.2.2.2.2.2.2
  unfold fX_meetsOrder_b54 at hF
  refine lv_istore_n (lv' := [(2, .int y0), (0, .ref L.1), (1, .int x1), (3, .int x3), (4, .int x4), (5, .int x5)]) hx hb dX0_meetsOrder_54 rfl hl (by decide) rfl (fun ls hl => ?_)
  refine lv_iload hx hb dX0_meetsOrder_55 (lv_at hl 4 rfl) ?_
  refine lv_if_ne (tgt := 65) hx hb dX0_meetsOrder_57 (by decide) (fun c_14 => ?_) (fun c_14 => ?_)
  · have hF := ifn hF c_14
    refine lv_iload_n hx hb dX0_meetsOrder_65 rfl (lv_at hl 3 rfl) ?_
    refine lv_iload hx hb dX0_meetsOrder_66 (lv_at hl 5 rfl) ?_
    refine x_max C0 hl.1 q857 q676 q116 q677 ⟨by omega, by omega⟩ ⟨by omega, by omega⟩ (Nat.le_of_ble_eq_true rfl) dX0_meetsOrder_68 hF (fun x_15 hF => ?_)
    exact bX_meetsOrder_71 C0 hRo hk7 _ _ _ _ _ H locs ls hG (lv_sub hl [1, 2, 0, 4] rfl) hF
  · have hF := ifp hF c_14
    refine lv_iload hx hb dX0_meetsOrder_60 (lv_at hl 5 rfl) ?_
    refine lv_goto (tgt := 71) hx hb dX0_meetsOrder_62 (by decide) ?_
    exact bX_meetsOrder_71 C0 hRo hk7 _ _ _ _ _ H locs ls hG (lv_sub hl [1, 2, 0, 4] rfl) hF
theorem bX_meetsOrder_7 {N : Nat} (C0 : xCx p l s m args meth c RX0 cX0_meetsOrder 6 none L A) (hRo : 1 ≤ R.frames ∧ 21 ≤ R.locals) {σ' : xS} {r : Unit} : ∀ (n : Nat) (σ : xS) (x1 : Int32) (x2 : Int32) (x3 : Int32) (x4 : Int32) (H : Heap) (locs : List Loc) (ls : Array Slot), xG A L g s σ H locs → lv_has ls 6 [(0, .ref L.1), (1, .int x1), (2, .int x2), (3, .int x3), (4, .int x4)] → fX_meetsOrder_b7 N n σ x1 x2 x3 x4 = some (σ', r) → W p l e R s m args below meth c H locs 0 0 (xZ below L g A s args σ' none 0 0) (F0 m 7 ls []) := by
  have hx := C0.1
  have hb := C0.2.1
  have hst := C0.2.2.2.2.2.2.2.2.2.2
  intro n
  induction n with
  | zero => intro σ x1 x2 x3 x4 H locs ls hG hl hF; cases hF
  | succ n ih =>
    intro σ x1 x2 x3 x4 H locs ls hG hl hF
    unfold fX_meetsOrder_b7 at hF
    refine lv_iload hx hb dX0_meetsOrder_7 (lv_at hl 4 rfl) ?_
    refine lv_aload_n hx hb dX0_meetsOrder_9 rfl (lv_at hl 0 rfl) ?_
    refine x_geti C0 hG 1 (by decide) rfl q175 dX0_meetsOrder_10 hF (fun x_1 hF => ?_)
    refine lv_icmp_ge (tgt := 78) hx hb dX0_meetsOrder_13 (by decide) (fun c_2 => ?_) (fun c_2 => ?_)
    · have hF := ifp hF c_2
      refine lv_aload_n hx hb dX0_meetsOrder_78 rfl (lv_at hl 0 rfl) ?_
      refine x_geti C0 hG 23 (by decide) rfl q199 dX0_meetsOrder_79 hF (fun x_3 hF => ?_)
      refine lv_if_lt (tgt := 96) hx hb dX0_meetsOrder_82 (by decide) (fun c_4 => ?_) (fun c_4 => ?_)
      · have hF := ifp hF c_4
        exact bX_meetsOrder_96 C0 hRo _ _ _ H locs ls hG (lv_sub hl [0, 2, 3] rfl) hF
      · have hF := ifn hF c_4
        refine lv_iload_n hx hb dX0_meetsOrder_85 rfl (lv_at hl 3 rfl) ?_
        refine lv_iload_n hx hb dX0_meetsOrder_86 rfl (lv_at hl 2 rfl) ?_
        refine lv_isub hx hb dX0_meetsOrder_87 ?_
        refine lv_aload_n hx hb dX0_meetsOrder_88 rfl (lv_at hl 0 rfl) ?_
        refine x_geti C0 hG 23 (by decide) rfl q199 dX0_meetsOrder_89 hF (fun x_5 hF => ?_)
        refine lv_icmp_lt (tgt := 96) hx hb dX0_meetsOrder_92 (by decide) (fun c_6 => ?_) (fun c_6 => ?_)
        · have hF := ifp hF c_6
          exact bX_meetsOrder_96 C0 hRo _ _ _ H locs ls hG (lv_sub hl [0, 2, 3] rfl) hF
        · have hF := ifn hF c_6
          exact x_vret C0 hG ⟨by omega, by omega⟩ dX0_meetsOrder_95 hF
    · have hF := ifn hF c_2
      refine lv_aload_n hx hb dX0_meetsOrder_16 rfl (lv_at hl 0 rfl) ?_
      refine x_geta C0 hG 0 (by decide) rfl (by decide) q174 dX0_meetsOrder_17 ?_
      refine lv_aload_n hx hb dX0_meetsOrder_20 rfl (lv_at hl 0 rfl) ?_
      refine x_geta C0 hG 21 (by decide) rfl (by decide) q197 dX0_meetsOrder_21 ?_
      refine lv_iload hx hb dX0_meetsOrder_24 (lv_at hl 4 rfl) ?_
      refine x_ld C0 hG 21 ⟨by decide, rfl, rfl⟩ dX0_meetsOrder_26 hF (fun x_7 hF => ?_)
      refine x_swld C0 hG dX0_meetsOrder_27 hF (fun u_8 hF => ?_)
      refine x_swg C0 hG 2 (by decide) q333 dX0_meetsOrder_28 hF (fun x_9 hF => ?_)
      refine lv_iload_n hx hb dX0_meetsOrder_31 rfl (lv_at hl 1 rfl) ?_
      refine lv_iload hx hb dX0_meetsOrder_32 (lv_at hl 4 rfl) ?_
      refine lv_imul hx hb dX0_meetsOrder_34 ?_
      refine lv_isub hx hb dX0_meetsOrder_35 ?_
      refine w_nm hF (fun x_10 hF => ?_)
      refine lv_istore (lv' := [(5, .int x_10), (0, .ref L.1), (1, .int x1), (2, .int x2), (3, .int x3), (4, .int x4)]) hx hb dX0_meetsOrder_36 hl (by decide) rfl (fun ls hl => ?_)
      refine lv_iload hx hb dX0_meetsOrder_38 (lv_at hl 5 rfl) ?_
      refine lv_if_ne (tgt := 48) hx hb dX0_meetsOrder_40 (by decide) (fun c_11 => ?_) (fun c_11 => ?_)
      · have hF := ifn hF c_11
        refine lv_iload_n hx hb dX0_meetsOrder_48 rfl (lv_at hl 3 rfl) ?_
        refine lv_iload hx hb dX0_meetsOrder_49 (lv_at hl 0 rfl) ?_
        refine x_min C0 hl.1 q856 q679 q116 q680 ⟨by omega, by omega⟩ ⟨by omega, by omega⟩ (Nat.le_of_ble_eq_true rfl) dX0_meetsOrder_51 hF (fun x_12 hF => ?_)
        exact bX_meetsOrder_54 C0 hRo ih _ _ _ _ _ _ H locs ls hG (lv_sub hl [1, 2, 4, 5, 0] rfl) hF
      · have hF := ifp hF c_11
        refine lv_iload hx hb dX0_meetsOrder_43 (lv_at hl 0 rfl) ?_
        refine lv_goto (tgt := 54) hx hb dX0_meetsOrder_45 (by decide) ?_
        exact bX_meetsOrder_54 C0 hRo ih _ _ _ _ _ _ H locs ls hG (lv_sub hl [1, 2, 4, 5, 0] rfl) hF
theorem bX_meetsOrder_e {N : Nat} (C0 : xCx p l s m args meth c RX0 cX0_meetsOrder 6 none L A) (hRo : 1 ≤ R.frames ∧ 21 ≤ R.locals) {σ' : xS} {r : Unit} (σ : xS) (a0 : Int32) (H : Heap) (locs : List Loc) (ls : Array Slot) (hG : xG A L g s σ H locs) (hl : lv_has ls 6 [(0, .ref L.1), (1, .int a0)]) (hF : fX_meetsOrder N σ a0 = some (σ', r)) : W p l e R s m args below meth c H locs 0 0 (xZ below L g A s args σ' none 0 0) (F0 m 0 ls []) := by
  have hx := C0.1
  have hb := C0.2.1
  have hst := C0.2.2.2.2.2.2.2.2.2.2
  unfold fX_meetsOrder at hF
  refine lv_iconst (v := 0) hx hb dX0_meetsOrder_0 (by decide) ?_
  refine lv_istore_n (lv' := [(2, .int 0), (0, .ref L.1), (1, .int a0)]) hx hb dX0_meetsOrder_1 rfl hl (by decide) rfl (fun ls hl => ?_)
  refine lv_iconst (v := 0) hx hb dX0_meetsOrder_2 (by decide) ?_
  refine lv_istore_n (lv' := [(3, .int 0), (2, .int 0), (0, .ref L.1), (1, .int a0)]) hx hb dX0_meetsOrder_3 rfl hl (by decide) rfl (fun ls hl => ?_)
  refine lv_iconst (v := 0) hx hb dX0_meetsOrder_4 (by decide) ?_
  refine lv_istore (lv' := [(4, .int 0), (3, .int 0), (2, .int 0), (0, .ref L.1), (1, .int a0)]) hx hb dX0_meetsOrder_5 hl (by decide) rfl (fun ls hl => ?_)
  exact bX_meetsOrder_7 C0 hRo N _ _ _ _ _ H locs ls hG (lv_sub hl [3, 4, 2, 1, 0] rfl) hF
theorem mtX_meetsOrder (l : Launch) (hst : l.stackTraces = false) {N : Nat} {L : xL} {g : xg} {σ σ' : xS} {r : Unit} {a0 : Int32} (hF : fX_meetsOrder N σ a0 = some (σ', r)) : xMet l yX0_meetsOrder cX0_meetsOrder 6 none (1) (21) 0 0 [.ref L.1, .int a0] L g σ none σ' := by
  refine x_head hst (by decide) rfl ?_
  intro p e s m below meth c A C0 hG
  have hl := lv_entry ([.ref L.1, .int a0]) (n := 6) (Nat.le_of_ble_eq_true rfl)
  rw [lg_entry_eq]
  generalize (lg_sl ([.ref L.1, .int a0]) ++ List.replicate (6 - (lg_sl ([.ref L.1, .int a0])).length) Slot.unset).toArray = ls at hl ⊢
  have hl : lv_has ls 6 [(0, .ref L.1), (1, .int a0)] := hl
  exact bX_meetsOrder_e C0 ⟨Nat.le_refl _, Nat.le_refl _⟩ _ _ _ [] ls hG hl hF
end XWALK3
