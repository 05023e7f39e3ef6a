section XWALK9
variable {p : Program} {l : Launch} {e : Env} {R : Room} {s : State} {m : MethodId} {args : Array Value} {below : List Frame} {meth : Method} {c : Code} {A : Nat → Prop}
variable {L : xL} {g : xg}
def fX_drawn_b198 (N : Nat) (k72 : xS → Int32 → Int32 → Int32 → Int32 → Int32 → Int32 → Option (xS × Int32)) (σ : xS) (y0 : Int32) (y1 : Int32) (x3 : Int32) (x4 : Int32) (x6 : Int32) (x7 : Int32) (x9 : Int32) : Option (xS × Int32) :=
  nmv (y1 + y0) fun x_31 =>
  nmv (x9 + 1) fun x_32 =>
  k72 σ x3 x4 x6 x7 x_31 x_32
def fX_drawn_b150 (N : Nat) (k103 : xS → Int32 → Int32 → Int32 → Int32 → Int32 → Int32 → Int32 → Int32 → Int32 → Option (xS × Int32)) (σ : xS) (x3 : Int32) (x4 : Int32) (x6 : Int32) (x7 : Int32) (x8 : Int32) (x9 : Int32) (x10 : Int32) (x11 : Int32) (x12 : Int32) : Option (xS × Int32) :=
  nmv (x12 + 1) fun x_49 =>
  k103 σ x3 x4 x6 x7 x8 x9 x10 x11 x_49
def fX_drawn_b103 (N : Nat) (k91 : xS → Int32 → Int32 → Int32 → Int32 → Int32 → Int32 → Int32 → Int32 → Option (xS × Int32)) : Nat → xS → Int32 → Int32 → Int32 → Int32 → Int32 → Int32 → Int32 → Int32 → Int32 → Option (xS × Int32)
  | 0, _, _, _, _, _, _, _, _, _, _ => none
  | n + 1, σ, x3, x4, x6, x7, x8, x9, x10, x11, x12 =>
    nmv (xI σ 1) fun x_33 =>
    if x_33 ≤ x12 then (
      obi (fX_goCount N σ x11) fun σ_35 r_36 =>
      obi (fX_marksIn N σ_35 x11) fun σ_38 r_39 =>
      nmv (x10 + r_39) fun x_41 =>
      nmv (x11 + 1) fun x_42 =>
      k91 σ_38 x3 x4 x6 x7 x8 x9 x_41 x_42)
    else (
      nmv ((x6 * 1103515245) + 12345) fun x_43 =>
      chz 12 <|
      chz 100 <|
      if (x3 - x3 / 100 * 100) ≤ (((x_43.toUInt32 >>> ((8 : Int32).toUInt32 &&& Int32.toUInt32 31)).toInt32) - ((x_43.toUInt32 >>> ((8 : Int32).toUInt32 &&& Int32.toUInt32 31)).toInt32) / 12 * 12) then (
        fX_drawn_b150 N (fX_drawn_b103 N k91 n) σ x3 x4 x_43 x7 x8 x9 x10 x11 x12)
      else (
        chk x12 8 <| nmv (xJ σ 13 x12.toNatClampNeg) fun x_47 =>
        chk x12 8 <| nmv (xSj σ 13 x12.toNatClampNeg (x_47 + 1)) fun σ_48 =>
        fX_drawn_b150 N (fX_drawn_b103 N k91 n) σ_48 x3 x4 x_43 x7 x8 x9 x10 x11 x12))
def fX_drawn_b91 (N : Nat) (k72 : xS → Int32 → Int32 → Int32 → Int32 → Int32 → Int32 → Option (xS × Int32)) : Nat → xS → Int32 → Int32 → Int32 → Int32 → Int32 → Int32 → Int32 → Int32 → Option (xS × Int32)
  | 0, _, _, _, _, _, _, _, _, _ => none
  | n + 1, σ, x3, x4, x6, x7, x8, x9, x10, x11 =>
    nmv (xI σ 15) fun x_27 =>
    if x_27 ≤ x11 then (
      nmv (x7 + x10) fun x_29 =>
      if x10 = 0 then (
        fX_drawn_b198 N k72 σ 1 x8 x3 x4 x6 x_29 x9)
      else (
        fX_drawn_b198 N k72 σ 0 x8 x3 x4 x6 x_29 x9))
    else (
      fX_drawn_b103 N (fX_drawn_b91 N k72 n) N σ x3 x4 x6 x7 x8 x9 x10 x11 0)
def fX_drawn_b72 (N : Nat) : Nat → xS → Int32 → Int32 → Int32 → Int32 → Int32 → Int32 → Option (xS × Int32)
  | 0, _, _, _, _, _, _, _ => none
  | n + 1, σ, x3, x4, x6, x7, x8, x9 =>
    chz 100 <|
    if (x3 / 100) ≤ x9 then (
      if x4 = 0 then (
        some (σ, x7))
      else (
        some (σ, x8)))
    else (
      obi (fX_begin N σ) fun σ_24 r_25 =>
      fX_drawn_b91 N (fX_drawn_b72 N n) N σ_24 x3 x4 x6 x7 x8 x9 0 0)
def fX_drawn (N : Nat) (σ : xS) (a0 : Int32) (a1 : Int32) (a2 : Int32) (a3 : Int32) : Option (xS × Int32) :=
  obi (fX_isShelf N σ a0) fun σ_1 r_2 =>
  if r_2 = 0 then (
    some (σ_1, (-1)))
  else (
    if a2 < 0 then (
      some (σ_1, (-1)))
    else (
      chz 100 <|
      obi (fX_in N σ_1 (a2 / 100) 1 30) fun σ_7 r_8 =>
      if r_8 = 0 then (
        some (σ_7, (-1)))
      else (
        chz 100 <|
        if 12 < (a2 - a2 / 100 * 100) then (
          some (σ_7, (-1)))
        else (
          obi (fX_in N σ_7 a3 0 1) fun σ_13 r_14 =>
          if r_14 = 0 then (
            some (σ_13, (-1)))
          else (
            obi (fX_layRoutine N σ_13 a0) fun σ_17 r_18 =>
            if 0 ≤ r_18 then (
              fX_drawn_b72 N N σ_17 a2 a3 a1 0 0 0)
            else (
              some (σ_17, r_18)))))))
theorem bX_drawn_198 {N : Nat} (C0 : xCx p l s m args meth c RX0 cX0_drawn 13 (some .int) L A) (hRo : 213 ≤ R.frames ∧ 12024 ≤ R.locals ∧ 8 ≤ R.cells ∧ 1200 ≤ R.slots) {σ' : xS} {r : Int32} {k72 : xS → Int32 → Int32 → Int32 → Int32 → Int32 → Int32 → Option (xS × Int32)} (hk72 : ∀ (σ : xS) (x3 : Int32) (x4 : Int32) (x6 : Int32) (x7 : Int32) (x8 : Int32) (x9 : Int32) (H : Heap) (locs : List Loc) (ls : Array Slot) (cells slots : Nat), cells + 0 ≤ 8 ∧ slots + 0 ≤ 1200 →  xG A L g s σ H locs → lv_has ls 13 [(0, .ref L.1), (3, .int x3), (4, .int x4), (6, .int x6), (7, .int x7), (8, .int x8), (9, .int x9)] → k72 σ x3 x4 x6 x7 x8 x9 = some (σ', r) → W p l e R s m args below meth c H locs cells slots (xZ below L g A s args σ' (some (.int r)) 8 1200) (F0 m 72 ls [])) (σ : xS) (y0 : Int32) (y1 : Int32) (x3 : Int32) (x4 : Int32) (x6 : Int32) (x7 : Int32) (x9 : Int32) (H : Heap) (locs : List Loc) (ls : Array Slot) (cells slots : Nat) (hcs : cells + 0 ≤ 8 ∧ slots + 0 ≤ 1200) (hG : xG A L g s σ H locs) (hl : lv_has ls 13 [(0, .ref L.1), (3, .int x3), (4, .int x4), (6, .int x6), (7, .int x7), (9, .int x9)]) (hF : fX_drawn_b198 N k72 σ y0 y1 x3 x4 x6 x7 x9 = some (σ', r)) : W p l e R s m args below meth c H locs cells slots (xZ below L g A s args σ' (some (.int r)) 8 1200) (F0 m 198 ls [.int y0, .int y1]) := by
  have hx := C0.1
  have hb := C0.2.1
  have hst := C0.2.2.2.2.2.2.2.2.2.2
  unfold fX_drawn_b198 at hF
  refine lv_iadd hx hb dX0_drawn_198 ?_
  refine w_nm hF (fun x_31 hF => ?_)
  refine lv_istore (lv' := [(8, .int x_31), (0, .ref L.1), (3, .int x3), (4, .int x4), (6, .int x6), (7, .int x7), (9, .int x9)]) hx hb dX0_drawn_199 hl (by decide) rfl (fun ls hl => ?_)
  refine w_iinc hx hb dX0_drawn_201 hl 6 rfl (v := 1) (by decide) (by decide) hF (fun x_32 ls hl hF => ?_)
  have hl : lv_has ls 13 [(9, .int x_32), (8, .int x_31), (0, .ref L.1), (3, .int x3), (4, .int x4), (6, .int x6), (7, .int x7)] := hl
  refine lv_goto (tgt := 72) hx hb dX0_drawn_204 (by decide) ?_
  exact hk72 _ _ _ _ _ _ _ H locs ls _ _ ⟨by omega, by omega⟩ hG (lv_sub hl [2, 3, 4, 5, 6, 1, 0] rfl) hF
theorem bX_drawn_150 {N : Nat} (C0 : xCx p l s m args meth c RX0 cX0_drawn 13 (some .int) L A) (hRo : 213 ≤ R.frames ∧ 12024 ≤ R.locals ∧ 8 ≤ R.cells ∧ 1200 ≤ R.slots) {σ' : xS} {r : Int32} {k103 : xS → Int32 → Int32 → Int32 → Int32 → Int32 → Int32 → Int32 → Int32 → Int32 → Option (xS × Int32)} (hk103 : ∀ (σ : xS) (x3 : Int32) (x4 : Int32) (x6 : Int32) (x7 : Int32) (x8 : Int32) (x9 : Int32) (x10 : Int32) (x11 : Int32) (x12 : Int32) (H : Heap) (locs : List Loc) (ls : Array Slot) (cells slots : Nat), cells + 0 ≤ 8 ∧ slots + 0 ≤ 1200 →  xG A L g s σ H locs → lv_has ls 13 [(0, .ref L.1), (3, .int x3), (4, .int x4), (6, .int x6), (7, .int x7), (8, .int x8), (9, .int x9), (10, .int x10), (11, .int x11), (12, .int x12)] → k103 σ x3 x4 x6 x7 x8 x9 x10 x11 x12 = some (σ', r) → W p l e R s m args below meth c H locs cells slots (xZ below L g A s args σ' (some (.int r)) 8 1200) (F0 m 103 ls [])) (σ : xS) (x3 : Int32) (x4 : Int32) (x6 : Int32) (x7 : Int32) (x8 : Int32) (x9 : Int32) (x10 : Int32) (x11 : Int32) (x12 : Int32) (H : Heap) (locs : List Loc) (ls : Array Slot) (cells slots : Nat) (hcs : cells + 0 ≤ 8 ∧ slots + 0 ≤ 1200) (hG : xG A L g s σ H locs) (hl : lv_has ls 13 [(0, .ref L.1), (3, .int x3), (4, .int x4), (6, .int x6), (7, .int x7), (8, .int x8), (9, .int x9), (10, .int x10), (11, .int x11), (12, .int x12)]) (hF : fX_drawn_b150 N k103 σ x3 x4 x6 x7 x8 x9 x10 x11 x12 = some (σ', r)) : W p l e R s m args below meth c H locs cells slots (xZ below L g A s args σ' (some (.int r)) 8 1200) (F0 m 150 ls []) := by
  have hx := C0.1
  have hb := C0.2.1
  have hst := C0.2.2.2.2.2.2.2.2.2.2
  unfold fX_drawn_b150 at hF
  refine w_iinc hx hb dX0_drawn_150 hl 9 rfl (v := 1) (by decide) (by decide) hF (fun x_49 ls hl hF => ?_)
  have hl : lv_has ls 13 [(12, .int x_49), (0, .ref L.1), (3, .int x3), (4, .int x4), (6, .int x6), (7, .int x7), (8, .int x8), (9, .int x9), (10, .int x10), (11, .int x11)] := hl
  refine lv_goto (tgt := 103) hx hb dX0_drawn_153 (by decide) ?_
  exact hk103 _ _ _ _ _ _ _ _ _ _ H locs ls _ _ ⟨by omega, by omega⟩ hG (lv_sub hl [1, 2, 3, 4, 5, 6, 7, 8, 9, 0] rfl) hF
theorem bX_drawn_103 {N : Nat} (C0 : xCx p l s m args meth c RX0 cX0_drawn 13 (some .int) L A) (hRo : 213 ≤ R.frames ∧ 12024 ≤ R.locals ∧ 8 ≤ R.cells ∧ 1200 ≤ R.slots) {σ' : xS} {r : Int32} {k91 : xS → Int32 → Int32 → Int32 → Int32 → Int32 → Int32 → Int32 → Int32 → Option (xS × Int32)} (hk91 : ∀ (σ : xS) (x3 : Int32) (x4 : Int32) (x6 : Int32) (x7 : Int32) (x8 : Int32) (x9 : Int32) (x10 : Int32) (x11 : Int32) (H : Heap) (locs : List Loc) (ls : Array Slot) (cells slots : Nat), cells + 0 ≤ 8 ∧ slots + 0 ≤ 1200 →  xG A L g s σ H locs → lv_has ls 13 [(0, .ref L.1), (3, .int x3), (4, .int x4), (6, .int x6), (7, .int x7), (8, .int x8), (9, .int x9), (10, .int x10), (11, .int x11)] → k91 σ x3 x4 x6 x7 x8 x9 x10 x11 = some (σ', r) → W p l e R s m args below meth c H locs cells slots (xZ below L g A s args σ' (some (.int r)) 8 1200) (F0 m 91 ls [])) : ∀ (n : Nat) (σ : xS) (x3 : Int32) (x4 : Int32) (x6 : Int32) (x7 : Int32) (x8 : Int32) (x9 : Int32) (x10 : Int32) (x11 : Int32) (x12 : Int32) (H : Heap) (locs : List Loc) (ls : Array Slot) (cells slots : Nat), cells + 0 ≤ 8 ∧ slots + 0 ≤ 1200 →  xG A L g s σ H locs → lv_has ls 13 [(0, .ref L.1), (3, .int x3), (4, .int x4), (6, .int x6), (7, .int x7), (8, .int x8), (9, .int x9), (10, .int x10), (11, .int x11), (12, .int x12)] → fX_drawn_b103 N k91 n σ x3 x4 x6 x7 x8 x9 x10 x11 x12 = some (σ', r) → W p l e R s m args below meth c H locs cells slots (xZ below L g A s args σ' (some (.int r)) 8 1200) (F0 m 103 ls []) := by
  have hx := C0.1
  have hb := C0.2.1
  have hst := C0.2.2.2.2.2.2.2.2.2.2
  intro n
  induction n with
  | zero => intro σ x3 x4 x6 x7 x8 x9 x10 x11 x12 H locs ls cells slots hcs hG hl hF; cases hF
  | succ n ih =>
    intro σ x3 x4 x6 x7 x8 x9 x10 x11 x12 H locs ls cells slots hcs hG hl hF
    unfold fX_drawn_b103 at hF
    refine lv_iload hx hb dX0_drawn_103 (lv_at hl 9 rfl) ?_
    refine lv_aload_n hx hb dX0_drawn_105 rfl (lv_at hl 0 rfl) ?_
    refine x_geti C0 hG 1 (by decide) rfl q175 dX0_drawn_106 hF (fun x_33 hF => ?_)
    refine lv_icmp_ge (tgt := 156) hx hb dX0_drawn_109 (by decide) (fun c_34 => ?_) (fun c_34 => ?_)
    · have hF := ifp hF c_34
      refine lv_aload_n hx hb dX0_drawn_156 rfl (lv_at hl 0 rfl) ?_
      refine lv_iload hx hb dX0_drawn_157 (lv_at hl 8 rfl) ?_
      obtain ⟨σ_35, r_36, e_37, hF⟩ := obi_of hF
      refine x_cVv0 (As := [.int x11]) (rest := []) C0 hG (mtX_goCount l hst e_37) (lw_V q878 q880 qs25 q100 q881) yd_X0_goCount (x_rc0 C0 hG) ⟨by omega, by omega⟩ ⟨by omega, by omega⟩ rfl rfl hl.1 (Nat.le_of_ble_eq_true rfl) dX0_drawn_159 (fun H locs hG => ?_)
      refine lv_iload hx hb dX0_drawn_162 (lv_at hl 7 rfl) ?_
      refine lv_aload_n hx hb dX0_drawn_164 rfl (lv_at hl 0 rfl) ?_
      refine lv_iload hx hb dX0_drawn_165 (lv_at hl 8 rfl) ?_
      obtain ⟨σ_38, r_39, e_40, hF⟩ := obi_of hF
      refine x_cVi0 (As := [.int x11]) (rest := [.int x10]) C0 hG (mtX_marksIn l hst e_40) (lw_V q882 q884 qs26 q100 q885) yd_X0_marksIn (x_rc0 C0 hG) ⟨by omega, by omega⟩ ⟨by omega, by omega⟩ rfl rfl hl.1 (Nat.le_of_ble_eq_true rfl) dX0_drawn_167 (fun H locs hG => ?_)
      refine lv_iadd hx hb dX0_drawn_170 ?_
      refine w_nm hF (fun x_41 hF => ?_)
      refine lv_istore (lv' := [(10, .int x_41), (0, .ref L.1), (3, .int x3), (4, .int x4), (6, .int x6), (7, .int x7), (8, .int x8), (9, .int x9), (11, .int x11), (12, .int x12)]) hx hb dX0_drawn_171 hl (by decide) rfl (fun ls hl => ?_)
      refine w_iinc hx hb dX0_drawn_173 hl 8 rfl (v := 1) (by decide) (by decide) hF (fun x_42 ls hl hF => ?_)
      have hl : lv_has ls 13 [(11, .int x_42), (10, .int x_41), (0, .ref L.1), (3, .int x3), (4, .int x4), (6, .int x6), (7, .int x7), (8, .int x8), (9, .int x9), (12, .int x12)] := hl
      refine lv_goto (tgt := 91) hx hb dX0_drawn_176 (by decide) ?_
      exact hk91 _ _ _ _ _ _ _ _ _ H locs ls _ _ ⟨by omega, by omega⟩ hG (lv_sub hl [2, 3, 4, 5, 6, 7, 8, 1, 0] rfl) hF
    · have hF := ifn hF c_34
      refine lv_iload hx hb dX0_drawn_112 (lv_at hl 3 rfl) ?_
      refine lv_ldcw (v := 1103515245) hx hb C0.2.2.2.1 (C0.2.2.2.2.1 _ q1073) dX0_drawn_114 ?_
      refine lv_imul hx hb dX0_drawn_117 ?_
      refine lv_sipush (v := 12345) hx hb dX0_drawn_118 (by decide) ?_
      refine lv_iadd hx hb dX0_drawn_121 ?_
      refine w_nm hF (fun x_43 hF => ?_)
      refine lv_istore (lv' := [(6, .int x_43), (0, .ref L.1), (3, .int x3), (4, .int x4), (7, .int x7), (8, .int x8), (9, .int x9), (10, .int x10), (11, .int x11), (12, .int x12)]) hx hb dX0_drawn_122 hl (by decide) rfl (fun ls hl => ?_)
      refine lv_iload hx hb dX0_drawn_124 (lv_at hl 0 rfl) ?_
      refine lv_bipush (v := 8) hx hb dX0_drawn_126 (by decide) ?_
      refine lv_iushr (v := (x_43.toUInt32 >>> ((8 : Int32).toUInt32 &&& Int32.toUInt32 31)).toInt32) hx hb dX0_drawn_128 rfl ?_
      refine lv_bipush (v := 12) hx hb dX0_drawn_129 (by decide) ?_
      obtain ⟨h_44, hF⟩ := chz_of hF
      refine lv_irem hx hb dX0_drawn_131 h_44 ?_
      refine lv_iload_n hx hb dX0_drawn_132 rfl (lv_at hl 2 rfl) ?_
      refine lv_bipush (v := 100) hx hb dX0_drawn_133 (by decide) ?_
      obtain ⟨h_45, hF⟩ := chz_of hF
      refine lv_irem hx hb dX0_drawn_135 h_45 ?_
      refine lv_icmp_ge (tgt := 150) hx hb dX0_drawn_136 (by decide) (fun c_46 => ?_) (fun c_46 => ?_)
      · have hF := ifp hF c_46
        exact bX_drawn_150 C0 hRo ih _ _ _ _ _ _ _ _ _ _ H locs ls _ _ ⟨by omega, by omega⟩ hG (lv_sub hl [1, 2, 3, 0, 4, 5, 6, 7, 8, 9] rfl) hF
      · have hF := ifn hF c_46
        refine lv_aload_n hx hb dX0_drawn_139 rfl (lv_at hl 1 rfl) ?_
        refine x_geta C0 hG 13 (by decide) rfl (by decide) q189 dX0_drawn_140 ?_
        refine lv_iload hx hb dX0_drawn_143 (lv_at hl 9 rfl) ?_
        refine lv_dup2_11 hx hb dX0_drawn_145 rfl rfl ?_
        refine x_ld C0 hG 13 ⟨by decide, rfl, rfl⟩ dX0_drawn_146 hF (fun x_47 hF => ?_)
        refine lv_iconst (v := 1) hx hb dX0_drawn_147 (by decide) ?_
        refine lv_iadd hx hb dX0_drawn_148 ?_
        refine x_st C0 hG 13 ⟨by decide, rfl, rfl⟩ dX0_drawn_149 hF (fun σ_48 H locs hG hF => ?_)
        exact bX_drawn_150 C0 hRo ih _ _ _ _ _ _ _ _ _ _ H locs ls _ _ ⟨by omega, by omega⟩ hG (lv_sub hl [1, 2, 3, 0, 4, 5, 6, 7, 8, 9] rfl) hF
theorem bX_drawn_91 {N : Nat} (C0 : xCx p l s m args meth c RX0 cX0_drawn 13 (some .int) L A) (hRo : 213 ≤ R.frames ∧ 12024 ≤ R.locals ∧ 8 ≤ R.cells ∧ 1200 ≤ R.slots) {σ' : xS} {r : Int32} {k72 : xS → Int32 → Int32 → Int32 → Int32 → Int32 → Int32 → Option (xS × Int32)} (hk72 : ∀ (σ : xS) (x3 : Int32) (x4 : Int32) (x6 : Int32) (x7 : Int32) (x8 : Int32) (x9 : Int32) (H : Heap) (locs : List Loc) (ls : Array Slot) (cells slots : Nat), cells + 0 ≤ 8 ∧ slots + 0 ≤ 1200 →  xG A L g s σ H locs → lv_has ls 13 [(0, .ref L.1), (3, .int x3), (4, .int x4), (6, .int x6), (7, .int x7), (8, .int x8), (9, .int x9)] → k72 σ x3 x4 x6 x7 x8 x9 = some (σ', r) → W p l e R s m args below meth c H locs cells slots (xZ below L g A s args σ' (some (.int r)) 8 1200) (F0 m 72 ls [])) : ∀ (n : Nat) (σ : xS) (x3 : Int32) (x4 : Int32) (x6 : Int32) (x7 : Int32) (x8 : Int32) (x9 : Int32) (x10 : Int32) (x11 : Int32) (H : Heap) (locs : List Loc) (ls : Array Slot) (cells slots : Nat), cells + 0 ≤ 8 ∧ slots + 0 ≤ 1200 →  xG A L g s σ H locs → lv_has ls 13 [(0, .ref L.1), (3, .int x3), (4, .int x4), (6, .int x6), (7, .int x7), (8, .int x8), (9, .int x9), (10, .int x10), (11, .int x11)] → fX_drawn_b91 N k72 n σ x3 x4 x6 x7 x8 x9 x10 x11 = some (σ', r) → W p l e R s m args below meth c H locs cells slots (xZ below L g A s args σ' (some (.int r)) 8 1200) (F0 m 91 ls []) := by
  have hx := C0.1
  have hb := C0.2.1
  have hst := C0.2.2.2.2.2.2.2.2.2.2
  intro n
  induction n with
  | zero => intro σ x3 x4 x6 x7 x8 x9 x10 x11 H locs ls cells slots hcs hG hl hF; cases hF
  | succ n ih =>
    intro σ x3 x4 x6 x7 x8 x9 x10 x11 H locs ls cells slots hcs hG hl hF
    unfold fX_drawn_b91 at hF
    refine lv_iload hx hb dX0_drawn_91 (lv_at hl 8 rfl) ?_
    refine lv_aload_n hx hb dX0_drawn_93 rfl (lv_at hl 0 rfl) ?_
    refine x_geti C0 hG 15 (by decide) rfl q191 dX0_drawn_94 hF (fun x_27 hF => ?_)
    refine lv_icmp_ge (tgt := 179) hx hb dX0_drawn_97 (by decide) (fun c_28 => ?_) (fun c_28 => ?_)
    · have hF := ifp hF c_28
      refine lv_iload hx hb dX0_drawn_179 (lv_at hl 4 rfl) ?_
      refine lv_iload hx hb dX0_drawn_181 (lv_at hl 7 rfl) ?_
      refine lv_iadd hx hb dX0_drawn_183 ?_
      refine w_nm hF (fun x_29 hF => ?_)
      refine lv_istore (lv' := [(7, .int x_29), (0, .ref L.1), (3, .int x3), (4, .int x4), (6, .int x6), (8, .int x8), (9, .int x9), (10, .int x10), (11, .int x11)]) hx hb dX0_drawn_184 hl (by decide) rfl (fun ls hl => ?_)
      refine lv_iload hx hb dX0_drawn_186 (lv_at hl 5 rfl) ?_
      refine lv_iload hx hb dX0_drawn_188 (lv_at hl 7 rfl) ?_
      refine lv_if_ne (tgt := 197) hx hb dX0_drawn_190 (by decide) (fun c_30 => ?_) (fun c_30 => ?_)
      · have hF := ifn hF c_30
        refine lv_iconst (v := 0) hx hb dX0_drawn_197 (by decide) ?_
        exact bX_drawn_198 C0 hRo hk72 _ _ _ _ _ _ _ _ H locs ls _ _ ⟨by omega, by omega⟩ hG (lv_sub hl [1, 2, 3, 4, 0, 6] rfl) hF
      · have hF := ifp hF c_30
        refine lv_iconst (v := 1) hx hb dX0_drawn_193 (by decide) ?_
        refine lv_goto (tgt := 198) hx hb dX0_drawn_194 (by decide) ?_
        exact bX_drawn_198 C0 hRo hk72 _ _ _ _ _ _ _ _ H locs ls _ _ ⟨by omega, by omega⟩ hG (lv_sub hl [1, 2, 3, 4, 0, 6] rfl) hF
    · have hF := ifn hF c_28
      refine lv_iconst (v := 0) hx hb dX0_drawn_100 (by decide) ?_
      refine lv_istore (lv' := [(12, .int 0), (0, .ref L.1), (3, .int x3), (4, .int x4), (6, .int x6), (7, .int x7), (8, .int x8), (9, .int x9), (10, .int x10), (11, .int x11)]) hx hb dX0_drawn_101 hl (by decide) rfl (fun ls hl => ?_)
      exact bX_drawn_103 C0 hRo ih N _ _ _ _ _ _ _ _ _ _ H locs ls _ _ ⟨by omega, by omega⟩ hG (lv_sub hl [1, 2, 3, 4, 5, 6, 7, 8, 9, 0] rfl) hF
theorem bX_drawn_72 {N : Nat} (C0 : xCx p l s m args meth c RX0 cX0_drawn 13 (some .int) L A) (hRo : 213 ≤ R.frames ∧ 12024 ≤ R.locals ∧ 8 ≤ R.cells ∧ 1200 ≤ R.slots) {σ' : xS} {r : Int32} : ∀ (n : Nat) (σ : xS) (x3 : Int32) (x4 : Int32) (x6 : Int32) (x7 : Int32) (x8 : Int32) (x9 : Int32) (H : Heap) (locs : List Loc) (ls : Array Slot) (cells slots : Nat), cells + 0 ≤ 8 ∧ slots + 0 ≤ 1200 →  xG A L g s σ H locs → lv_has ls 13 [(0, .ref L.1), (3, .int x3), (4, .int x4), (6, .int x6), (7, .int x7), (8, .int x8), (9, .int x9)] → fX_drawn_b72 N n σ x3 x4 x6 x7 x8 x9 = some (σ', r) → W p l e R s m args below meth c H locs cells slots (xZ below L g A s args σ' (some (.int r)) 8 1200) (F0 m 72 ls []) := by
  have hx := C0.1
  have hb := C0.2.1
  have hst := C0.2.2.2.2.2.2.2.2.2.2
  intro n
  induction n with
  | zero => intro σ x3 x4 x6 x7 x8 x9 H locs ls cells slots hcs hG hl hF; cases hF
  | succ n ih =>
    intro σ x3 x4 x6 x7 x8 x9 H locs ls cells slots hcs hG hl hF
    unfold fX_drawn_b72 at hF
    refine lv_iload hx hb dX0_drawn_72 (lv_at hl 6 rfl) ?_
    refine lv_iload_n hx hb dX0_drawn_74 rfl (lv_at hl 1 rfl) ?_
    refine lv_bipush (v := 100) hx hb dX0_drawn_75 (by decide) ?_
    obtain ⟨h_21, hF⟩ := chz_of hF
    refine lv_idiv hx hb dX0_drawn_77 h_21 ?_
    refine lv_icmp_ge (tgt := 207) hx hb dX0_drawn_78 (by decide) (fun c_22 => ?_) (fun c_22 => ?_)
    · have hF := ifp hF c_22
      refine lv_iload hx hb dX0_drawn_207 (lv_at hl 2 rfl) ?_
      refine lv_if_ne (tgt := 217) hx hb dX0_drawn_209 (by decide) (fun c_23 => ?_) (fun c_23 => ?_)
      · have hF := ifn hF c_23
        refine lv_iload hx hb dX0_drawn_217 (lv_at hl 5 rfl) ?_
        exact x_iret C0 hG ⟨by omega, by omega⟩ dX0_drawn_219 hF
      · have hF := ifp hF c_23
        refine lv_iload hx hb dX0_drawn_212 (lv_at hl 4 rfl) ?_
        refine lv_goto (tgt := 219) hx hb dX0_drawn_214 (by decide) ?_
        exact x_iret C0 hG ⟨by omega, by omega⟩ dX0_drawn_219 hF
    · have hF := ifn hF c_22
      refine lv_aload_n hx hb dX0_drawn_81 rfl (lv_at hl 0 rfl) ?_
      obtain ⟨σ_24, r_25, e_26, hF⟩ := obi_of hF
      refine x_cVv0 (As := []) (rest := []) C0 hG (mtX_begin l hst e_26) (lw_V q874 q876 qs24 q100 q877) yd_X0_begin (x_rc0 C0 hG) ⟨by omega, by omega⟩ ⟨by omega, by omega⟩ rfl rfl hl.1 (Nat.le_of_ble_eq_true rfl) dX0_drawn_82 (fun H locs hG => ?_)
      refine lv_iconst (v := 0) hx hb dX0_drawn_85 (by decide) ?_
      refine lv_istore (lv' := [(10, .int 0), (0, .ref L.1), (3, .int x3), (4, .int x4), (6, .int x6), (7, .int x7), (8, .int x8), (9, .int x9)]) hx hb dX0_drawn_86 hl (by decide) rfl (fun ls hl => ?_)
      refine lv_iconst (v := 0) hx hb dX0_drawn_88 (by decide) ?_
      refine lv_istore (lv' := [(11, .int 0), (10, .int 0), (0, .ref L.1), (3, .int x3), (4, .int x4), (6, .int x6), (7, .int x7), (8, .int x8), (9, .int x9)]) hx hb dX0_drawn_89 hl (by decide) rfl (fun ls hl => ?_)
      exact bX_drawn_91 C0 hRo ih N _ _ _ _ _ _ _ _ _ H locs ls _ _ ⟨by omega, by omega⟩ hG (lv_sub hl [2, 3, 4, 5, 6, 7, 8, 1, 0] rfl) hF
theorem bX_drawn_e {N : Nat} (C0 : xCx p l s m args meth c RX0 cX0_drawn 13 (some .int) L A) (hRo : 213 ≤ R.frames ∧ 12024 ≤ R.locals ∧ 8 ≤ R.cells ∧ 1200 ≤ R.slots) {σ' : xS} {r : Int32} (σ : xS) (a0 : Int32) (a1 : Int32) (a2 : Int32) (a3 : Int32) (H : Heap) (locs : List Loc) (ls : Array Slot) (cells slots : Nat) (hcs : cells + 8 ≤ 8 ∧ slots + 1200 ≤ 1200) (hG : xG A L g s σ H locs) (hl : lv_has ls 13 [(0, .ref L.1), (1, .int a0), (2, .int a1), (3, .int a2), (4, .int a3)]) (hF : fX_drawn N σ a0 a1 a2 a3 = some (σ', r)) : W p l e R s m args below meth c H locs cells slots (xZ below L g A s args σ' (some (.int r)) 8 1200) (F0 m 0 ls []) := by
  have hx := C0.1
  have hb := C0.2.1
  have hst := C0.2.2.2.2.2.2.2.2.2.2
  unfold fX_drawn at hF
  refine lv_iload_n hx hb dX0_drawn_0 rfl (lv_at hl 1 rfl) ?_
  obtain ⟨σ_1, r_2, e_3, hF⟩ := obi_of hF
  refine x_cSi0 (As := [.int a0]) (rest := []) C0 hG (mtX_isShelf l hst e_3) (lw_S q489 q490 q100 q491) yd_X0_isShelf ⟨by omega, by omega⟩ ⟨by omega, by omega⟩ rfl rfl hl.1 (Nat.le_of_ble_eq_true rfl) dX0_drawn_1 (fun H locs hG => ?_)
  refine lv_if_eq (tgt := 43) hx hb dX0_drawn_4 (by decide) (fun c_4 => ?_) (fun c_4 => ?_)
  · have hF := ifp hF c_4
    refine lv_iconst (v := (-1)) hx hb dX0_drawn_43 (by decide) ?_
    exact x_iret C0 hG ⟨by omega, by omega⟩ dX0_drawn_44 hF
  · have hF := ifn hF c_4
    refine lv_iload_n hx hb dX0_drawn_7 rfl (lv_at hl 3 rfl) ?_
    refine lv_if_lt (tgt := 43) hx hb dX0_drawn_8 (by decide) (fun c_5 => ?_) (fun c_5 => ?_)
    · have hF := ifp hF c_5
      refine lv_iconst (v := (-1)) hx hb dX0_drawn_43 (by decide) ?_
      exact x_iret C0 hG ⟨by omega, by omega⟩ dX0_drawn_44 hF
    · have hF := ifn hF c_5
      refine lv_iload_n hx hb dX0_drawn_11 rfl (lv_at hl 3 rfl) ?_
      refine lv_bipush (v := 100) hx hb dX0_drawn_12 (by decide) ?_
      obtain ⟨h_6, hF⟩ := chz_of hF
      refine lv_idiv hx hb dX0_drawn_14 h_6 ?_
      refine lv_iconst (v := 1) hx hb dX0_drawn_15 (by decide) ?_
      refine lv_bipush (v := 30) hx hb dX0_drawn_16 (by decide) ?_
      obtain ⟨σ_7, r_8, e_9, hF⟩ := obi_of hF
      refine x_cSi0 (As := [.int (a2 / 100), .int 1, .int 30]) (rest := []) C0 hG (mtX_in l hst e_9) (lw_S q316 q317 q100 q318) yd_X0_in ⟨by omega, by omega⟩ ⟨by omega, by omega⟩ rfl rfl hl.1 (Nat.le_of_ble_eq_true rfl) dX0_drawn_18 (fun H locs hG => ?_)
      refine lv_if_eq (tgt := 43) hx hb dX0_drawn_21 (by decide) (fun c_10 => ?_) (fun c_10 => ?_)
      · have hF := ifp hF c_10
        refine lv_iconst (v := (-1)) hx hb dX0_drawn_43 (by decide) ?_
        exact x_iret C0 hG ⟨by omega, by omega⟩ dX0_drawn_44 hF
      · have hF := ifn hF c_10
        refine lv_iload_n hx hb dX0_drawn_24 rfl (lv_at hl 3 rfl) ?_
        refine lv_bipush (v := 100) hx hb dX0_drawn_25 (by decide) ?_
        obtain ⟨h_11, hF⟩ := chz_of hF
        refine lv_irem hx hb dX0_drawn_27 h_11 ?_
        refine lv_bipush (v := 12) hx hb dX0_drawn_28 (by decide) ?_
        refine lv_icmp_gt (tgt := 43) hx hb dX0_drawn_30 (by decide) (fun c_12 => ?_) (fun c_12 => ?_)
        · have hF := ifp hF c_12
          refine lv_iconst (v := (-1)) hx hb dX0_drawn_43 (by decide) ?_
          exact x_iret C0 hG ⟨by omega, by omega⟩ dX0_drawn_44 hF
        · have hF := ifn hF c_12
          refine lv_iload hx hb dX0_drawn_33 (lv_at hl 4 rfl) ?_
          refine lv_iconst (v := 0) hx hb dX0_drawn_35 (by decide) ?_
          refine lv_iconst (v := 1) hx hb dX0_drawn_36 (by decide) ?_
          obtain ⟨σ_13, r_14, e_15, hF⟩ := obi_of hF
          refine x_cSi0 (As := [.int a3, .int 0, .int 1]) (rest := []) C0 hG (mtX_in l hst e_15) (lw_S q316 q317 q100 q318) yd_X0_in ⟨by omega, by omega⟩ ⟨by omega, by omega⟩ rfl rfl hl.1 (Nat.le_of_ble_eq_true rfl) dX0_drawn_37 (fun H locs hG => ?_)
          refine lv_if_ne (tgt := 45) hx hb dX0_drawn_40 (by decide) (fun c_16 => ?_) (fun c_16 => ?_)
          · have hF := ifn hF c_16
            refine lv_aload_n hx hb dX0_drawn_45 rfl (lv_at hl 0 rfl) ?_
            refine lv_iload_n hx hb dX0_drawn_46 rfl (lv_at hl 1 rfl) ?_
            obtain ⟨σ_17, r_18, e_19, hF⟩ := obi_of hF
            refine x_cWi (As := [.int a0]) (rest := []) C0 hG (mtX_layRoutine l hst e_19) (lw_VW q862 q864 qs22 q100 q865) yd_X0_layRoutine (x_rc0 C0 hG) ⟨by omega, by omega⟩ ⟨by omega, by omega⟩ rfl rfl hl.1 (Nat.le_of_ble_eq_true rfl) dX0_drawn_47 (fun H locs hG => ?_)
            refine lv_istore (lv' := [(5, .int r_18), (0, .ref L.1), (1, .int a0), (2, .int a1), (3, .int a2), (4, .int a3)]) hx hb dX0_drawn_50 hl (by decide) rfl (fun ls hl => ?_)
            refine lv_iload hx hb dX0_drawn_52 (lv_at hl 0 rfl) ?_
            refine lv_if_ge (tgt := 60) hx hb dX0_drawn_54 (by decide) (fun c_20 => ?_) (fun c_20 => ?_)
            · have hF := ifp hF c_20
              refine lv_iload_n hx hb dX0_drawn_60 rfl (lv_at hl 3 rfl) ?_
              refine lv_istore (lv' := [(6, .int a1), (5, .int r_18), (0, .ref L.1), (1, .int a0), (2, .int a1), (3, .int a2), (4, .int a3)]) hx hb dX0_drawn_61 hl (by decide) rfl (fun ls hl => ?_)
              refine lv_iconst (v := 0) hx hb dX0_drawn_63 (by decide) ?_
              refine lv_istore (lv' := [(7, .int 0), (6, .int a1), (5, .int r_18), (0, .ref L.1), (1, .int a0), (2, .int a1), (3, .int a2), (4, .int a3)]) hx hb dX0_drawn_64 hl (by decide) rfl (fun ls hl => ?_)
              refine lv_iconst (v := 0) hx hb dX0_drawn_66 (by decide) ?_
              refine lv_istore (lv' := [(8, .int 0), (7, .int 0), (6, .int a1), (5, .int r_18), (0, .ref L.1), (1, .int a0), (2, .int a1), (3, .int a2), (4, .int a3)]) hx hb dX0_drawn_67 hl (by decide) rfl (fun ls hl => ?_)
              refine lv_iconst (v := 0) hx hb dX0_drawn_69 (by decide) ?_
              refine lv_istore (lv' := [(9, .int 0), (8, .int 0), (7, .int 0), (6, .int a1), (5, .int r_18), (0, .ref L.1), (1, .int a0), (2, .int a1), (3, .int a2), (4, .int a3)]) hx hb dX0_drawn_70 hl (by decide) rfl (fun ls hl => ?_)
              exact bX_drawn_72 C0 hRo N _ _ _ _ _ _ _ H locs ls _ _ ⟨by omega, by omega⟩ hG (lv_sub hl [5, 8, 9, 3, 2, 1, 0] rfl) hF
            · have hF := ifn hF c_20
              refine lv_iload hx hb dX0_drawn_57 (lv_at hl 0 rfl) ?_
              exact x_iret C0 hG ⟨by omega, by omega⟩ dX0_drawn_59 hF
          · have hF := ifp hF c_16
            refine lv_iconst (v := (-1)) hx hb dX0_drawn_43 (by decide) ?_
            exact x_iret C0 hG ⟨by omega, by omega⟩ dX0_drawn_44 hF
theorem mtX_drawn (l : Launch) (hst : l.stackTraces = false) {N : Nat} {L : xL} {g : xg} {σ σ' : xS} {r : Int32} {a0 : Int32} {a1 : Int32} {a2 : Int32} {a3 : Int32} (hF : fX_drawn N σ a0 a1 a2 a3 = some (σ', r)) : xMet l yX0_drawn cX0_drawn 13 (some .int) (213) (12024) 8 1200 [.ref L.1, .int a0, .int a1, .int a2, .int a3] L g σ (some (.int r)) σ' := by
  refine x_head hst (by decide) rfl ?_
  intro p e s m below meth c A C0 hG
  have hl := lv_entry ([.ref L.1, .int a0, .int a1, .int a2, .int a3]) (n := 13) (Nat.le_of_ble_eq_true rfl)
  rw [lg_entry_eq]
  generalize (lg_sl ([.ref L.1, .int a0, .int a1, .int a2, .int a3]) ++ List.replicate (13 - (lg_sl ([.ref L.1, .int a0, .int a1, .int a2, .int a3])).length) Slot.unset).toArray = ls at hl ⊢
  have hl : lv_has ls 13 [(0, .ref L.1), (1, .int a0), (2, .int a1), (3, .int a2), (4, .int a3)] := hl
  exact bX_drawn_e C0 ⟨Nat.le_refl _, Nat.le_refl _, Nat.le_refl _, Nat.le_refl _⟩ _ _ _ _ _ _ [] ls 0 0 ⟨Nat.le_of_ble_eq_true rfl, Nat.le_of_ble_eq_true rfl⟩ hG hl hF
def fX_swim_b160 (N : Nat) (k68 : xS → Int32 → Int32 → Int32 → Option (xS × Int32)) (σ : xS) (x3 : Int32) (x4 : Int32) (x5 : Int32) : Option (xS × Int32) :=
  nmv (x5 + 1) fun x_43 =>
  k68 σ x3 x4 x_43
def fX_swim_b131 (N : Nat) (k68 : xS → Int32 → Int32 → Int32 → Option (xS × Int32)) (σ : xS) (x3 : Int32) (x4 : Int32) (x5 : Int32) (x6 : Nat) : Option (xS × Int32) :=
  chl x6 (xn σ) <| nmv (xE σ x6 6) fun x_38 =>
  if 100 ≤ x_38 then (
    chl x6 (xn σ) <| nmv (xSe σ x6 6 0) fun σ_40 =>
    nmv (xI σ_40 30) fun x_41 =>
    nmv (xSi σ_40 30 (x_41 + 1)) fun σ_42 =>
    fX_swim_b160 N k68 σ_42 x3 x4 x5)
  else (
    fX_swim_b160 N k68 σ x3 x4 x5)
def fX_swim_b68 (N : Nat) : Nat → xS → Int32 → Int32 → Int32 → Option (xS × Int32)
  | 0, _, _, _, _ => none
  | n + 1, σ, x3, x4, x5 =>
    nmv (xI σ 1) fun x_22 =>
    if x_22 ≤ x5 then (
      some (σ, x3))
    else (
      chk x5 8 <| chl x5.toNatClampNeg (xn σ) <| nmv x5.toNatClampNeg fun u_24 =>
      chl u_24 (xn σ) <| nmv (xE σ u_24 6) fun x_25 =>
      obi (fX_underMany N σ) fun σ_26 r_27 =>
      chl u_24 (xn σ_26) <| nmv (xSe σ_26 u_24 6 (x_25 + r_27)) fun σ_29 =>
      obi (fX_has N σ_29 x4 x5) fun σ_30 r_31 =>
      if r_31 = 0 then (
        fX_swim_b131 N (fX_swim_b68 N n) σ_30 x3 x4 x5 u_24)
      else (
        chl u_24 (xn σ_30) <| nmv (xE σ_30 u_24 7) fun x_34 =>
        chl u_24 (xn σ_30) <| nmv (xSe σ_30 u_24 7 (x_34 + 1)) fun σ_35 =>
        nmv (xI σ_35 29) fun x_36 =>
        nmv (xSi σ_35 29 (x_36 + 1)) fun σ_37 =>
        fX_swim_b131 N (fX_swim_b68 N n) σ_37 x3 x4 x5 u_24))
def fX_swim (N : Nat) (σ : xS) (a0 : Int32) : Option (xS × Int32) :=
  obi (fX_isShelf N σ a0) fun σ_1 r_2 =>
  if r_2 = 0 then (
    some (σ_1, (-1)))
  else (
    obi (fX_layRoutine N σ_1 a0) fun σ_5 r_6 =>
    if 0 ≤ r_6 then (
      obi (fX_marks N σ_5) fun σ_9 r_10 =>
      obi (fX_allGone N σ_9) fun σ_12 r_13 =>
      nmv (xI σ_12 26) fun x_15 =>
      nmv (xSi σ_12 26 (x_15 + 1)) fun σ_16 =>
      nmv (xI σ_16 27) fun x_17 =>
      nmv (xI σ_16 15) fun x_18 =>
      nmv (xSi σ_16 27 (x_17 + x_18)) fun σ_19 =>
      nmv (xI σ_19 28) fun x_20 =>
      nmv (xSi σ_19 28 (x_20 + r_10)) fun σ_21 =>
      fX_swim_b68 N N σ_21 r_10 r_13 0)
    else (
      some (σ_5, r_6)))
theorem bX_swim_160 {N : Nat} (C0 : xCx p l s m args meth c RX0 cX0_swim 7 (some .int) L A) (hRo : 214 ≤ R.frames ∧ 12024 ≤ R.locals ∧ 8 ≤ R.cells ∧ 1200 ≤ R.slots) {σ' : xS} {r : Int32} {k68 : xS → Int32 → Int32 → Int32 → Option (xS × Int32)} (hk68 : ∀ (σ : xS) (x3 : Int32) (x4 : Int32) (x5 : Int32) (H : Heap) (locs : List Loc) (ls : Array Slot) (cells slots : Nat), cells + 0 ≤ 8 ∧ slots + 0 ≤ 1200 →  xG A L g s σ H locs → lv_has ls 7 [(0, .ref L.1), (3, .int x3), (4, .int x4), (5, .int x5)] → k68 σ x3 x4 x5 = some (σ', r) → W p l e R s m args below meth c H locs cells slots (xZ below L g A s args σ' (some (.int r)) 8 1200) (F0 m 68 ls [])) (σ : xS) (x3 : Int32) (x4 : Int32) (x5 : Int32) (H : Heap) (locs : List Loc) (ls : Array Slot) (cells slots : Nat) (hcs : cells + 0 ≤ 8 ∧ slots + 0 ≤ 1200) (hG : xG A L g s σ H locs) (hl : lv_has ls 7 [(0, .ref L.1), (3, .int x3), (4, .int x4), (5, .int x5)]) (hF : fX_swim_b160 N k68 σ x3 x4 x5 = some (σ', r)) : W p l e R s m args below meth c H locs cells slots (xZ below L g A s args σ' (some (.int r)) 8 1200) (F0 m 160 ls []) := by
  have hx := C0.1
  have hb := C0.2.1
  have hst := C0.2.2.2.2.2.2.2.2.2.2
  unfold fX_swim_b160 at hF
  refine w_iinc hx hb dX0_swim_160 hl 3 rfl (v := 1) (by decide) (by decide) hF (fun x_43 ls hl hF => ?_)
  have hl : lv_has ls 7 [(5, .int x_43), (0, .ref L.1), (3, .int x3), (4, .int x4)] := hl
  refine lv_goto (tgt := 68) hx hb dX0_swim_163 (by decide) ?_
  exact hk68 _ _ _ _ H locs ls _ _ ⟨by omega, by omega⟩ hG (lv_sub hl [1, 2, 3, 0] rfl) hF
theorem bX_swim_131 {N : Nat} (C0 : xCx p l s m args meth c RX0 cX0_swim 7 (some .int) L A) (hRo : 214 ≤ R.frames ∧ 12024 ≤ R.locals ∧ 8 ≤ R.cells ∧ 1200 ≤ R.slots) {σ' : xS} {r : Int32} {k68 : xS → Int32 → Int32 → Int32 → Option (xS × Int32)} (hk68 : ∀ (σ : xS) (x3 : Int32) (x4 : Int32) (x5 : Int32) (H : Heap) (locs : List Loc) (ls : Array Slot) (cells slots : Nat), cells + 0 ≤ 8 ∧ slots + 0 ≤ 1200 →  xG A L g s σ H locs → lv_has ls 7 [(0, .ref L.1), (3, .int x3), (4, .int x4), (5, .int x5)] → k68 σ x3 x4 x5 = some (σ', r) → W p l e R s m args below meth c H locs cells slots (xZ below L g A s args σ' (some (.int r)) 8 1200) (F0 m 68 ls [])) (σ : xS) (x3 : Int32) (x4 : Int32) (x5 : Int32) (x6 : Nat) (H : Heap) (locs : List Loc) (ls : Array Slot) (cells slots : Nat) (hcs : cells + 0 ≤ 8 ∧ slots + 0 ≤ 1200) (hG : xG A L g s σ H locs) (hl : lv_has ls 7 [(0, .ref L.1), (3, .int x3), (4, .int x4), (5, .int x5), (6, .ref (g.1 x6))]) (hF : fX_swim_b131 N k68 σ x3 x4 x5 x6 = some (σ', r)) : W p l e R s m args below meth c H locs cells slots (xZ below L g A s args σ' (some (.int r)) 8 1200) (F0 m 131 ls []) := by
  have hx := C0.1
  have hb := C0.2.1
  have hst := C0.2.2.2.2.2.2.2.2.2.2
  unfold fX_swim_b131 at hF
  refine lv_aload hx hb dX0_swim_131 (lv_at hl 4 rfl) ?_
  refine x_swg C0 hG 6 (by decide) q338 dX0_swim_133 hF (fun x_38 hF => ?_)
  refine lv_bipush (v := 100) hx hb dX0_swim_136 (by decide) ?_
  refine lv_icmp_ge (tgt := 144) hx hb dX0_swim_138 (by decide) (fun c_39 => ?_) (fun c_39 => ?_)
  · have hF := ifp hF c_39
    refine lv_aload hx hb dX0_swim_144 (lv_at hl 4 rfl) ?_
    refine lv_iconst (v := 0) hx hb dX0_swim_146 (by decide) ?_
    refine x_swp C0 hG 6 (by decide) q338 dX0_swim_147 hF (fun σ_40 H locs hG hF => ?_)
    refine lv_aload_n hx hb dX0_swim_150 rfl (lv_at hl 0 rfl) ?_
    refine lv_dup hx hb dX0_swim_151 rfl ?_
    refine x_geti C0 hG 30 (by decide) rfl q206 dX0_swim_152 hF (fun x_41 hF => ?_)
    refine lv_iconst (v := 1) hx hb dX0_swim_155 (by decide) ?_
    refine lv_iadd hx hb dX0_swim_156 ?_
    refine x_puti C0 hG 30 (by decide) rfl q206 dX0_swim_157 (Or.inl (by decide)) hF (fun σ_42 H locs hG hF => ?_)
    exact bX_swim_160 C0 hRo hk68 _ _ _ _ H locs ls _ _ ⟨by omega, by omega⟩ hG (lv_sub hl [0, 1, 2, 3] rfl) hF
  · have hF := ifn hF c_39
    refine lv_goto (tgt := 160) hx hb dX0_swim_141 (by decide) ?_
    exact bX_swim_160 C0 hRo hk68 _ _ _ _ H locs ls _ _ ⟨by omega, by omega⟩ hG (lv_sub hl [0, 1, 2, 3] rfl) hF
theorem bX_swim_68 {N : Nat} (C0 : xCx p l s m args meth c RX0 cX0_swim 7 (some .int) L A) (hRo : 214 ≤ R.frames ∧ 12024 ≤ R.locals ∧ 8 ≤ R.cells ∧ 1200 ≤ R.slots) {σ' : xS} {r : Int32} : ∀ (n : Nat) (σ : xS) (x3 : Int32) (x4 : Int32) (x5 : Int32) (H : Heap) (locs : List Loc) (ls : Array Slot) (cells slots : Nat), cells + 0 ≤ 8 ∧ slots + 0 ≤ 1200 →  xG A L g s σ H locs → lv_has ls 7 [(0, .ref L.1), (3, .int x3), (4, .int x4), (5, .int x5)] → fX_swim_b68 N n σ x3 x4 x5 = some (σ', r) → W p l e R s m args below meth c H locs cells slots (xZ below L g A s args σ' (some (.int r)) 8 1200) (F0 m 68 ls []) := by
  have hx := C0.1
  have hb := C0.2.1
  have hst := C0.2.2.2.2.2.2.2.2.2.2
  intro n
  induction n with
  | zero => intro σ x3 x4 x5 H locs ls cells slots hcs hG hl hF; cases hF
  | succ n ih =>
    intro σ x3 x4 x5 H locs ls cells slots hcs hG hl hF
    unfold fX_swim_b68 at hF
    refine lv_iload hx hb dX0_swim_68 (lv_at hl 3 rfl) ?_
    refine lv_aload_n hx hb dX0_swim_70 rfl (lv_at hl 0 rfl) ?_
    refine x_geti C0 hG 1 (by decide) rfl q175 dX0_swim_71 hF (fun x_22 hF => ?_)
    refine lv_icmp_ge (tgt := 166) hx hb dX0_swim_74 (by decide) (fun c_23 => ?_) (fun c_23 => ?_)
    · have hF := ifp hF c_23
      refine lv_iload_n hx hb dX0_swim_166 rfl (lv_at hl 1 rfl) ?_
      exact x_iret C0 hG ⟨by omega, by omega⟩ dX0_swim_167 hF
    · have hF := ifn hF c_23
      refine lv_aload_n hx hb dX0_swim_77 rfl (lv_at hl 0 rfl) ?_
      refine x_geta C0 hG 0 (by decide) rfl (by decide) q174 dX0_swim_78 ?_
      refine lv_iload hx hb dX0_swim_81 (lv_at hl 3 rfl) ?_
      refine x_swld C0 hG dX0_swim_83 hF (fun u_24 hF => ?_)
      refine lv_astore (lv' := [(6, .ref (g.1 u_24)), (0, .ref L.1), (3, .int x3), (4, .int x4), (5, .int x5)]) hx hb dX0_swim_84 hl (by decide) rfl (fun ls hl => ?_)
      refine lv_aload hx hb dX0_swim_86 (lv_at hl 0 rfl) ?_
      refine lv_dup hx hb dX0_swim_88 rfl ?_
      refine x_swg C0 hG 6 (by decide) q338 dX0_swim_89 hF (fun x_25 hF => ?_)
      refine lv_aload_n hx hb dX0_swim_92 rfl (lv_at hl 1 rfl) ?_
      obtain ⟨σ_26, r_27, e_28, hF⟩ := obi_of hF
      refine x_cVi0 (As := []) (rest := [.int x_25, .ref (g.1 u_24)]) C0 hG (mtX_underMany l hst e_28) (lw_V q1078 q1080 qs48 q100 q1081) yd_X0_underMany (x_rc0 C0 hG) ⟨by omega, by omega⟩ ⟨by omega, by omega⟩ rfl rfl hl.1 (Nat.le_of_ble_eq_true rfl) dX0_swim_93 (fun H locs hG => ?_)
      refine lv_iadd hx hb dX0_swim_96 ?_
      refine x_swp C0 hG 6 (by decide) q338 dX0_swim_97 hF (fun σ_29 H locs hG hF => ?_)
      refine lv_iload hx hb dX0_swim_100 (lv_at hl 3 rfl) ?_
      refine lv_iload hx hb dX0_swim_102 (lv_at hl 4 rfl) ?_
      obtain ⟨σ_30, r_31, e_32, hF⟩ := obi_of hF
      refine x_cSi0 (As := [.int x4, .int x5]) (rest := []) C0 hG (mtX_has l hst e_32) (lw_S q957 q958 q100 q959) yd_X0_has ⟨by omega, by omega⟩ ⟨by omega, by omega⟩ rfl rfl hl.1 (Nat.le_of_ble_eq_true rfl) dX0_swim_104 (fun H locs hG => ?_)
      refine lv_if_eq (tgt := 131) hx hb dX0_swim_107 (by decide) (fun c_33 => ?_) (fun c_33 => ?_)
      · have hF := ifp hF c_33
        exact bX_swim_131 C0 hRo ih _ _ _ _ _ H locs ls _ _ ⟨by omega, by omega⟩ hG (lv_sub hl [1, 2, 3, 4, 0] rfl) hF
      · have hF := ifn hF c_33
        refine lv_aload hx hb dX0_swim_110 (lv_at hl 0 rfl) ?_
        refine lv_dup hx hb dX0_swim_112 rfl ?_
        refine x_swg C0 hG 7 (by decide) q339 dX0_swim_113 hF (fun x_34 hF => ?_)
        refine lv_iconst (v := 1) hx hb dX0_swim_116 (by decide) ?_
        refine lv_iadd hx hb dX0_swim_117 ?_
        refine x_swp C0 hG 7 (by decide) q339 dX0_swim_118 hF (fun σ_35 H locs hG hF => ?_)
        refine lv_aload_n hx hb dX0_swim_121 rfl (lv_at hl 1 rfl) ?_
        refine lv_dup hx hb dX0_swim_122 rfl ?_
        refine x_geti C0 hG 29 (by decide) rfl q205 dX0_swim_123 hF (fun x_36 hF => ?_)
        refine lv_iconst (v := 1) hx hb dX0_swim_126 (by decide) ?_
        refine lv_iadd hx hb dX0_swim_127 ?_
        refine x_puti C0 hG 29 (by decide) rfl q205 dX0_swim_128 (Or.inl (by decide)) hF (fun σ_37 H locs hG hF => ?_)
        exact bX_swim_131 C0 hRo ih _ _ _ _ _ H locs ls _ _ ⟨by omega, by omega⟩ hG (lv_sub hl [1, 2, 3, 4, 0] rfl) hF
theorem bX_swim_e {N : Nat} (C0 : xCx p l s m args meth c RX0 cX0_swim 7 (some .int) L A) (hRo : 214 ≤ R.frames ∧ 12024 ≤ R.locals ∧ 8 ≤ R.cells ∧ 1200 ≤ R.slots) {σ' : xS} {r : Int32} (σ : xS) (a0 : Int32) (H : Heap) (locs : List Loc) (ls : Array Slot) (cells slots : Nat) (hcs : cells + 8 ≤ 8 ∧ slots + 1200 ≤ 1200) (hG : xG A L g s σ H locs) (hl : lv_has ls 7 [(0, .ref L.1), (1, .int a0)]) (hF : fX_swim N σ a0 = some (σ', r)) : W p l e R s m args below meth c H locs cells slots (xZ below L g A s args σ' (some (.int r)) 8 1200) (F0 m 0 ls []) := by
  have hx := C0.1
  have hb := C0.2.1
  have hst := C0.2.2.2.2.2.2.2.2.2.2
  unfold fX_swim at hF
  refine lv_iload_n hx hb dX0_swim_0 rfl (lv_at hl 1 rfl) ?_
  obtain ⟨σ_1, r_2, e_3, hF⟩ := obi_of hF
  refine x_cSi0 (As := [.int a0]) (rest := []) C0 hG (mtX_isShelf l hst e_3) (lw_S q489 q490 q100 q491) yd_X0_isShelf ⟨by omega, by omega⟩ ⟨by omega, by omega⟩ rfl rfl hl.1 (Nat.le_of_ble_eq_true rfl) dX0_swim_1 (fun H locs hG => ?_)
  refine lv_if_ne (tgt := 9) hx hb dX0_swim_4 (by decide) (fun c_4 => ?_) (fun c_4 => ?_)
  · have hF := ifn hF c_4
    refine lv_aload_n hx hb dX0_swim_9 rfl (lv_at hl 0 rfl) ?_
    refine lv_iload_n hx hb dX0_swim_10 rfl (lv_at hl 1 rfl) ?_
    obtain ⟨σ_5, r_6, e_7, hF⟩ := obi_of hF
    refine x_cWi (As := [.int a0]) (rest := []) C0 hG (mtX_layRoutine l hst e_7) (lw_VW q862 q864 qs22 q100 q865) yd_X0_layRoutine (x_rc0 C0 hG) ⟨by omega, by omega⟩ ⟨by omega, by omega⟩ rfl rfl hl.1 (Nat.le_of_ble_eq_true rfl) dX0_swim_11 (fun H locs hG => ?_)
    refine lv_istore_n (lv' := [(2, .int r_6), (0, .ref L.1), (1, .int a0)]) hx hb dX0_swim_14 rfl hl (by decide) rfl (fun ls hl => ?_)
    refine lv_iload_n hx hb dX0_swim_15 rfl (lv_at hl 0 rfl) ?_
    refine lv_if_ge (tgt := 21) hx hb dX0_swim_16 (by decide) (fun c_8 => ?_) (fun c_8 => ?_)
    · have hF := ifp hF c_8
      refine lv_aload_n hx hb dX0_swim_21 rfl (lv_at hl 1 rfl) ?_
      obtain ⟨σ_9, r_10, e_11, hF⟩ := obi_of hF
      refine x_cVi0 (As := []) (rest := []) C0 hG (mtX_marks l hst e_11) (lw_V q870 q872 qs23 q100 q873) yd_X0_marks (x_rc0 C0 hG) ⟨by omega, by omega⟩ ⟨by omega, by omega⟩ rfl rfl hl.1 (Nat.le_of_ble_eq_true rfl) dX0_swim_22 (fun H locs hG => ?_)
      refine lv_istore_n (lv' := [(3, .int r_10), (2, .int r_6), (0, .ref L.1), (1, .int a0)]) hx hb dX0_swim_25 rfl hl (by decide) rfl (fun ls hl => ?_)
      refine lv_aload_n hx hb dX0_swim_26 rfl (lv_at hl 2 rfl) ?_
      obtain ⟨σ_12, r_13, e_14, hF⟩ := obi_of hF
      refine x_cVi0 (As := []) (rest := []) C0 hG (mtX_allGone l hst e_14) (lw_V q926 q928 qs34 q100 q929) yd_X0_allGone (x_rc0 C0 hG) ⟨by omega, by omega⟩ ⟨by omega, by omega⟩ rfl rfl hl.1 (Nat.le_of_ble_eq_true rfl) dX0_swim_27 (fun H locs hG => ?_)
      refine lv_istore (lv' := [(4, .int r_13), (3, .int r_10), (2, .int r_6), (0, .ref L.1), (1, .int a0)]) hx hb dX0_swim_30 hl (by decide) rfl (fun ls hl => ?_)
      refine lv_aload_n hx hb dX0_swim_32 rfl (lv_at hl 3 rfl) ?_
      refine lv_dup hx hb dX0_swim_33 rfl ?_
      refine x_geti C0 hG 26 (by decide) rfl q202 dX0_swim_34 hF (fun x_15 hF => ?_)
      refine lv_iconst (v := 1) hx hb dX0_swim_37 (by decide) ?_
      refine lv_iadd hx hb dX0_swim_38 ?_
      refine x_puti C0 hG 26 (by decide) rfl q202 dX0_swim_39 (Or.inl (by decide)) hF (fun σ_16 H locs hG hF => ?_)
      refine lv_aload_n hx hb dX0_swim_42 rfl (lv_at hl 3 rfl) ?_
      refine lv_dup hx hb dX0_swim_43 rfl ?_
      refine x_geti C0 hG 27 (by decide) rfl q203 dX0_swim_44 hF (fun x_17 hF => ?_)
      refine lv_aload_n hx hb dX0_swim_47 rfl (lv_at hl 3 rfl) ?_
      refine x_geti C0 hG 15 (by decide) rfl q191 dX0_swim_48 hF (fun x_18 hF => ?_)
      refine lv_iadd hx hb dX0_swim_51 ?_
      refine x_puti C0 hG 27 (by decide) rfl q203 dX0_swim_52 (Or.inl (by decide)) hF (fun σ_19 H locs hG hF => ?_)
      refine lv_aload_n hx hb dX0_swim_55 rfl (lv_at hl 3 rfl) ?_
      refine lv_dup hx hb dX0_swim_56 rfl ?_
      refine x_geti C0 hG 28 (by decide) rfl q204 dX0_swim_57 hF (fun x_20 hF => ?_)
      refine lv_iload_n hx hb dX0_swim_60 rfl (lv_at hl 1 rfl) ?_
      refine lv_iadd hx hb dX0_swim_61 ?_
      refine x_puti C0 hG 28 (by decide) rfl q204 dX0_swim_62 (Or.inl (by decide)) hF (fun σ_21 H locs hG hF => ?_)
      refine lv_iconst (v := 0) hx hb dX0_swim_65 (by decide) ?_
      refine lv_istore (lv' := [(5, .int 0), (4, .int r_13), (3, .int r_10), (2, .int r_6), (0, .ref L.1), (1, .int a0)]) hx hb dX0_swim_66 hl (by decide) rfl (fun ls hl => ?_)
      exact bX_swim_68 C0 hRo N _ _ _ _ H locs ls _ _ ⟨by omega, by omega⟩ hG (lv_sub hl [4, 2, 1, 0] rfl) hF
    · have hF := ifn hF c_8
      refine lv_iload_n hx hb dX0_swim_19 rfl (lv_at hl 0 rfl) ?_
      exact x_iret C0 hG ⟨by omega, by omega⟩ dX0_swim_20 hF
  · have hF := ifp hF c_4
    refine lv_iconst (v := (-1)) hx hb dX0_swim_7 (by decide) ?_
    exact x_iret C0 hG ⟨by omega, by omega⟩ dX0_swim_8 hF
theorem mtX_swim (l : Launch) (hst : l.stackTraces = false) {N : Nat} {L : xL} {g : xg} {σ σ' : xS} {r : Int32} {a0 : Int32} (hF : fX_swim N σ a0 = some (σ', r)) : xMet l yX0_swim cX0_swim 7 (some .int) (214) (12024) 8 1200 [.ref L.1, .int a0] L g σ (some (.int r)) σ' := by
  refine x_head hst (by decide) rfl ?_
  intro p e s m below meth c A C0 hG
  have hl := lv_entry ([.ref L.1, .int a0]) (n := 7) (Nat.le_of_ble_eq_true rfl)
  rw [lg_entry_eq]
  generalize (lg_sl ([.ref L.1, .int a0]) ++ List.replicate (7 - (lg_sl ([.ref L.1, .int a0])).length) Slot.unset).toArray = ls at hl ⊢
  have hl : lv_has ls 7 [(0, .ref L.1), (1, .int a0)] := hl
  exact bX_swim_e C0 ⟨Nat.le_refl _, Nat.le_refl _, Nat.le_refl _, Nat.le_refl _⟩ _ _ _ [] ls 0 0 ⟨Nat.le_of_ble_eq_true rfl, Nat.le_of_ble_eq_true rfl⟩ hG hl hF
end XWALK9
