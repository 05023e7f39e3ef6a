section MWALK14
variable {p : Program} {l : Launch} {e : Env} {R : Room} {s : State} {m : MethodId} {args : Array Value} {below : List Frame} {meth : Method} {c : Code} {A : Nat → Prop}
variable {L : mL}
def fM_shift_b188 (N : Nat) : Nat → mS → Int32 → Int32 → Int32 → Int32 → Int32 → Int32 → Option (mS × Int32)
  | 0, _, _, _, _, _, _, _ => none
  | n + 1, σ, x1, x2, x3, x4, x5, x6 =>
    if x5 ≤ x6 then (
      some (σ, x5))
    else (
      nmv ((((60 : Int32) * x1) + x2) + x6) fun x_40 =>
      chk x_40 360 <| nmv (σ.2.2 x_40.toNatClampNeg) fun x_41 =>
      chk ((((60 : Int32) * x3) + x4) + x6) 360 <| nmv (mSl σ ((((60 : Int32) * x3) + x4) + x6).toNatClampNeg x_41) fun σ_42 =>
      nmv (x6 + 1) fun x_43 =>
      (fM_shift_b188 N n) σ_42 x1 x2 x3 x4 x5 x_43)
def fM_shift_b185 (N : Nat) (σ : mS) (x1 : Int32) (x2 : Int32) (x3 : Int32) (x4 : Int32) (x5 : Int32) : Option (mS × Int32) :=
  fM_shift_b188 N N σ x1 x2 x3 x4 x5 0
def fM_shift_b142 (N : Nat) : Nat → mS → Int32 → Int32 → Int32 → Int32 → Int32 → Int32 → Option (mS × Int32)
  | 0, _, _, _, _, _, _, _ => none
  | n + 1, σ, x1, x2, x3, x4, x5, x6 =>
    if x6 < 0 then (
      some (σ, x5))
    else (
      nmv ((((60 : Int32) * x1) + x2) + x6) fun x_35 =>
      chk x_35 360 <| nmv (σ.2.2 x_35.toNatClampNeg) fun x_36 =>
      chk ((((60 : Int32) * x3) + x4) + x6) 360 <| nmv (mSl σ ((((60 : Int32) * x3) + x4) + x6).toNatClampNeg x_36) fun σ_37 =>
      nmv (x6 + (-1)) fun x_38 =>
      (fM_shift_b142 N n) σ_37 x1 x2 x3 x4 x5 x_38)
def fM_shift (N : Nat) (σ : mS) (a0 : Int32) (a1 : Int32) (a2 : Int32) (a3 : Int32) (a4 : Int32) : Option (mS × Int32) :=
  obi (fM_isShelf N σ a0) fun σ_1 r_2 =>
  if r_2 = 0 then (
    some (σ_1, (-1)))
  else (
    obi (fM_isShelf N σ_1 a2) fun σ_5 r_6 =>
    if r_6 = 0 then (
      some (σ_5, (-1)))
    else (
      chk a0 6 <| nmv (σ_5.2.1 41 a0.toNatClampNeg) fun x_9 =>
      if x_9 = (-1) then (
        some (σ_5, (-11)))
      else (
        chk a2 6 <| nmv (σ_5.2.1 41 a2.toNatClampNeg) fun x_11 =>
        if x_11 = (-1) then (
          some (σ_5, (-11)))
        else (
          obi (fM_isRow N σ_5 a0) fun σ_13 r_14 =>
          if r_14 = 0 then (
            some (σ_13, (-12)))
          else (
            obi (fM_isRow N σ_13 a2) fun σ_17 r_18 =>
            if r_18 = 0 then (
              some (σ_17, (-12)))
            else (
              chk a0 6 <| nmv (σ_17.2.1 41 a0.toNatClampNeg) fun x_21 =>
              chk a2 6 <| nmv (σ_17.2.1 41 a2.toNatClampNeg) fun x_22 =>
              if x_21 = x_22 then (
                if a4 < 0 then (
                  some (σ_17, (-13)))
                else (
                  if a1 < 0 then (
                    some (σ_17, (-13)))
                  else (
                    if a3 < 0 then (
                      some (σ_17, (-13)))
                    else (
                      chk a0 6 <| nmv (σ_17.2.1 42 a0.toNatClampNeg) fun x_27 =>
                      if 0 < (lg_cmp ((a1.toInt64) + (a4.toInt64)) (x_27.toInt64)) then (
                        some (σ_17, (-13)))
                      else (
                        chk a2 6 <| nmv (σ_17.2.1 42 a2.toNatClampNeg) fun x_29 =>
                        if (lg_cmp ((a3.toInt64) + (a4.toInt64)) (x_29.toInt64)) ≤ 0 then (
                          if a0 = a2 then (
                            if a3 ≤ a1 then (
                              fM_shift_b185 N σ_17 a0 a1 a2 a3 a4)
                            else (
                              nmv (a4 - 1) fun x_33 =>
                              fM_shift_b142 N N σ_17 a0 a1 a2 a3 a4 x_33))
                          else (
                            fM_shift_b185 N σ_17 a0 a1 a2 a3 a4))
                        else (
                          some (σ_17, (-13))))))))
              else (
                some (σ_17, (-12)))))))))
theorem bM_shift_188 {N : Nat} (C0 : mCx p s m args meth c cX2_shift 7 (some .int) L A) (hRo : 2 ≤ R.frames ∧ 43 ≤ R.locals) {σ' : mS} {r : Int32} : ∀ (n : Nat) (σ : mS) (x1 : Int32) (x2 : Int32) (x3 : Int32) (x4 : Int32) (x5 : Int32) (x6 : Int32) (H : Heap) (locs : List Loc) (ls : Array Slot), mG A L s σ H locs → lv_has ls 7 [(0, .ref L.1), (1, .int x1), (2, .int x2), (3, .int x3), (4, .int x4), (5, .int x5), (6, .int x6)] → fM_shift_b188 N n σ x1 x2 x3 x4 x5 x6 = some (σ', r) → W p l e R s m args below meth c H locs 0 0 (mZ below L A s args σ' (some (.int r))) (F0 m 188 ls []) := by
  have hx := C0.1
  have hb := C0.2.1
  intro n
  induction n with
  | zero => intro σ x1 x2 x3 x4 x5 x6 H locs ls hG hl hF; cases hF
  | succ n ih =>
    intro σ x1 x2 x3 x4 x5 x6 H locs ls hG hl hF
    unfold fM_shift_b188 at hF
    refine lv_iload hx hb dX2_shift_188 (lv_at hl 6 rfl) ?_
    refine lv_iload hx hb dX2_shift_190 (lv_at hl 5 rfl) ?_
    refine lv_icmp_ge (tgt := 230) hx hb dX2_shift_192 (by decide) (fun c_39 => ?_) (fun c_39 => ?_)
    · have hF := ifp hF c_39
      refine lv_iload hx hb dX2_shift_230 (lv_at hl 5 rfl) ?_
      exact m_iret C0 hG dX2_shift_232 hF
    · have hF := ifn hF c_39
      refine lv_aload_n hx hb dX2_shift_195 rfl (lv_at hl 0 rfl) ?_
      refine m_geta C0 hG 43 (by decide) rfl q1621 dX2_shift_196 ?_
      refine lv_bipush (v := 60) hx hb dX2_shift_199 (by decide) ?_
      refine lv_iload_n hx hb dX2_shift_201 rfl (lv_at hl 3 rfl) ?_
      refine lv_imul hx hb dX2_shift_202 ?_
      refine lv_iload hx hb dX2_shift_203 (lv_at hl 4 rfl) ?_
      refine lv_iadd hx hb dX2_shift_205 ?_
      refine lv_iload hx hb dX2_shift_206 (lv_at hl 6 rfl) ?_
      refine lv_iadd hx hb dX2_shift_208 ?_
      refine lv_aload_n hx hb dX2_shift_209 rfl (lv_at hl 0 rfl) ?_
      refine m_geta C0 hG 43 (by decide) rfl q1621 dX2_shift_210 ?_
      refine lv_bipush (v := 60) hx hb dX2_shift_213 (by decide) ?_
      refine lv_iload_n hx hb dX2_shift_215 rfl (lv_at hl 1 rfl) ?_
      refine lv_imul hx hb dX2_shift_216 ?_
      refine lv_iload_n hx hb dX2_shift_217 rfl (lv_at hl 2 rfl) ?_
      refine lv_iadd hx hb dX2_shift_218 ?_
      refine lv_iload hx hb dX2_shift_219 (lv_at hl 6 rfl) ?_
      refine lv_iadd hx hb dX2_shift_221 ?_
      refine w_nm hF (fun x_40 hF => ?_)
      refine m_ldl C0 hG dX2_shift_222 hF (fun x_41 hF => ?_)
      refine m_stl C0 hG dX2_shift_223 hF (fun σ_42 H locs hG hF => ?_)
      refine w_iinc hx hb dX2_shift_224 hl 6 rfl (v := 1) (by decide) (by decide) hF (fun x_43 ls hl hF => ?_)
      have hl : lv_has ls 7 [(6, .int x_43), (0, .ref L.1), (1, .int x1), (2, .int x2), (3, .int x3), (4, .int x4), (5, .int x5)] := hl
      refine lv_goto (tgt := 188) hx hb dX2_shift_227 (by decide) ?_
      exact ih _ _ _ _ _ _ _ H locs ls hG (lv_sub hl [1, 2, 3, 4, 5, 6, 0] rfl) hF
theorem bM_shift_185 {N : Nat} (C0 : mCx p s m args meth c cX2_shift 7 (some .int) L A) (hRo : 2 ≤ R.frames ∧ 43 ≤ R.locals) {σ' : mS} {r : Int32} (σ : mS) (x1 : Int32) (x2 : Int32) (x3 : Int32) (x4 : Int32) (x5 : Int32) (H : Heap) (locs : List Loc) (ls : Array Slot) (hG : mG A L s σ H locs) (hl : lv_has ls 7 [(0, .ref L.1), (1, .int x1), (2, .int x2), (3, .int x3), (4, .int x4), (5, .int x5)]) (hF : fM_shift_b185 N σ x1 x2 x3 x4 x5 = some (σ', r)) : W p l e R s m args below meth c H locs 0 0 (mZ below L A s args σ' (some (.int r))) (F0 m 185 ls []) := by
  have hx := C0.1
  have hb := C0.2.1
  unfold fM_shift_b185 at hF
  refine lv_iconst (v := 0) hx hb dX2_shift_185 (by decide) ?_
  refine lv_istore (lv' := [(6, .int 0), (0, .ref L.1), (1, .int x1), (2, .int x2), (3, .int x3), (4, .int x4), (5, .int x5)]) hx hb dX2_shift_186 hl (by decide) rfl (fun ls hl => ?_)
  exact bM_shift_188 C0 hRo N _ _ _ _ _ _ _ H locs ls hG (lv_sub hl [1, 2, 3, 4, 5, 6, 0] rfl) hF
theorem bM_shift_142 {N : Nat} (C0 : mCx p s m args meth c cX2_shift 7 (some .int) L A) (hRo : 2 ≤ R.frames ∧ 43 ≤ R.locals) {σ' : mS} {r : Int32} : ∀ (n : Nat) (σ : mS) (x1 : Int32) (x2 : Int32) (x3 : Int32) (x4 : Int32) (x5 : Int32) (x6 : Int32) (H : Heap) (locs : List Loc) (ls : Array Slot), mG A L s σ H locs → lv_has ls 7 [(0, .ref L.1), (1, .int x1), (2, .int x2), (3, .int x3), (4, .int x4), (5, .int x5), (6, .int x6)] → fM_shift_b142 N n σ x1 x2 x3 x4 x5 x6 = some (σ', r) → W p l e R s m args below meth c H locs 0 0 (mZ below L A s args σ' (some (.int r))) (F0 m 142 ls []) := by
  have hx := C0.1
  have hb := C0.2.1
  intro n
  induction n with
  | zero => intro σ x1 x2 x3 x4 x5 x6 H locs ls hG hl hF; cases hF
  | succ n ih =>
    intro σ x1 x2 x3 x4 x5 x6 H locs ls hG hl hF
    unfold fM_shift_b142 at hF
    refine lv_iload hx hb dX2_shift_142 (lv_at hl 6 rfl) ?_
    refine lv_if_lt (tgt := 182) hx hb dX2_shift_144 (by decide) (fun c_34 => ?_) (fun c_34 => ?_)
    · have hF := ifp hF c_34
      refine lv_goto (tgt := 230) hx hb dX2_shift_182 (by decide) ?_
      refine lv_iload hx hb dX2_shift_230 (lv_at hl 5 rfl) ?_
      exact m_iret C0 hG dX2_shift_232 hF
    · have hF := ifn hF c_34
      refine lv_aload_n hx hb dX2_shift_147 rfl (lv_at hl 0 rfl) ?_
      refine m_geta C0 hG 43 (by decide) rfl q1621 dX2_shift_148 ?_
      refine lv_bipush (v := 60) hx hb dX2_shift_151 (by decide) ?_
      refine lv_iload_n hx hb dX2_shift_153 rfl (lv_at hl 3 rfl) ?_
      refine lv_imul hx hb dX2_shift_154 ?_
      refine lv_iload hx hb dX2_shift_155 (lv_at hl 4 rfl) ?_
      refine lv_iadd hx hb dX2_shift_157 ?_
      refine lv_iload hx hb dX2_shift_158 (lv_at hl 6 rfl) ?_
      refine lv_iadd hx hb dX2_shift_160 ?_
      refine lv_aload_n hx hb dX2_shift_161 rfl (lv_at hl 0 rfl) ?_
      refine m_geta C0 hG 43 (by decide) rfl q1621 dX2_shift_162 ?_
      refine lv_bipush (v := 60) hx hb dX2_shift_165 (by decide) ?_
      refine lv_iload_n hx hb dX2_shift_167 rfl (lv_at hl 1 rfl) ?_
      refine lv_imul hx hb dX2_shift_168 ?_
      refine lv_iload_n hx hb dX2_shift_169 rfl (lv_at hl 2 rfl) ?_
      refine lv_iadd hx hb dX2_shift_170 ?_
      refine lv_iload hx hb dX2_shift_171 (lv_at hl 6 rfl) ?_
      refine lv_iadd hx hb dX2_shift_173 ?_
      refine w_nm hF (fun x_35 hF => ?_)
      refine m_ldl C0 hG dX2_shift_174 hF (fun x_36 hF => ?_)
      refine m_stl C0 hG dX2_shift_175 hF (fun σ_37 H locs hG hF => ?_)
      refine w_iinc hx hb dX2_shift_176 hl 6 rfl (v := (-1)) (by decide) (by decide) hF (fun x_38 ls hl hF => ?_)
      have hl : lv_has ls 7 [(6, .int x_38), (0, .ref L.1), (1, .int x1), (2, .int x2), (3, .int x3), (4, .int x4), (5, .int x5)] := hl
      refine lv_goto (tgt := 142) hx hb dX2_shift_179 (by decide) ?_
      exact ih _ _ _ _ _ _ _ H locs ls hG (lv_sub hl [1, 2, 3, 4, 5, 6, 0] rfl) hF
theorem bM_shift_e {N : Nat} (C0 : mCx p s m args meth c cX2_shift 7 (some .int) L A) (hRo : 2 ≤ R.frames ∧ 43 ≤ R.locals) {σ' : mS} {r : Int32} (σ : mS) (a0 : Int32) (a1 : Int32) (a2 : Int32) (a3 : Int32) (a4 : Int32) (H : Heap) (locs : List Loc) (ls : Array Slot) (hG : mG A L s σ H locs) (hl : lv_has ls 7 [(0, .ref L.1), (1, .int a0), (2, .int a1), (3, .int a2), (4, .int a3), (5, .int a4)]) (hF : fM_shift N σ a0 a1 a2 a3 a4 = some (σ', r)) : W p l e R s m args below meth c H locs 0 0 (mZ below L A s args σ' (some (.int r))) (F0 m 0 ls []) := by
  have hx := C0.1
  have hb := C0.2.1
  unfold fM_shift at hF
  refine lv_iload_n hx hb dX2_shift_0 rfl (lv_at hl 1 rfl) ?_
  obtain ⟨σ_1, r_2, e_3, hF⟩ := obi_of hF
  refine m_cSi (As := [.int a0]) (rest := []) C0 hG (mtM_isShelf l e_3) (lw_S q1762 q1763 q102 q1764) yd_X2_isShelf ⟨by omega, by omega⟩ rfl rfl hl.1 (Nat.le_of_ble_eq_true rfl) dX2_shift_1 (fun H locs hG => ?_)
  refine lv_if_eq (tgt := 14) hx hb dX2_shift_4 (by decide) (fun c_4 => ?_) (fun c_4 => ?_)
  · have hF := ifp hF c_4
    refine lv_iconst (v := (-1)) hx hb dX2_shift_14 (by decide) ?_
    exact m_iret C0 hG dX2_shift_15 hF
  · have hF := ifn hF c_4
    refine lv_iload_n hx hb dX2_shift_7 rfl (lv_at hl 3 rfl) ?_
    obtain ⟨σ_5, r_6, e_7, hF⟩ := obi_of hF
    refine m_cSi (As := [.int a2]) (rest := []) C0 hG (mtM_isShelf l e_7) (lw_S q1762 q1763 q102 q1764) yd_X2_isShelf ⟨by omega, by omega⟩ rfl rfl hl.1 (Nat.le_of_ble_eq_true rfl) dX2_shift_8 (fun H locs hG => ?_)
    refine lv_if_ne (tgt := 16) hx hb dX2_shift_11 (by decide) (fun c_8 => ?_) (fun c_8 => ?_)
    · have hF := ifn hF c_8
      refine lv_aload_n hx hb dX2_shift_16 rfl (lv_at hl 0 rfl) ?_
      refine m_geta C0 hG 41 (by decide) rfl q1619 dX2_shift_17 ?_
      refine lv_iload_n hx hb dX2_shift_20 rfl (lv_at hl 1 rfl) ?_
      refine m_ld C0 hG 41 ⟨by decide, rfl, by decide⟩ dX2_shift_21 hF (fun x_9 hF => ?_)
      refine lv_iconst (v := (-1)) hx hb dX2_shift_22 (by decide) ?_
      refine lv_icmp_eq (tgt := 36) hx hb dX2_shift_23 (by decide) (fun c_10 => ?_) (fun c_10 => ?_)
      · have hF := ifp hF c_10
        refine lv_bipush (v := (-11)) hx hb dX2_shift_36 (by decide) ?_
        exact m_iret C0 hG dX2_shift_38 hF
      · have hF := ifn hF c_10
        refine lv_aload_n hx hb dX2_shift_26 rfl (lv_at hl 0 rfl) ?_
        refine m_geta C0 hG 41 (by decide) rfl q1619 dX2_shift_27 ?_
        refine lv_iload_n hx hb dX2_shift_30 rfl (lv_at hl 3 rfl) ?_
        refine m_ld C0 hG 41 ⟨by decide, rfl, by decide⟩ dX2_shift_31 hF (fun x_11 hF => ?_)
        refine lv_iconst (v := (-1)) hx hb dX2_shift_32 (by decide) ?_
        refine lv_icmp_ne (tgt := 39) hx hb dX2_shift_33 (by decide) (fun c_12 => ?_) (fun c_12 => ?_)
        · have hF := ifn hF c_12
          refine lv_aload_n hx hb dX2_shift_39 rfl (lv_at hl 0 rfl) ?_
          refine lv_iload_n hx hb dX2_shift_40 rfl (lv_at hl 1 rfl) ?_
          obtain ⟨σ_13, r_14, e_15, hF⟩ := obi_of hF
          refine m_cVi (As := [.int a0]) (rest := []) C0 hG (mtM_isRow l e_15) (lw_V q2113 q2115 qs98 q102 q2116) yd_X2_isRow ⟨by omega, by omega⟩ rfl rfl hl.1 (Nat.le_of_ble_eq_true rfl) dX2_shift_41 (fun H locs hG => ?_)
          refine lv_if_eq (tgt := 70) hx hb dX2_shift_44 (by decide) (fun c_16 => ?_) (fun c_16 => ?_)
          · have hF := ifp hF c_16
            refine lv_bipush (v := (-12)) hx hb dX2_shift_70 (by decide) ?_
            exact m_iret C0 hG dX2_shift_72 hF
          · have hF := ifn hF c_16
            refine lv_aload_n hx hb dX2_shift_47 rfl (lv_at hl 0 rfl) ?_
            refine lv_iload_n hx hb dX2_shift_48 rfl (lv_at hl 3 rfl) ?_
            obtain ⟨σ_17, r_18, e_19, hF⟩ := obi_of hF
            refine m_cVi (As := [.int a2]) (rest := []) C0 hG (mtM_isRow l e_19) (lw_V q2113 q2115 qs98 q102 q2116) yd_X2_isRow ⟨by omega, by omega⟩ rfl rfl hl.1 (Nat.le_of_ble_eq_true rfl) dX2_shift_49 (fun H locs hG => ?_)
            refine lv_if_eq (tgt := 70) hx hb dX2_shift_52 (by decide) (fun c_20 => ?_) (fun c_20 => ?_)
            · have hF := ifp hF c_20
              refine lv_bipush (v := (-12)) hx hb dX2_shift_70 (by decide) ?_
              exact m_iret C0 hG dX2_shift_72 hF
            · have hF := ifn hF c_20
              refine lv_aload_n hx hb dX2_shift_55 rfl (lv_at hl 0 rfl) ?_
              refine m_geta C0 hG 41 (by decide) rfl q1619 dX2_shift_56 ?_
              refine lv_iload_n hx hb dX2_shift_59 rfl (lv_at hl 1 rfl) ?_
              refine m_ld C0 hG 41 ⟨by decide, rfl, by decide⟩ dX2_shift_60 hF (fun x_21 hF => ?_)
              refine lv_aload_n hx hb dX2_shift_61 rfl (lv_at hl 0 rfl) ?_
              refine m_geta C0 hG 41 (by decide) rfl q1619 dX2_shift_62 ?_
              refine lv_iload_n hx hb dX2_shift_65 rfl (lv_at hl 3 rfl) ?_
              refine m_ld C0 hG 41 ⟨by decide, rfl, by decide⟩ dX2_shift_66 hF (fun x_22 hF => ?_)
              refine lv_icmp_eq (tgt := 73) hx hb dX2_shift_67 (by decide) (fun c_23 => ?_) (fun c_23 => ?_)
              · have hF := ifp hF c_23
                refine lv_iload hx hb dX2_shift_73 (lv_at hl 5 rfl) ?_
                refine lv_if_lt (tgt := 122) hx hb dX2_shift_75 (by decide) (fun c_24 => ?_) (fun c_24 => ?_)
                · have hF := ifp hF c_24
                  refine lv_bipush (v := (-13)) hx hb dX2_shift_122 (by decide) ?_
                  exact m_iret C0 hG dX2_shift_124 hF
                · have hF := ifn hF c_24
                  refine lv_iload_n hx hb dX2_shift_78 rfl (lv_at hl 2 rfl) ?_
                  refine lv_if_lt (tgt := 122) hx hb dX2_shift_79 (by decide) (fun c_25 => ?_) (fun c_25 => ?_)
                  · have hF := ifp hF c_25
                    refine lv_bipush (v := (-13)) hx hb dX2_shift_122 (by decide) ?_
                    exact m_iret C0 hG dX2_shift_124 hF
                  · have hF := ifn hF c_25
                    refine lv_iload hx hb dX2_shift_82 (lv_at hl 4 rfl) ?_
                    refine lv_if_lt (tgt := 122) hx hb dX2_shift_84 (by decide) (fun c_26 => ?_) (fun c_26 => ?_)
                    · have hF := ifp hF c_26
                      refine lv_bipush (v := (-13)) hx hb dX2_shift_122 (by decide) ?_
                      exact m_iret C0 hG dX2_shift_124 hF
                    · have hF := ifn hF c_26
                      refine lv_iload_n hx hb dX2_shift_87 rfl (lv_at hl 2 rfl) ?_
                      refine lv_i2l (v := a1.toInt64) hx hb dX2_shift_88 rfl ?_
                      refine lv_iload hx hb dX2_shift_89 (lv_at hl 5 rfl) ?_
                      refine lv_i2l (v := a4.toInt64) hx hb dX2_shift_91 rfl ?_
                      refine lv_ladd hx hb dX2_shift_92 ?_
                      refine lv_aload_n hx hb dX2_shift_93 rfl (lv_at hl 0 rfl) ?_
                      refine m_geta C0 hG 42 (by decide) rfl q1620 dX2_shift_94 ?_
                      refine lv_iload_n hx hb dX2_shift_97 rfl (lv_at hl 1 rfl) ?_
                      refine m_ld C0 hG 42 ⟨by decide, rfl, by decide⟩ dX2_shift_98 hF (fun x_27 hF => ?_)
                      refine lv_i2l (v := x_27.toInt64) hx hb dX2_shift_99 rfl ?_
                      refine W.lcmp hx hb dX2_shift_100 ?_
                      refine lv_if_gt (tgt := 122) hx hb dX2_shift_101 (by decide) (fun c_28 => ?_) (fun c_28 => ?_)
                      · have hF := ifp hF c_28
                        refine lv_bipush (v := (-13)) hx hb dX2_shift_122 (by decide) ?_
                        exact m_iret C0 hG dX2_shift_124 hF
                      · have hF := ifn hF c_28
                        refine lv_iload hx hb dX2_shift_104 (lv_at hl 4 rfl) ?_
                        refine lv_i2l (v := a3.toInt64) hx hb dX2_shift_106 rfl ?_
                        refine lv_iload hx hb dX2_shift_107 (lv_at hl 5 rfl) ?_
                        refine lv_i2l (v := a4.toInt64) hx hb dX2_shift_109 rfl ?_
                        refine lv_ladd hx hb dX2_shift_110 ?_
                        refine lv_aload_n hx hb dX2_shift_111 rfl (lv_at hl 0 rfl) ?_
                        refine m_geta C0 hG 42 (by decide) rfl q1620 dX2_shift_112 ?_
                        refine lv_iload_n hx hb dX2_shift_115 rfl (lv_at hl 3 rfl) ?_
                        refine m_ld C0 hG 42 ⟨by decide, rfl, by decide⟩ dX2_shift_116 hF (fun x_29 hF => ?_)
                        refine lv_i2l (v := x_29.toInt64) hx hb dX2_shift_117 rfl ?_
                        refine W.lcmp hx hb dX2_shift_118 ?_
                        refine lv_if_le (tgt := 125) hx hb dX2_shift_119 (by decide) (fun c_30 => ?_) (fun c_30 => ?_)
                        · have hF := ifp hF c_30
                          refine lv_iload_n hx hb dX2_shift_125 rfl (lv_at hl 1 rfl) ?_
                          refine lv_iload_n hx hb dX2_shift_126 rfl (lv_at hl 3 rfl) ?_
                          refine lv_icmp_ne (tgt := 185) hx hb dX2_shift_127 (by decide) (fun c_31 => ?_) (fun c_31 => ?_)
                          · have hF := ifn hF c_31
                            exact bM_shift_185 C0 hRo _ _ _ _ _ _ H locs ls hG (lv_sub hl [0, 1, 2, 3, 4, 5] rfl) hF
                          · have hF := ifp hF c_31
                            refine lv_iload_n hx hb dX2_shift_130 rfl (lv_at hl 2 rfl) ?_
                            refine lv_iload hx hb dX2_shift_131 (lv_at hl 4 rfl) ?_
                            refine lv_icmp_ge (tgt := 185) hx hb dX2_shift_133 (by decide) (fun c_32 => ?_) (fun c_32 => ?_)
                            · have hF := ifp hF c_32
                              exact bM_shift_185 C0 hRo _ _ _ _ _ _ H locs ls hG (lv_sub hl [0, 1, 2, 3, 4, 5] rfl) hF
                            · have hF := ifn hF c_32
                              refine lv_iload hx hb dX2_shift_136 (lv_at hl 5 rfl) ?_
                              refine lv_iconst (v := 1) hx hb dX2_shift_138 (by decide) ?_
                              refine lv_isub hx hb dX2_shift_139 ?_
                              refine w_nm hF (fun x_33 hF => ?_)
                              refine lv_istore (lv' := [(6, .int x_33), (0, .ref L.1), (1, .int a0), (2, .int a1), (3, .int a2), (4, .int a3), (5, .int a4)]) hx hb dX2_shift_140 hl (by decide) rfl (fun ls hl => ?_)
                              exact bM_shift_142 C0 hRo N _ _ _ _ _ _ _ H locs ls hG (lv_sub hl [1, 2, 3, 4, 5, 6, 0] rfl) hF
                        · have hF := ifn hF c_30
                          refine lv_bipush (v := (-13)) hx hb dX2_shift_122 (by decide) ?_
                          exact m_iret C0 hG dX2_shift_124 hF
              · have hF := ifn hF c_23
                refine lv_bipush (v := (-12)) hx hb dX2_shift_70 (by decide) ?_
                exact m_iret C0 hG dX2_shift_72 hF
        · have hF := ifp hF c_12
          refine lv_bipush (v := (-11)) hx hb dX2_shift_36 (by decide) ?_
          exact m_iret C0 hG dX2_shift_38 hF
    · have hF := ifp hF c_8
      refine lv_iconst (v := (-1)) hx hb dX2_shift_14 (by decide) ?_
      exact m_iret C0 hG dX2_shift_15 hF
theorem mtM_shift (l : Launch) {N : Nat} {L : mL} {σ σ' : mS} {r : Int32} {a0 : Int32} {a1 : Int32} {a2 : Int32} {a3 : Int32} {a4 : Int32} (hF : fM_shift N σ a0 a1 a2 a3 a4 = some (σ', r)) : mMet l yX2_shift cX2_shift 7 (some .int) (2) (43) [.ref L.1, .int a0, .int a1, .int a2, .int a3, .int a4] L σ (some (.int r)) σ' := by
  refine m_head (by decide) rfl ?_
  intro p e s m below meth c A C0 hG
  have hl := lv_entry ([.ref L.1, .int a0, .int a1, .int a2, .int a3, .int a4]) (n := 7) (Nat.le_of_ble_eq_true rfl)
  rw [lg_entry_eq]
  generalize (lg_sl ([.ref L.1, .int a0, .int a1, .int a2, .int a3, .int a4]) ++ List.replicate (7 - (lg_sl ([.ref L.1, .int a0, .int a1, .int a2, .int a3, .int a4])).length) Slot.unset).toArray = ls at hl ⊢
  have hl : lv_has ls 7 [(0, .ref L.1), (1, .int a0), (2, .int a1), (3, .int a2), (4, .int a3), (5, .int a4)] := hl
  exact bM_shift_e C0 ⟨Nat.le_refl _, Nat.le_refl _⟩ _ _ _ _ _ _ _ [] ls hG hl hF
def fM_taken_b82 (N : Nat) (σ : mS) (x2 : Int32) (x3 : Int32) (x4 : Int32) : Option (mS × Int32) :=
  if x4 = x2 then (
    some (σ, x3))
  else (
    some (σ, (-12)))
def fM_taken_b61 (N : Nat) : Nat → mS → Int32 → Int32 → Int32 → Option (mS × Int32)
  | 0, _, _, _, _ => none
  | n + 1, σ, x2, x3, x4 =>
    if x4 = x2 then (
      fM_taken_b82 N σ x2 x3 x4)
    else (
      if x4 ≤ 0 then (
        fM_taken_b82 N σ x2 x3 x4)
      else (
        obi (fM_above N σ x4) fun σ_20 r_21 =>
        (fM_taken_b61 N n) σ_20 x2 x3 r_21))
def fM_taken (N : Nat) (σ : mS) (a0 : Int32) (a1 : Int32) : Option (mS × Int32) :=
  obi (fM_isShelf N σ a0) fun σ_1 r_2 =>
  if r_2 = 0 then (
    some (σ_1, (-1)))
  else (
    obi (fM_within N σ_1 a1 0 7) fun σ_5 r_6 =>
    if r_6 = 0 then (
      some (σ_5, (-1)))
    else (
      chk a0 6 <| nmv (σ_5.2.1 41 a0.toNatClampNeg) fun x_9 =>
      if x_9 = (-1) then (
        some (σ_5, (-11)))
      else (
        obi (fM_isRow N σ_5 a0) fun σ_11 r_12 =>
        if r_12 = 0 then (
          chk a0 6 <| nmv (σ_11.2.1 41 a0.toNatClampNeg) fun x_15 =>
          nmv (x_15 - 10) fun x_16 =>
          chk x_16 50 <| nmv (σ_11.2.1 38 x_16.toNatClampNeg) fun x_17 =>
          fM_taken_b61 N N σ_11 a1 x_17 x_17)
        else (
          some (σ_11, (-12))))))
theorem bM_taken_82 {N : Nat} (C0 : mCx p s m args meth c cX2_taken 5 (some .int) L A) (hRo : 2 ≤ R.frames ∧ 43 ≤ R.locals) {σ' : mS} {r : Int32} (σ : mS) (x2 : Int32) (x3 : Int32) (x4 : Int32) (H : Heap) (locs : List Loc) (ls : Array Slot) (hG : mG A L s σ H locs) (hl : lv_has ls 5 [(2, .int x2), (3, .int x3), (4, .int x4)]) (hF : fM_taken_b82 N σ x2 x3 x4 = some (σ', r)) : W p l e R s m args below meth c H locs 0 0 (mZ below L A s args σ' (some (.int r))) (F0 m 82 ls []) := by
  have hx := C0.1
  have hb := C0.2.1
  unfold fM_taken_b82 at hF
  refine lv_iload hx hb dX2_taken_82 (lv_at hl 2 rfl) ?_
  refine lv_iload_n hx hb dX2_taken_84 rfl (lv_at hl 0 rfl) ?_
  refine lv_icmp_ne (tgt := 92) hx hb dX2_taken_85 (by decide) (fun c_23 => ?_) (fun c_23 => ?_)
  · have hF := ifn hF c_23
    refine lv_bipush (v := (-12)) hx hb dX2_taken_92 (by decide) ?_
    exact m_iret C0 hG dX2_taken_94 hF
  · have hF := ifp hF c_23
    refine lv_iload_n hx hb dX2_taken_88 rfl (lv_at hl 1 rfl) ?_
    refine lv_goto (tgt := 94) hx hb dX2_taken_89 (by decide) ?_
    exact m_iret C0 hG dX2_taken_94 hF
theorem bM_taken_61 {N : Nat} (C0 : mCx p s m args meth c cX2_taken 5 (some .int) L A) (hRo : 2 ≤ R.frames ∧ 43 ≤ R.locals) {σ' : mS} {r : Int32} : ∀ (n : Nat) (σ : mS) (x2 : Int32) (x3 : Int32) (x4 : Int32) (H : Heap) (locs : List Loc) (ls : Array Slot), mG A L s σ H locs → lv_has ls 5 [(2, .int x2), (3, .int x3), (4, .int x4)] → fM_taken_b61 N n σ x2 x3 x4 = some (σ', r) → W p l e R s m args below meth c H locs 0 0 (mZ below L A s args σ' (some (.int r))) (F0 m 61 ls []) := by
  have hx := C0.1
  have hb := C0.2.1
  intro n
  induction n with
  | zero => intro σ x2 x3 x4 H locs ls hG hl hF; cases hF
  | succ n ih =>
    intro σ x2 x3 x4 H locs ls hG hl hF
    unfold fM_taken_b61 at hF
    refine lv_iload hx hb dX2_taken_61 (lv_at hl 2 rfl) ?_
    refine lv_iload_n hx hb dX2_taken_63 rfl (lv_at hl 0 rfl) ?_
    refine lv_icmp_eq (tgt := 82) hx hb dX2_taken_64 (by decide) (fun c_18 => ?_) (fun c_18 => ?_)
    · have hF := ifp hF c_18
      exact bM_taken_82 C0 hRo _ _ _ _ H locs ls hG (lv_sub hl [0, 1, 2] rfl) hF
    · have hF := ifn hF c_18
      refine lv_iload hx hb dX2_taken_67 (lv_at hl 2 rfl) ?_
      refine lv_if_le (tgt := 82) hx hb dX2_taken_69 (by decide) (fun c_19 => ?_) (fun c_19 => ?_)
      · have hF := ifp hF c_19
        exact bM_taken_82 C0 hRo _ _ _ _ H locs ls hG (lv_sub hl [0, 1, 2] rfl) hF
      · have hF := ifn hF c_19
        refine lv_iload hx hb dX2_taken_72 (lv_at hl 2 rfl) ?_
        obtain ⟨σ_20, r_21, e_22, hF⟩ := obi_of hF
        refine m_cSi (As := [.int x4]) (rest := []) C0 hG (mtM_above l e_22) (lw_S q2082 q2083 q102 q2084) yd_X2_above ⟨by omega, by omega⟩ rfl rfl hl.1 (Nat.le_of_ble_eq_true rfl) dX2_taken_74 (fun H locs hG => ?_)
        refine lv_istore (lv' := [(4, .int r_21), (2, .int x2), (3, .int x3)]) hx hb dX2_taken_77 hl (by decide) rfl (fun ls hl => ?_)
        refine lv_goto (tgt := 61) hx hb dX2_taken_79 (by decide) ?_
        exact ih _ _ _ _ H locs ls hG (lv_sub hl [1, 2, 0] rfl) hF
theorem bM_taken_e {N : Nat} (C0 : mCx p s m args meth c cX2_taken 5 (some .int) L A) (hRo : 2 ≤ R.frames ∧ 43 ≤ R.locals) {σ' : mS} {r : Int32} (σ : mS) (a0 : Int32) (a1 : Int32) (H : Heap) (locs : List Loc) (ls : Array Slot) (hG : mG A L s σ H locs) (hl : lv_has ls 5 [(0, .ref L.1), (1, .int a0), (2, .int a1)]) (hF : fM_taken N σ a0 a1 = some (σ', r)) : W p l e R s m args below meth c H locs 0 0 (mZ below L A s args σ' (some (.int r))) (F0 m 0 ls []) := by
  have hx := C0.1
  have hb := C0.2.1
  unfold fM_taken at hF
  refine lv_iload_n hx hb dX2_taken_0 rfl (lv_at hl 1 rfl) ?_
  obtain ⟨σ_1, r_2, e_3, hF⟩ := obi_of hF
  refine m_cSi (As := [.int a0]) (rest := []) C0 hG (mtM_isShelf l e_3) (lw_S q1762 q1763 q102 q1764) yd_X2_isShelf ⟨by omega, by omega⟩ rfl rfl hl.1 (Nat.le_of_ble_eq_true rfl) dX2_taken_1 (fun H locs hG => ?_)
  refine lv_if_eq (tgt := 17) hx hb dX2_taken_4 (by decide) (fun c_4 => ?_) (fun c_4 => ?_)
  · have hF := ifp hF c_4
    refine lv_iconst (v := (-1)) hx hb dX2_taken_17 (by decide) ?_
    exact m_iret C0 hG dX2_taken_18 hF
  · have hF := ifn hF c_4
    refine lv_iload_n hx hb dX2_taken_7 rfl (lv_at hl 2 rfl) ?_
    refine lv_iconst (v := 0) hx hb dX2_taken_8 (by decide) ?_
    refine lv_bipush (v := 7) hx hb dX2_taken_9 (by decide) ?_
    obtain ⟨σ_5, r_6, e_7, hF⟩ := obi_of hF
    refine m_cSi (As := [.int a1, .int 0, .int 7]) (rest := []) C0 hG (mtM_within l e_7) (lw_S q1751 q1752 q102 q1753) yd_X2_within ⟨by omega, by omega⟩ rfl rfl hl.1 (Nat.le_of_ble_eq_true rfl) dX2_taken_11 (fun H locs hG => ?_)
    refine lv_if_ne (tgt := 19) hx hb dX2_taken_14 (by decide) (fun c_8 => ?_) (fun c_8 => ?_)
    · have hF := ifn hF c_8
      refine lv_aload_n hx hb dX2_taken_19 rfl (lv_at hl 0 rfl) ?_
      refine m_geta C0 hG 41 (by decide) rfl q1619 dX2_taken_20 ?_
      refine lv_iload_n hx hb dX2_taken_23 rfl (lv_at hl 1 rfl) ?_
      refine m_ld C0 hG 41 ⟨by decide, rfl, by decide⟩ dX2_taken_24 hF (fun x_9 hF => ?_)
      refine lv_iconst (v := (-1)) hx hb dX2_taken_25 (by decide) ?_
      refine lv_icmp_ne (tgt := 32) hx hb dX2_taken_26 (by decide) (fun c_10 => ?_) (fun c_10 => ?_)
      · have hF := ifn hF c_10
        refine lv_aload_n hx hb dX2_taken_32 rfl (lv_at hl 0 rfl) ?_
        refine lv_iload_n hx hb dX2_taken_33 rfl (lv_at hl 1 rfl) ?_
        obtain ⟨σ_11, r_12, e_13, hF⟩ := obi_of hF
        refine m_cVi (As := [.int a0]) (rest := []) C0 hG (mtM_isRow l e_13) (lw_V q2113 q2115 qs98 q102 q2116) yd_X2_isRow ⟨by omega, by omega⟩ rfl rfl hl.1 (Nat.le_of_ble_eq_true rfl) dX2_taken_34 (fun H locs hG => ?_)
        refine lv_if_eq (tgt := 43) hx hb dX2_taken_37 (by decide) (fun c_14 => ?_) (fun c_14 => ?_)
        · have hF := ifp hF c_14
          refine lv_aload_n hx hb dX2_taken_43 rfl (lv_at hl 0 rfl) ?_
          refine m_geta C0 hG 38 (by decide) rfl q1616 dX2_taken_44 ?_
          refine lv_aload_n hx hb dX2_taken_47 rfl (lv_at hl 0 rfl) ?_
          refine m_geta C0 hG 41 (by decide) rfl q1619 dX2_taken_48 ?_
          refine lv_iload_n hx hb dX2_taken_51 rfl (lv_at hl 1 rfl) ?_
          refine m_ld C0 hG 41 ⟨by decide, rfl, by decide⟩ dX2_taken_52 hF (fun x_15 hF => ?_)
          refine lv_bipush (v := 10) hx hb dX2_taken_53 (by decide) ?_
          refine lv_isub hx hb dX2_taken_55 ?_
          refine w_nm hF (fun x_16 hF => ?_)
          refine m_ld C0 hG 38 ⟨by decide, rfl, by decide⟩ dX2_taken_56 hF (fun x_17 hF => ?_)
          refine lv_istore_n (lv' := [(3, .int x_17), (0, .ref L.1), (1, .int a0), (2, .int a1)]) hx hb dX2_taken_57 rfl hl (by decide) rfl (fun ls hl => ?_)
          refine lv_iload_n hx hb dX2_taken_58 rfl (lv_at hl 0 rfl) ?_
          refine lv_istore (lv' := [(4, .int x_17), (3, .int x_17), (0, .ref L.1), (1, .int a0), (2, .int a1)]) hx hb dX2_taken_59 hl (by decide) rfl (fun ls hl => ?_)
          exact bM_taken_61 C0 hRo N _ _ _ _ H locs ls hG (lv_sub hl [4, 1, 0] rfl) hF
        · have hF := ifn hF c_14
          refine lv_bipush (v := (-12)) hx hb dX2_taken_40 (by decide) ?_
          exact m_iret C0 hG dX2_taken_42 hF
      · have hF := ifp hF c_10
        refine lv_bipush (v := (-11)) hx hb dX2_taken_29 (by decide) ?_
        exact m_iret C0 hG dX2_taken_31 hF
    · have hF := ifp hF c_8
      refine lv_iconst (v := (-1)) hx hb dX2_taken_17 (by decide) ?_
      exact m_iret C0 hG dX2_taken_18 hF
theorem mtM_taken (l : Launch) {N : Nat} {L : mL} {σ σ' : mS} {r : Int32} {a0 : Int32} {a1 : Int32} (hF : fM_taken N σ a0 a1 = some (σ', r)) : mMet l yX2_taken cX2_taken 5 (some .int) (2) (43) [.ref L.1, .int a0, .int a1] L σ (some (.int r)) σ' := by
  refine m_head (by decide) rfl ?_
  intro p e s m below meth c A C0 hG
  have hl := lv_entry ([.ref L.1, .int a0, .int a1]) (n := 5) (Nat.le_of_ble_eq_true rfl)
  rw [lg_entry_eq]
  generalize (lg_sl ([.ref L.1, .int a0, .int a1]) ++ List.replicate (5 - (lg_sl ([.ref L.1, .int a0, .int a1])).length) Slot.unset).toArray = ls at hl ⊢
  have hl : lv_has ls 5 [(0, .ref L.1), (1, .int a0), (2, .int a1)] := hl
  exact bM_taken_e C0 ⟨Nat.le_refl _, Nat.le_refl _⟩ _ _ _ _ [] ls hG hl hF
def fM_count (N : Nat) (σ : mS) (a0 : Int32) : Option (mS × Int32) :=
  if a0 = 0 then (
    nmv (σ.1 0) fun x_2 =>
    some (σ, x_2))
  else (
  if a0 = 1 then (
    nmv (σ.1 10) fun x_4 =>
    some (σ, x_4))
  else (
  if a0 = 2 then (
    nmv (σ.1 35) fun x_6 =>
    some (σ, x_6))
  else (
  if a0 = 3 then (
    nmv (σ.1 37) fun x_8 =>
    some (σ, x_8))
  else (
  if a0 = 4 then (
    nmv (σ.1 39) fun x_10 =>
    some (σ, x_10))
  else (
    some (σ, (-1)))))))
theorem bM_count_e {N : Nat} (C0 : mCx p s m args meth c cX2_count 2 (some .int) L A) (hRo : 0 ≤ R.frames ∧ 0 ≤ R.locals) {σ' : mS} {r : Int32} (σ : mS) (a0 : Int32) (H : Heap) (locs : List Loc) (ls : Array Slot) (hG : mG A L s σ H locs) (hl : lv_has ls 2 [(0, .ref L.1), (1, .int a0)]) (hF : fM_count N σ a0 = some (σ', r)) : W p l e R s m args below meth c H locs 0 0 (mZ below L A s args σ' (some (.int r))) (F0 m 0 ls []) := by
  have hx := C0.1
  have hb := C0.2.1
  unfold fM_count at hF
  refine lv_iload_n hx hb dX2_count_0 rfl (lv_at hl 1 rfl) ?_
  by_cases c_1 : a0 = 0
  · have hF := ifp hF c_1
    refine lv_tableIn (off := 35) (tgt := 36) hx hb dX2_count_1 (by rw [c_1]; decide) (by rw [c_1]; decide) (by rw [c_1]; rfl) (by decide) ?_
    refine lv_aload_n hx hb dX2_count_36 rfl (lv_at hl 0 rfl) ?_
    refine m_geti C0 hG 0 (by decide) rfl q1578 dX2_count_37 hF (fun x_2 hF => ?_)
    exact m_iret C0 hG dX2_count_40 hF
  have hF := ifn hF c_1
  by_cases c_3 : a0 = 1
  · have hF := ifp hF c_3
    refine lv_tableIn (off := 40) (tgt := 41) hx hb dX2_count_1 (by rw [c_3]; decide) (by rw [c_3]; decide) (by rw [c_3]; rfl) (by decide) ?_
    refine lv_aload_n hx hb dX2_count_41 rfl (lv_at hl 0 rfl) ?_
    refine m_geti C0 hG 10 (by decide) rfl q1588 dX2_count_42 hF (fun x_4 hF => ?_)
    exact m_iret C0 hG dX2_count_45 hF
  have hF := ifn hF c_3
  by_cases c_5 : a0 = 2
  · have hF := ifp hF c_5
    refine lv_tableIn (off := 45) (tgt := 46) hx hb dX2_count_1 (by rw [c_5]; decide) (by rw [c_5]; decide) (by rw [c_5]; rfl) (by decide) ?_
    refine lv_aload_n hx hb dX2_count_46 rfl (lv_at hl 0 rfl) ?_
    refine m_geti C0 hG 35 (by decide) rfl q1613 dX2_count_47 hF (fun x_6 hF => ?_)
    exact m_iret C0 hG dX2_count_50 hF
  have hF := ifn hF c_5
  by_cases c_7 : a0 = 3
  · have hF := ifp hF c_7
    refine lv_tableIn (off := 50) (tgt := 51) hx hb dX2_count_1 (by rw [c_7]; decide) (by rw [c_7]; decide) (by rw [c_7]; rfl) (by decide) ?_
    refine lv_aload_n hx hb dX2_count_51 rfl (lv_at hl 0 rfl) ?_
    refine m_geti C0 hG 37 (by decide) rfl q1615 dX2_count_52 hF (fun x_8 hF => ?_)
    exact m_iret C0 hG dX2_count_55 hF
  have hF := ifn hF c_7
  by_cases c_9 : a0 = 4
  · have hF := ifp hF c_9
    refine lv_tableIn (off := 55) (tgt := 56) hx hb dX2_count_1 (by rw [c_9]; decide) (by rw [c_9]; decide) (by rw [c_9]; rfl) (by decide) ?_
    refine lv_aload_n hx hb dX2_count_56 rfl (lv_at hl 0 rfl) ?_
    refine m_geti C0 hG 39 (by decide) rfl q1617 dX2_count_57 hF (fun x_10 hF => ?_)
    exact m_iret C0 hG dX2_count_60 hF
  have hF := ifn hF c_9
  refine lv_tableOut (tgt := 61) hx hb dX2_count_1 (sw_out (fun q_ => by
      have zc_1 := lv_neT c_1 (show ((0 : Int32)).toInt = 0 from by decide)
      have zc_3 := lv_neT c_3 (show ((1 : Int32)).toInt = 1 from by decide)
      have zc_5 := lv_neT c_5 (show ((2 : Int32)).toInt = 2 from by decide)
      have zc_7 := lv_neT c_7 (show ((3 : Int32)).toInt = 3 from by decide)
      have zc_9 := lv_neT c_9 (show ((4 : Int32)).toInt = 4 from by decide)
      omega)) (by decide) ?_
  refine lv_iconst (v := (-1)) hx hb dX2_count_61 (by decide) ?_
  exact m_iret C0 hG dX2_count_62 hF
theorem mtM_count (l : Launch) {N : Nat} {L : mL} {σ σ' : mS} {r : Int32} {a0 : Int32} (hF : fM_count N σ a0 = some (σ', r)) : mMet l yX2_count cX2_count 2 (some .int) (0) (0) [.ref L.1, .int a0] L σ (some (.int r)) σ' := by
  refine m_head (by decide) rfl ?_
  intro p e s m below meth c A C0 hG
  have hl := lv_entry ([.ref L.1, .int a0]) (n := 2) (Nat.le_of_ble_eq_true rfl)
  rw [lg_entry_eq]
  generalize (lg_sl ([.ref L.1, .int a0]) ++ List.replicate (2 - (lg_sl ([.ref L.1, .int a0])).length) Slot.unset).toArray = ls at hl ⊢
  have hl : lv_has ls 2 [(0, .ref L.1), (1, .int a0)] := hl
  exact bM_count_e C0 ⟨Nat.le_refl _, Nat.le_refl _⟩ _ _ _ [] ls hG hl hF
end MWALK14
