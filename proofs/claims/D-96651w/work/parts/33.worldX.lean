/-! The class's world. State: ints by field; int and byte arrays by field (44: the named facts); swimmers' ints; how many swimmers; changes' ints; how many places of changes are filled; kinds of bodies; how many; shelves: (0 nothing, 1..5 a row of a sort, 6 + body; length; content); the law's lines as codes -/
abbrev xS : Type := (Nat → Int32) × (Nat → Nat → Int32) × (Nat → Nat → Int32) × Nat × (Nat → Nat → Int32) × Nat × (Nat → Nat) × Nat × (Nat → Nat × Nat × (Nat → Int64)) × Option (List (List Int32 × List Int32))
abbrev xI (σ : xS) : Nat → Int32 := σ.1
abbrev xJ (σ : xS) : Nat → Nat → Int32 := σ.2.1
abbrev xE (σ : xS) : Nat → Nat → Int32 := σ.2.2.1
abbrev xn (σ : xS) : Nat := σ.2.2.2.1
abbrev xC (σ : xS) : Nat → Nat → Int32 := σ.2.2.2.2.1
abbrev xm (σ : xS) : Nat := σ.2.2.2.2.2.1
abbrev xB (σ : xS) : Nat → Nat := σ.2.2.2.2.2.2.1
abbrev xk (σ : xS) : Nat := σ.2.2.2.2.2.2.2.1
abbrev xH (σ : xS) : Nat → Nat × Nat × (Nat → Int64) := σ.2.2.2.2.2.2.2.2.1
abbrev xY (σ : xS) : Option (List (List Int32 × List Int32)) := σ.2.2.2.2.2.2.2.2.2
abbrev xSi (σ : xS) (k : Nat) (v : Int32) : xS := (upd σ.1 k v, σ.2)
abbrev xSj (σ : xS) (k i : Nat) (v : Int32) : xS := (σ.1, va_up σ.2.1 k (upd (σ.2.1 k) i v), σ.2.2)
abbrev xSe (σ : xS) (i k : Nat) (v : Int32) : xS := (σ.1, σ.2.1, va_up σ.2.2.1 i (upd (σ.2.2.1 i) k v), σ.2.2.2)
/-- places: this; the cells that its fields hold; classes, their slots; array classes (int, byte, short, long, boolean, Swimmer, Change, Beat, Held) -/
abbrev xL : Type := Nat × (Nat → Nat) × (Nat → ClassId) × (Nat → Nat → Nat) × (Nat → ClassId)
/-- places that come: swimmers, changes, bodies, rows and their arrays, the law's first line, and each own cell's label -/
abbrev xg : Type := (Nat → Nat) × (Nat → Nat) × (Nat → Nat) × (Nat → Nat × Nat) × Option Nat × (Nat → Nat)
abbrev xT (g : xg) : Nat → Nat := g.2.2.2.2.2
def xRef (k : Nat) : Bool := match k with
  | 0 => true
  | 5 => true
  | 8 => true
  | 10 => true
  | 11 => true
  | 12 => true
  | 13 => true
  | 14 => true
  | 21 => true
  | 22 => true
  | 24 => true
  | 32 => true
  | 40 => true
  | 41 => true
  | 43 => true
  | _ => false
def xPa (k : Nat) : Bool := match k with
  | 8 => true
  | 12 => true
  | 13 => true
  | 14 => true
  | 21 => true
  | 22 => true
  | 24 => true
  | 32 => true
  | 40 => true
  | 44 => true
  | _ => false
def xAk (k : Nat) : Nat := match k with
  | 8 => 1
  | 40 => 1
  | _ => 0
def xLen (k : Nat) : Nat := match k with
  | 8 => 120
  | 12 => 60
  | 13 => 8
  | 14 => 64
  | 21 => 8
  | 22 => 8
  | 24 => 60
  | 32 => 16
  | 40 => 24
  | 44 => 128
  | _ => 0
def xV (L : xL) (g : xg) (σ : xS) : Nat → Value := fun k => if k = 10 then va_rf g.2.2.2.2.1 else if xRef k = true then .ref (L.2.1 k) else .int (xI σ k)
abbrev xq (n : Nat) (f : Nat → Option Nat) : vp_A := (n, .inr (.inr (.inr (.inr f))))
def xbN (kd : Nat) : Nat := match kd with
  | 0 => 2
  | 1 => 3
  | 2 => 3
  | 3 => 4
  | 4 => 4
  | 5 => 5
  | 6 => 3
  | _ => 5
/-- a body's object -/
def xBody (L : xL) (H : Heap) (kd i q : Nat) : Prop := kd < 8 ∧ t_OB q (L.2.2.1 (14 + kd)) (xbN kd) (L.2.2.2.1 (14 + kd)) H (fun k => if k = 0 then .int (nI i) else .ref L.1)
/-- a row's array, by its sort + 1 -/
def xRowA (L : xL) (t n : Nat) (f : Nat → Int64) : Cell := match t with
  | 1 => vp_cell (L.2.2.2.2 1) (n, .inl (fun i => (f i).toInt32))
  | 2 => vp_cell (L.2.2.2.2 2) (n, .inl (fun i => (f i).toInt32))
  | 3 => vp_cell (L.2.2.2.2 0) (n, .inl (fun i => (f i).toInt32))
  | 4 => vp_cell (L.2.2.2.2 3) (n, .inr (.inl f))
  | _ => vp_cell (L.2.2.2.2 4) (n, .inl (fun i => (f i).toInt32))
def xShR (g : xg) (j : Nat) (h : Nat × Nat × (Nat → Int64)) : Option Nat := if h.1 = 0 then none else if h.1 < 6 then some (g.2.2.2.1 j).1 else some (g.2.2.1 (h.1 - 6))
/-- what lies on shelf j -/
def xShelf (L : xL) (g : xg) (nb : Nat) (H : Heap) (j : Nat) (h : Nat × Nat × (Nat → Int64)) : Prop :=
  (h.1 ≠ 0 → h.1 < 6 → h.2.1 ≤ 60 ∧ t_OB (g.2.2.2.1 j).1 (L.2.2.1 (22 + h.1)) 1 (L.2.2.2.1 (22 + h.1)) H (fun _ => .ref (g.2.2.2.1 j).2) ∧ H[(g.2.2.2.1 j).2]? = some (xRowA L h.1 h.2.1 h.2.2) ∧ xT g (g.2.2.2.1 j).1 = 300 + j ∧ xT g (g.2.2.2.1 j).2 = 310 + j ∧ (h.1 ≠ 4 → ∀ i, (h.2.2 i).toInt32.toInt64 = h.2.2 i)) ∧ (6 ≤ h.1 → h.1 - 6 < nb)
/-- a node of the law stands for its code: numbers told 18 + n, names 0 .. 5, signs 6 .. 17 -/
def xSign (s : Int32) : Int32 := if s = 124 then 6 else if s = 38 then 7 else if s = 60 then 8 else if s = 61 then 9 else if s = 62 then 10 else if s = 43 then 11 else if s = 45 then 12 else if s = 42 then 13 else if s = 47 then 14 else 15
def xName (c : Int32) : Int32 := if c = 111 then 0 else if c = 101 then 1 else if c = 100 then 2 else if c = 116 then 3 else if c = 107 then 4 else 5
def xNode (L : xL) (T : Nat → Nat) (H : Heap) : Nat → Nat → List Int32 → Prop
  | 0, _, _ => False
  | d + 1, q, c => T q = 202 ∧ ((∃ v : Nat, v < 10000 ∧ c = [nI (18 + v)] ∧ t_OB q (L.2.2.1 11) 1 (L.2.2.2.1 11) H (fun _ => .int (nI v))) ∨
    (∃ k : Int32, (k = 111 ∨ k = 101 ∨ k = 100 ∨ k = 116 ∨ k = 107 ∨ k = 115) ∧ c = [xName k] ∧ t_OB q (L.2.2.1 8) 1 (L.2.2.2.1 8) H (fun _ => .int k)) ∨
    (∃ (a : Nat) (ca : List Int32), c = ca ++ [16] ∧ t_OB q (L.2.2.1 9) 1 (L.2.2.2.1 9) H (fun _ => .ref a) ∧ xNode L T H d a ca) ∨
    (∃ (a : Nat) (ca : List Int32), c = ca ++ [17] ∧ t_OB q (L.2.2.1 10) 1 (L.2.2.2.1 10) H (fun _ => .ref a) ∧ xNode L T H d a ca) ∨
    (∃ (sg : Int32) (a b : Nat) (ca cb : List Int32), (sg = 124 ∨ sg = 38 ∨ sg = 60 ∨ sg = 61 ∨ sg = 62 ∨ sg = 43 ∨ sg = 45 ∨ sg = 42 ∨ sg = 47 ∨ sg = 37) ∧ c = ca ++ cb ++ [xSign sg] ∧ t_OB q (L.2.2.1 12) 3 (L.2.2.2.1 12) H (fun k => if k = 0 then .int sg else if k = 1 then .ref a else .ref b) ∧ xNode L T H d a ca ∧ xNode L T H d b cb))
def xLine (L : xL) (T : Nat → Nat) (H : Heap) : List (List Int32 × List Int32) → Option Nat → Prop
  | [], r => r = none
  | x :: xs, r => ∃ (q gn : Nat) (tn nx : Option Nat), r = some q ∧ T q = 202 ∧ t_OB q (L.2.2.1 6) 3 (L.2.2.2.1 6) H (fun k => if k = 0 then va_rf tn else if k = 1 then .ref gn else va_rf nx) ∧ ((tn = none ∧ x.1 = []) ∨ ∃ tq, tn = some tq ∧ xNode L T H 200 tq x.1) ∧ xNode L T H 200 gn x.2 ∧ xLine L T H xs nx
/-- the cells that only few methods write -/
def xRest (L : xL) (g : xg) (C : Nat → Nat → Int32) (nm : Nat) (B : Nat → Nat) (nb : Nat) (S : Nat → Nat × Nat × (Nat → Int64)) (Y : Option (List (List Int32 × List Int32))) (H : Heap) : Prop :=
  (H[L.2.1 5]? = some (vp_cell (L.2.2.2.2 6) (xq 40 (fun i => if i < nm then some (g.2.1 i) else none))) ∧ nm ≤ 40 ∧ ∀ i, i < nm → t_OB (g.2.1 i) (L.2.2.1 4) 4 (L.2.2.2.1 4) H (fun k => .int (C i k))) ∧
  (H[L.2.1 41]? = some (vp_cell (L.2.2.2.2 7) (xq 50 (fun i => if i < nb then some (g.2.2.1 i) else none))) ∧ nb ≤ 50 ∧ ∀ i, i < nb → xBody L H (B i) i (g.2.2.1 i)) ∧
  (H[L.2.1 43]? = some (vp_cell (L.2.2.2.2 8) (xq 6 (fun j => if j < 6 then xShR g j (S j) else none))) ∧ ∀ j, j < 6 → xShelf L g nb H j (S j)) ∧
  (xLine L (xT g) H (Y.getD []) g.2.2.2.2.1 ∧ ((Y = none → g.2.2.2.2.1 = none) ∧ (Y ≠ none → Y.getD [] ≠ [])))
/-- labels: this 1, the cells of its fields 2 + k, swimmers 100 + i, changes 200, bodies 201, the law 202, rows 300 + j, their arrays 310 + j -/
def xLab (L : xL) (g : xg) (n nm nb : Nat) : Prop := xT g L.1 = 1 ∧ (∀ k, k < 45 → k ≠ 10 → (xRef k = true ∨ k = 44) → xT g (L.2.1 k) = 2 + k) ∧ (∀ i, i < n → xT g (g.1 i) = 100 + i) ∧ (∀ i, i < nm → xT g (g.2.1 i) = 200) ∧ (∀ i, i < nb → xT g (g.2.2.1 i) = 201)
def xW (L : xL) (g : xg) (σ : xS) (H : Heap) : Prop :=
  t_OB L.1 (L.2.2.1 0) 44 (L.2.2.2.1 0) H (xV L g σ) ∧
  (∀ k, k < 45 → xPa k = true → H[L.2.1 k]? = some (vp_cell (L.2.2.2.2 (xAk k)) (xLen k, .inl (xJ σ k)))) ∧
  t_OB (L.2.1 11) (L.2.2.1 1) 1 (L.2.2.2.1 1) H (fun _ => .ref (L.2.1 44)) ∧
  (H[L.2.1 0]? = some (vp_cell (L.2.2.2.2 5) (xq 8 (fun i => if i < xn σ then some (g.1 i) else none))) ∧ xn σ ≤ 8 ∧ ∀ i, i < xn σ → t_OB (g.1 i) (L.2.2.1 3) 8 (L.2.2.2.1 3) H (fun k => .int (xE σ i k))) ∧
  xRest L g (xC σ) (xm σ) (xB σ) (xk σ) (xH σ) (xY σ) H ∧ xLab L g (xn σ) (xm σ) (xk σ) ∧ ∀ q, xT g q ≠ 0 → q < H.size
/-! The classes, known; the words that speak of nest mates -/
def xCl (i : Nat) : vw_C := match i with
  | 0 => (RX0, TX0, 44)
  | 1 => (RX1, TX1, 1)
  | 3 => (RX3, TX3, 8)
  | 4 => (RX4, TX4, 4)
  | 5 => (RX5, TX5, 4)
  | 6 => (RX6, TX6, 3)
  | 8 => (RX8, TX8, 1)
  | 9 => (RX9, TX9, 1)
  | 10 => (RX10, TX10, 1)
  | 11 => (RX11, TX11, 1)
  | 12 => (RX12, TX12, 3)
  | 14 => (RX14, TX14, 2)
  | 15 => (RX15, TX15, 3)
  | 16 => (RX16, TX16, 3)
  | 17 => (RX17, TX17, 4)
  | 18 => (RX18, TX18, 4)
  | 19 => (RX19, TX19, 5)
  | 20 => (RX20, TX20, 3)
  | 21 => (RX21, TX21, 5)
  | 23 => (RX23, TX23, 1)
  | 24 => (RX24, TX24, 1)
  | 25 => (RX25, TX25, 1)
  | 26 => (RX26, TX26, 1)
  | _ => (RX27, TX27, 1)
def xHas (i : Nat) : Bool := match i with
  | 2 => false
  | 7 => false
  | 13 => false
  | 22 => false
  | i => decide (i < 28)
def xAt (i : Nat) : FieldType := match i with
  | 0 => .int
  | 1 => .byte
  | 2 => .short
  | 3 => .long
  | 4 => .boolean
  | 5 => .object "EightLegs$Swimmer"
  | 6 => .object "EightLegs$Change"
  | 7 => .object "EightLegs$Beat"
  | _ => .object "EightLegs$Held"
def xNw (U : State) : Prop := (∀ a i b n d h, Cond.fieldLinkNest a i b n d h ∈ lw_tbl → va_Nw (.fieldLinkNest a i b n d h) U) ∧ (∀ a i x h, Cond.methodLinkNest a i x h ∈ lw_tbl → va_Nw (.methodLinkNest a i x h) U) ∧ (∀ C T, Cond.castable C T ∈ lw_tbl → va_Nw (.castable C T) U) ∧ (∀ x, Cond.declares x ∈ lw_tbl → va_Nw (.declares x) U)
theorem xNw.warm {s U : State} (hW : s.WarmedH U.vm) (h : xNw s) : xNw U := ⟨fun a i b n d k q => va_Nw.warmF hW (h.1 a i b n d k q), fun a i x k q => va_Nw.warmM hW (h.2.1 a i x k q), fun C T q => va_Nw.warmC hW (h.2.2.1 C T q), fun x q => va_Nw.warmD hW (h.2.2.2 x q)⟩
def xK (L : xL) (U : State) : Prop := (∀ i, xHas i = true → u_Kn U (xCl i).1 (xCl i).2.1 (xCl i).2.2 (L.2.2.1 i) (L.2.2.2.1 i)) ∧ (∀ i, i < 9 → ArrOfT U (L.2.2.2.2 i) (xAt i) ∧ va_RA U (L.2.2.2.2 i) (xAt i))
theorem xK.moved {L : xL} {u U : State} (hvm : u.vm.Alike U.vm) (h : xK L u) : xK L U := ⟨fun i hi => u_Kn_moved hvm (h.1 i hi), fun i hi => ⟨arrOfT_moved hvm (h.2 i hi).1, (h.2 i hi).2.moved hvm⟩⟩
def xA (g : xg) (sz : Nat) : Nat → Prop := fun q => xT g q ≠ 0 ∨ sz ≤ q
def xG (A : Nat → Prop) (L : xL) (g : xg) (s : State) (σ : xS) (H : Heap) (locs : List Loc) : Prop := xW L g σ H ∧ va_S A s.heap H locs ∧ ∀ q, xT g q ≠ 0 → A q
def xQ (L : xL) (g : xg) (σ : xS) (v : Option Value) (A : Nat → Prop) : Array Value → State → Outcome → State → Prop := fun _ st oc t => (oc = .returned v ∧ xW L g σ t.heap) ∧ va_F A st t
/-- bodies' kinds -/
def xbC (kd : Nat) : String := match kd with
  | 0 => RX14
  | 1 => RX15
  | 2 => RX16
  | 3 => RX17
  | 4 => RX18
  | 5 => RX19
  | 6 => RX20
  | _ => RX21
def xfY (kd : Nat) : MethodName := match kd with
  | 1 => ⟨RX15, "countsIt", "(I)I"⟩
  | 4 => ⟨RX15, "countsIt", "(I)I"⟩
  | 6 => ⟨RX20, "countsIt", "(I)I"⟩
  | 7 => ⟨RX15, "countsIt", "(I)I"⟩
  | _ => ⟨RX14, "countsIt", "(I)I"⟩
def xfZ (kd : Nat) : MethodName := match kd with
  | 5 => ⟨RX19, "tells", "(I)I"⟩
  | 7 => ⟨RX21, "tells", "(I)I"⟩
  | _ => ⟨RX14, "tells", "(I)I"⟩
/-- what calls through the two interfaces ask -/
def xFw (U : State) : Prop := ∀ kd, kd < 8 → va_Fw (xbC kd) ⟨"EightLegs$Counts", "countsIt", "(I)I"⟩ (xfY kd) U ∧ va_Fw (xbC kd) ⟨"EightLegs$Tells", "tells", "(I)I"⟩ (xfZ kd) U
theorem xFw.moved {u U : State} (hvm : u.vm.Alike U.vm) (h : xFw u) : xFw U := fun kd hk => ⟨va_Fw.moved (by decide) hvm (h kd hk).1, va_Fw.moved (by decide) hvm (h kd hk).2⟩
theorem xMr.moved {u U : State} (hvm : u.vm.Alike U.vm) (h : modulesRight_1 u = true) : modulesRight_1 U = true := by
  have e : U.vm.modules = u.vm.modules := by rw [hvm.1]
  unfold modulesRight_1
  rw [e]
  exact h
/-- classes that aren't castable -/
def xncL : List (String × String) := [("EightLegs$Beat", "EightLegs$ByteRow"), ("EightLegs$Beat", "EightLegs$ShortRow"), ("EightLegs$Beat", "EightLegs$IntRow"), ("EightLegs$Beat", "EightLegs$LongRow"), ("EightLegs$Beat", "EightLegs$BooleanRow"), ("EightLegs$Beat", "EightLegs$Row"), ("EightLegs$Legs", "EightLegs$ByteRow"), ("EightLegs$Legs", "EightLegs$ShortRow"), ("EightLegs$Legs", "EightLegs$IntRow"), ("EightLegs$Legs", "EightLegs$LongRow"), ("EightLegs$Legs", "EightLegs$BooleanRow"), ("EightLegs$Legs", "EightLegs$Row"), ("EightLegs$Breath", "EightLegs$ByteRow"), ("EightLegs$Breath", "EightLegs$ShortRow"), ("EightLegs$Breath", "EightLegs$IntRow"), ("EightLegs$Breath", "EightLegs$LongRow"), ("EightLegs$Breath", "EightLegs$BooleanRow"), ("EightLegs$Breath", "EightLegs$Row"), ("EightLegs$Smile", "EightLegs$ByteRow"), ("EightLegs$Smile", "EightLegs$ShortRow"), ("EightLegs$Smile", "EightLegs$IntRow"), ("EightLegs$Smile", "EightLegs$LongRow"), ("EightLegs$Smile", "EightLegs$BooleanRow"), ("EightLegs$Smile", "EightLegs$Row"), ("EightLegs$Lift", "EightLegs$ByteRow"), ("EightLegs$Lift", "EightLegs$ShortRow"), ("EightLegs$Lift", "EightLegs$IntRow"), ("EightLegs$Lift", "EightLegs$LongRow"), ("EightLegs$Lift", "EightLegs$BooleanRow"), ("EightLegs$Lift", "EightLegs$Row"), ("EightLegs$Star", "EightLegs$ByteRow"), ("EightLegs$Star", "EightLegs$ShortRow"), ("EightLegs$Star", "EightLegs$IntRow"), ("EightLegs$Star", "EightLegs$LongRow"), ("EightLegs$Star", "EightLegs$BooleanRow"), ("EightLegs$Star", "EightLegs$Row"), ("EightLegs$Echo", "EightLegs$ByteRow"), ("EightLegs$Echo", "EightLegs$ShortRow"), ("EightLegs$Echo", "EightLegs$IntRow"), ("EightLegs$Echo", "EightLegs$LongRow"), ("EightLegs$Echo", "EightLegs$BooleanRow"), ("EightLegs$Echo", "EightLegs$Row"), ("EightLegs$Judge", "EightLegs$ByteRow"), ("EightLegs$Judge", "EightLegs$ShortRow"), ("EightLegs$Judge", "EightLegs$IntRow"), ("EightLegs$Judge", "EightLegs$LongRow"), ("EightLegs$Judge", "EightLegs$BooleanRow"), ("EightLegs$Judge", "EightLegs$Row"), ("EightLegs$ByteRow", "EightLegs$ShortRow"), ("EightLegs$ByteRow", "EightLegs$IntRow"), ("EightLegs$ByteRow", "EightLegs$LongRow"), ("EightLegs$ByteRow", "EightLegs$BooleanRow"), ("EightLegs$ByteRow", "EightLegs$Beat"), ("EightLegs$ShortRow", "EightLegs$ByteRow"), ("EightLegs$ShortRow", "EightLegs$IntRow"), ("EightLegs$ShortRow", "EightLegs$LongRow"), ("EightLegs$ShortRow", "EightLegs$BooleanRow"), ("EightLegs$ShortRow", "EightLegs$Beat"), ("EightLegs$IntRow", "EightLegs$ByteRow"), ("EightLegs$IntRow", "EightLegs$ShortRow"), ("EightLegs$IntRow", "EightLegs$LongRow"), ("EightLegs$IntRow", "EightLegs$BooleanRow"), ("EightLegs$IntRow", "EightLegs$Beat"), ("EightLegs$LongRow", "EightLegs$ByteRow"), ("EightLegs$LongRow", "EightLegs$ShortRow"), ("EightLegs$LongRow", "EightLegs$IntRow"), ("EightLegs$LongRow", "EightLegs$BooleanRow"), ("EightLegs$LongRow", "EightLegs$Beat"), ("EightLegs$BooleanRow", "EightLegs$ByteRow"), ("EightLegs$BooleanRow", "EightLegs$ShortRow"), ("EightLegs$BooleanRow", "EightLegs$IntRow"), ("EightLegs$BooleanRow", "EightLegs$LongRow"), ("EightLegs$BooleanRow", "EightLegs$Beat"), ("java/lang/ClassCastException", "java/lang/NullPointerException"), ("java/lang/NullPointerException", "java/lang/ClassCastException"), ("java/lang/ArrayIndexOutOfBoundsException", "java/lang/NullPointerException"), ("java/lang/ArrayIndexOutOfBoundsException", "java/lang/ClassCastException")]
def xNc (U : State) : Prop := ∀ q, q ∈ xncL → va_Nc q.1 q.2 U
theorem xNc.moved {u U : State} (hvm : u.vm.Alike U.vm) (h : xNc u) : xNc U := fun q hq => (h q hq).moved hvm
/-- what is given of the start beside the tables' steady words -/
def xSt (A : Nat → Prop) (U : State) : Prop := xNw U ∧ vx_Zq Bundle.tN "UNASSIGNED_STACK" Bundle.steD A U U.heap ∧ vx_Zq Bundle.tN "SUPPRESSED_SENTINEL" Bundle.listD A U U.heap ∧ xFw U ∧ modulesRight_1 U = true ∧ xNc U
def xCx (p : Program) (l : Launch) (s : State) (m : MethodId) (args : Array Value) (meth : Method) (c : Code) (own : String) (cc : ByteArray) (nL : Nat) (ret : Option FieldType) (L : xL) (A : Nat → Prop) : Prop :=
  p.tables.exec = Jvm.exec ∧ c.code = cc ∧ c.maxLocals = nL ∧ s.vm.findClass own = some m.cls ∧ (∀ w ∈ lw_all, w.before args s = true) ∧ xK L s ∧ (∀ q, s.heap.size ≤ q → A q) ∧ meth.sig.returnType = ret ∧ meth.locks = false ∧ xSt A s ∧ l.stackTraces = false
theorem xNode.kept {L : xL} {T : Nat → Nat} {H H1 : Heap} (hq : ∀ q, T q = 202 → H1[q]? = H[q]?) : ∀ (d q : Nat) (c : List Int32), xNode L T H d q c → xNode L T H1 d q c := by
  intro d
  induction d with
  | zero => intro q c h; exact h
  | succ d ih =>
    intro q c h
    unfold xNode at h ⊢
    obtain ⟨hT, h⟩ := h
    have e := hq q hT
    refine ⟨hT, ?_⟩
    rcases h with ⟨v, h1, h2, h3⟩ | ⟨k, h1, h2, h3⟩ | ⟨a, ca, h1, h2, h3⟩ | ⟨a, ca, h1, h2, h3⟩ | ⟨sg, a, b, ca, cb, h0, h1, h2, h3, h4⟩
    · exact Or.inl ⟨v, h1, h2, h3.kept e⟩
    · exact Or.inr (Or.inl ⟨k, h1, h2, h3.kept e⟩)
    · exact Or.inr (Or.inr (Or.inl ⟨a, ca, h1, h2.kept e, ih _ _ h3⟩))
    · exact Or.inr (Or.inr (Or.inr (Or.inl ⟨a, ca, h1, h2.kept e, ih _ _ h3⟩)))
    · exact Or.inr (Or.inr (Or.inr (Or.inr ⟨sg, a, b, ca, cb, h0, h1, h2.kept e, ih _ _ h3, ih _ _ h4⟩)))
theorem xLine.kept {L : xL} {T : Nat → Nat} {H H1 : Heap} (hq : ∀ q, T q = 202 → H1[q]? = H[q]?) : ∀ (xs : List (List Int32 × List Int32)) (r : Option Nat), xLine L T H xs r → xLine L T H1 xs r := by
  intro xs
  induction xs with
  | nil => intro r h; exact h
  | cons x xs ih =>
    intro r h
    obtain ⟨q, gn, tn, nx, h1, h2, h3, h4, h5, h6⟩ := h
    refine ⟨q, gn, tn, nx, h1, h2, h3.kept (hq q h2), ?_, xNode.kept hq _ _ _ h5, ih _ h6⟩
    rcases h4 with h4 | ⟨tq, e1, e2⟩
    · exact Or.inl h4
    · exact Or.inr ⟨tq, e1, xNode.kept hq _ _ _ e2⟩
theorem xShelf.kept {L : xL} {g : xg} {nb : Nat} {H H1 : Heap} {j : Nat} {h : Nat × Nat × (Nat → Int64)} (hq : ∀ q, 200 ≤ xT g q → H1[q]? = H[q]?) (hh : xShelf L g nb H j h) : xShelf L g nb H1 j h := by
  obtain ⟨h1, h2⟩ := hh
  refine ⟨fun a b => ?_, h2⟩
  obtain ⟨k1, k2, k3, k4, k5, k6⟩ := h1 a b
  exact ⟨k1, k2.kept (hq _ (by omega)), (hq _ (by omega)).trans k3, k4, k5, k6⟩
/-- a write elsewhere leaves the seldom written cells as they are -/
theorem xRest.kept {L : xL} {g : xg} {C : Nat → Nat → Int32} {nm n : Nat} {B : Nat → Nat} {nb : Nat} {S : Nat → Nat × Nat × (Nat → Int64)} {Y : Option (List (List Int32 × List Int32))} {H H1 : Heap} (hL : xLab L g n nm nb) (hq : ∀ q, (xT g q = 7 ∨ xT g q = 43 ∨ xT g q = 45 ∨ 200 ≤ xT g q) → H1[q]? = H[q]?) (h : xRest L g C nm B nb S Y H) : xRest L g C nm B nb S Y H1 := by
  obtain ⟨l1, l2, l3, l4, l5⟩ := hL
  obtain ⟨⟨a1, a2, a3⟩, ⟨b1, b2, b3⟩, ⟨c1, c2⟩, d1, d2⟩ := h
  refine ⟨⟨?_, a2, fun i hi => (a3 i hi).kept (hq _ ?_)⟩, ⟨?_, b2, fun i hi => ⟨(b3 i hi).1, (b3 i hi).2.kept (hq _ ?_)⟩⟩, ⟨?_, fun j hj => xShelf.kept (fun q hh => hq q (Or.inr (Or.inr (Or.inr hh)))) (c2 j hj)⟩, xLine.kept (fun q hh => hq q (by rw [hh]; omega)) _ _ d1, d2⟩
  · exact (hq _ (Or.inl (l2 5 (by decide) (by decide) (Or.inl rfl)))).trans a1
  · rw [l4 i hi]; omega
  · exact (hq _ (Or.inr (Or.inl (l2 41 (by decide) (by decide) (Or.inl rfl))))).trans b1
  · rw [l5 i hi]; omega
  · exact (hq _ (Or.inr (Or.inr (Or.inl (l2 43 (by decide) (by decide) (Or.inl rfl)))))).trans c1
theorem x_oq (g : xg) {H H1 : Heap} {q0 : Nat} (oq : ∀ q, q ≠ q0 → H1[q]? = H[q]?) {q : Nat} (h : xT g q ≠ xT g q0) : H1[q]? = H[q]? := oq q (fun e => h (by rw [e]))
theorem xPa_44 : ∀ k, k < 45 → xPa k = true → (xRef k = true ∨ k = 44) ∧ k ≠ 10 ∧ k ≠ 0 ∧ k ≠ 5 ∧ k ≠ 41 ∧ k ≠ 43 ∧ k ≠ 11 := by decide +kernel
theorem xW.seti {L : xL} {g : xg} {σ : xS} {H H1 : Heap} (h : xW L g σ H) (k : Nat) (hk : k < 44) (ha : xRef k = false) {x : Int32} (hO : t_OB L.1 (L.2.2.1 0) 44 (L.2.2.2.1 0) H1 (updV (xV L g σ) k (.int x))) (oz : H1.size = H.size) (oq : ∀ q, q ≠ L.1 → H1[q]? = H[q]?) : xW L g (xSi σ k x) H1 := by
  obtain ⟨h1, h2, h3, ⟨h4, h5, h6⟩, h7, h8, h9⟩ := h
  obtain ⟨l1, l2, l3, l4, l5⟩ := h8
  have ha10 : k ≠ 10 := fun e => by rw [e] at ha; exact absurd ha (by decide)
  refine ⟨hO.to fun j hj => ?_, fun j hj ja => ?_, h3.kept (x_oq g oq ?_), ⟨(x_oq g oq ?_).trans h4, h5, fun i hi => (h6 i hi).kept (x_oq g oq ?_)⟩, h7.kept ⟨l1, l2, l3, l4, l5⟩ (fun q hq => x_oq g oq ?_), ⟨l1, l2, l3, l4, l5⟩, fun q hq => by rw [oz]; exact h9 q hq⟩
  · unfold updV xV
    by_cases hjk : j = k
    · subst hjk
      rw [if_pos rfl, if_neg ha10, if_neg (by rw [ha]; decide)]
      show Value.int x = Value.int (upd σ.1 j x j)
      unfold upd
      rw [if_pos rfl]
    · rw [if_neg hjk]
      have e : upd σ.1 k x j = σ.1 j := by unfold upd; rw [if_neg hjk]
      show (if j = 10 then va_rf g.2.2.2.2.1 else if xRef j = true then .ref (L.2.1 j) else .int (σ.1 j)) = (if j = 10 then va_rf g.2.2.2.2.1 else if xRef j = true then .ref (L.2.1 j) else .int (upd σ.1 k x j))
      rw [e]
  · rw [x_oq g oq (by rw [l1, l2 j hj (xPa_44 j hj ja).2.1 (xPa_44 j hj ja).1]; omega), h2 j hj ja]
  · rw [l1, l2 11 (by decide) (by decide) (Or.inl rfl)]; decide
  · rw [l1, l2 0 (by decide) (by decide) (Or.inl rfl)]; decide
  · rw [l1, l3 i hi]; omega
  · rw [l1]; omega
theorem xW.setj {L : xL} {g : xg} {σ : xS} {H H1 : Heap} (h : xW L g σ H) (k : Nat) (hk : k < 45) (ha : xPa k = true) {i : Nat} {x : Int32} (e : H1[L.2.1 k]? = some (arrV (L.2.2.2.2 (xAk k)) (xLen k) (updV (fun j => .int (xJ σ k j)) i (.int x)))) (oz : H1.size = H.size) (oq : ∀ q, q ≠ L.2.1 k → H1[q]? = H[q]?) : xW L g (xSj σ k i x) H1 := by
  obtain ⟨h1, h2, h3, ⟨h4, h5, h6⟩, h7, h8, h9⟩ := h
  obtain ⟨l1, l2, l3, l4, l5⟩ := h8
  have ak := xPa_44 k hk ha
  have lk := l2 k hk ak.2.1 ak.1
  refine ⟨h1.kept (x_oq g oq ?_), fun j hj ja => ?_, h3.kept (x_oq g oq ?_), ⟨(x_oq g oq ?_).trans h4, h5, fun i hi => (h6 i hi).kept (x_oq g oq ?_)⟩, h7.kept ⟨l1, l2, l3, l4, l5⟩ (fun q hq => x_oq g oq ?_), ⟨l1, l2, l3, l4, l5⟩, fun q hq => by rw [oz]; exact h9 q hq⟩
  · rw [l1, lk]; omega
  · by_cases hjk : j = k
    · subst hjk
      rw [e, vp_cell_i]
      congr 2
      funext q
      show (if q = i then Value.int x else Value.int (xJ σ j q)) = Value.int ((if j = j then upd (xJ σ j) i x else xJ σ j) q)
      rw [if_pos rfl]
      unfold upd
      split <;> rfl
    · rw [x_oq g oq (by rw [lk, l2 j hj (xPa_44 j hj ja).2.1 (xPa_44 j hj ja).1]; omega), h2 j hj ja]
      show some (vp_cell _ (xLen j, .inl (xJ σ j))) = some (vp_cell _ (xLen j, .inl (if j = k then upd (xJ σ k) i x else xJ σ j)))
      rw [if_neg hjk]
  · rw [lk, l2 11 (by decide) (by decide) (Or.inl rfl)]; omega
  · rw [lk, l2 0 (by decide) (by decide) (Or.inl rfl)]; omega
  · rw [lk, l3 i hi]; omega
  · rw [lk]; omega
theorem xW.sete {L : xL} {g : xg} {σ : xS} {H H1 : Heap} (h : xW L g σ H) {i : Nat} (hi : i < xn σ) (k : Nat) (hk : k < 8) {x : Int32} (hO : t_OB (g.1 i) (L.2.2.1 3) 8 (L.2.2.2.1 3) H1 (updV (fun k => .int (xE σ i k)) k (.int x))) (oz : H1.size = H.size) (oq : ∀ q, q ≠ g.1 i → H1[q]? = H[q]?) : xW L g (xSe σ i k x) H1 := by
  obtain ⟨h1, h2, h3, ⟨h4, h5, h6⟩, h7, h8, h9⟩ := h
  obtain ⟨l1, l2, l3, l4, l5⟩ := h8
  have lk := l3 i hi
  refine ⟨h1.kept (x_oq g oq ?_), fun j hj ja => ?_, h3.kept (x_oq g oq ?_), ⟨(x_oq g oq ?_).trans h4, h5, fun j hj => ?_⟩, h7.kept ⟨l1, l2, l3, l4, l5⟩ (fun q hq => x_oq g oq ?_), ⟨l1, l2, l3, l4, l5⟩, fun q hq => by rw [oz]; exact h9 q hq⟩
  · rw [l1, lk]; omega
  · rw [x_oq g oq (by rw [lk, l2 j hj (xPa_44 j hj ja).2.1 (xPa_44 j hj ja).1]; omega), h2 j hj ja]
  · rw [lk, l2 11 (by decide) (by decide) (Or.inl rfl)]; omega
  · rw [lk, l2 0 (by decide) (by decide) (Or.inl rfl)]; omega
  · by_cases hji : j = i
    · subst hji
      refine hO.to fun q hq => ?_
      show (if q = k then Value.int x else Value.int (xE σ j q)) = Value.int ((if j = j then upd (xE σ j) k x else xE σ j) q)
      rw [if_pos rfl]
      unfold upd
      split <;> rfl
    · refine ((h6 j hj).kept (x_oq g oq (by rw [lk, l3 j hj]; omega))).to fun q hq => ?_
      show Value.int (xE σ j q) = Value.int ((if j = i then upd (xE σ i) k x else xE σ j) q)
      rw [if_neg hji]
  · rw [lk]
    rcases hq with hq | hq | hq | hq <;> omega
