/-! The law's codes, worked -/
def opV (c x y : Int32) : Int32 := if c = 6 then (if x ≠ 0 ∨ y ≠ 0 then 1 else 0) else if c = 7 then (if x ≠ 0 ∧ y ≠ 0 then 1 else 0) else if c = 8 then (if x < y then 1 else 0) else if c = 9 then (if x = y then 1 else 0) else if c = 10 then (if y < x then 1 else 0) else if c = 11 then x + y else if c = 12 then x - y else if c = 13 then x * y else if c = 14 then (if y = 0 then 0 else x / y) else (if y = 0 then 0 else x - x / y * y)
def xLt (c : Int32) : Nat := if c = 0 then 111 else if c = 1 then 101 else if c = 2 then 100 else if c = 3 then 116 else if c = 4 then 107 else 115
/-- one code on a stack; nm: what the names 0 .. 5 are -/
def ev1 (nm : Int32 → Int32) (st : List Int32) (c : Int32) : List Int32 := if 18 ≤ c then (c - 18) :: st else if c ≤ 5 then nm c :: st else match st with
  | [] => []
  | x :: st1 => if c = 16 then (if x = 0 then 1 else 0) :: st1 else if c = 17 then (-x) :: st1 else match st1 with
    | [] => []
    | y :: st2 => opV c y x :: st2
def evV (nm : Int32 → Int32) (c : List Int32) : Int32 := (c.foldl (ev1 nm) []).headD 0
def givesV (nm : Int32 → Int32) : List (List Int32 × List Int32) → Int32
  | [] => 0
  | x :: xs => if x.1 = [] ∨ evV nm x.1 ≠ 0 then evV nm x.2 else givesV nm xs
def fX_gives (_ : Nat) (σ : xS) : Option (xS × Int32) := some (σ, givesV (fun c => xJ σ 44 (xLt c)) ((xY σ).getD []))
/-! A shelf's row, laid as the routine or as what was told -/
def fX_layLp (f : Nat → Int64) (n : Nat) : Nat → xS → Int32 → Option (xS × Int32)
  | 0, _, _ => none
  | m + 1, σ, k => if nI n ≤ k then some (σ, 0) else if 60 ≤ k then some (σ, 0) else
    chk k n <| nmv (f k.toNatClampNeg).toInt32 fun w => if w < 0 ∨ 4 < w then some (σ, 0) else
    chk k 60 <| nmv (xSj σ 12 k.toNatClampNeg w) fun σ1 => nmv (xI σ1 15) fun x => nmv (xSi σ1 15 (x + 1)) fun σ2 => nmv (k + 1) fun k1 => fX_layLp f n m σ2 k1
def fX_layRoutine (N : Nat) (σ : xS) (a0 : Int32) : Option (xS × Int32) :=
  nmv (xSi σ 15 0) fun σ1 => chk a0 6 <| nmv (xH σ1 a0.toNatClampNeg) fun h => if h.1 = 0 then some (σ1, (-11)) else if h.1 = 1 then fX_layLp h.2.2 h.2.1 N σ1 0 else some (σ1, (-12))
def fX_layTp (f : Nat → Int64) (n : Nat) : Nat → xS → Int32 → Option (xS × Int32)
  | 0, _, _ => none
  | m + 1, σ, k => if nI n ≤ k then some (σ, 0) else
    chk k n <| nmv (f k.toNatClampNeg).toInt32 fun w =>
    chk k 60 <| nmv (xSj σ 24 k.toNatClampNeg w) fun σ1 => nmv (xI σ1 25) fun x => nmv (xSi σ1 25 (x + 1)) fun σ2 => nmv (k + 1) fun k1 => fX_layTp f n m σ2 k1
def fX_layTold (N : Nat) (σ : xS) (a0 : Int32) : Option (xS × Int32) :=
  nmv (xSi σ 25 0) fun σ1 => chk a0 6 <| nmv (xH σ1 a0.toNatClampNeg) fun h => if h.1 = 0 then some (σ1, (-11)) else if h.1 = 2 then fX_layTp h.2.2 h.2.1 N σ1 0 else some (σ1, (-12))
theorem mtX_gives (l : Launch) (hst : l.stackTraces = false) {N : Nat} {L : xL} {g : xg} {σ σ' : xS} {r : Int32} (hF : fX_gives N σ = some (σ', r)) : xMet l yX0_gives cX0_gives 2 (some .int) (210) (6000) 0 0 [.ref L.1] L g σ (some (.int r)) σ' := sorry
theorem mtX_layRoutine (l : Launch) (hst : l.stackTraces = false) {N : Nat} {L : xL} {g : xg} {σ σ' : xS} {a0 r : Int32} (hF : fX_layRoutine N σ a0 = some (σ', r)) : xMetW l yX0_layRoutine cX0_layRoutine 5 (some .int) [((5 : Nat), (50 : Nat), (78 : Nat), (109 : Nat)), ((51 : Nat), (75 : Nat), (78 : Nat), (109 : Nat)), ((5 : Nat), (50 : Nat), (82 : Nat), (111 : Nat)), ((51 : Nat), (75 : Nat), (82 : Nat), (111 : Nat))] (40) (12000) 8 1200 [.ref L.1, .int a0] L g σ (some (.int r)) σ' := sorry
theorem mtX_layTold (l : Launch) (hst : l.stackTraces = false) {N : Nat} {L : xL} {g : xg} {σ σ' : xS} {a0 r : Int32} (hF : fX_layTold N σ a0 = some (σ', r)) : xMetW l yX0_layTold cX0_layTold 4 (some .int) [((5 : Nat), (53 : Nat), (56 : Nat), (109 : Nat)), ((5 : Nat), (53 : Nat), (60 : Nat), (111 : Nat))] (40) (12000) 8 1200 [.ref L.1, .int a0] L g σ (some (.int r)) σ' := sorry
