/-! EightLegsModel -/
set_option maxRecDepth 100000
def RX2 : String := "EightLegsModel"
def TX2 : u_T := fun k => match k with
  | 0 => ("EightLegsModel", "many", "I", false)
  | 1 => ("EightLegsModel", "placeX", "[I", true)
  | 2 => ("EightLegsModel", "placeY", "[I", true)
  | 3 => ("EightLegsModel", "tall", "[I", true)
  | 4 => ("EightLegsModel", "breath", "[I", true)
  | 5 => ("EightLegsModel", "quick", "[I", true)
  | 6 => ("EightLegsModel", "late", "[I", true)
  | 7 => ("EightLegsModel", "ways", "[I", true)
  | 8 => ("EightLegsModel", "tired", "[I", true)
  | 9 => ("EightLegsModel", "gasped", "[I", true)
  | 10 => ("EightLegsModel", "taped", "I", false)
  | 11 => ("EightLegsModel", "tape", "[I", true)
  | 12 => ("EightLegsModel", "isTold", "Z", false)
  | 13 => ("EightLegsModel", "lines", "I", false)
  | 14 => ("EightLegsModel", "asks", "[I", true)
  | 15 => ("EightLegsModel", "says", "[I", true)
  | 16 => ("EightLegsModel", "ends", "[I", true)
  | 17 => ("EightLegsModel", "code", "[I", true)
  | 18 => ("EightLegsModel", "at", "I", false)
  | 19 => ("EightLegsModel", "open", "I", false)
  | 20 => ("EightLegsModel", "coded", "I", false)
  | 21 => ("EightLegsModel", "newLines", "I", false)
  | 22 => ("EightLegsModel", "newAsks", "[I", true)
  | 23 => ("EightLegsModel", "newSays", "[I", true)
  | 24 => ("EightLegsModel", "newEnds", "[I", true)
  | 25 => ("EightLegsModel", "newCode", "[I", true)
  | 26 => ("EightLegsModel", "stack", "[I", true)
  | 27 => ("EightLegsModel", "names", "[I", true)
  | 28 => ("EightLegsModel", "led", "[I", true)
  | 29 => ("EightLegsModel", "imaged", "Z", false)
  | 30 => ("EightLegsModel", "oldMany", "I", false)
  | 31 => ("EightLegsModel", "oldTired", "[I", true)
  | 32 => ("EightLegsModel", "oldGasped", "[I", true)
  | 33 => ("EightLegsModel", "oldLed", "[I", true)
  | 34 => ("EightLegsModel", "changes", "I", false)
  | 35 => ("EightLegsModel", "done", "I", false)
  | 36 => ("EightLegsModel", "changed", "[I", true)
  | 37 => ("EightLegsModel", "bodies", "I", false)
  | 38 => ("EightLegsModel", "kind", "[I", true)
  | 39 => ("EightLegsModel", "traced", "I", false)
  | 40 => ("EightLegsModel", "traces", "[I", true)
  | 41 => ("EightLegsModel", "holding", "[I", true)
  | 42 => ("EightLegsModel", "rowLength", "[I", true)
  | 43 => ("EightLegsModel", "rowOf", "[J", true)
  | 44 => ("EightLegsModel", "counts", "I", false)
  | 45 => ("EightLegsModel", "does", "[I", true)
  | 46 => ("EightLegsModel", "drift", "[I", true)
  | 47 => ("EightLegsModel", "marksOf", "[I", true)
  | 48 => ("EightLegsModel", "slipper", "I", false)
  | 49 => ("EightLegsModel", "slipAt", "I", false)
  | 50 => ("EightLegsModel", "slipBy", "I", false)
  | 51 => ("EightLegsModel", "seed", "I", false)
  | 52 => ("EightLegsModel", "slips", "I", false)
  | 53 => ("EightLegsModel", "picked", "[I", true)
  | 54 => ("EightLegsModel", "order", "[I", true)
  | _ => ("EightLegsModel", "best", "[I", true)
def tyX2 : Nat → FieldType := fun k => match k with
  | 0 => .int
  | 1 => .array .int
  | 2 => .array .int
  | 3 => .array .int
  | 4 => .array .int
  | 5 => .array .int
  | 6 => .array .int
  | 7 => .array .int
  | 8 => .array .int
  | 9 => .array .int
  | 10 => .int
  | 11 => .array .int
  | 12 => .boolean
  | 13 => .int
  | 14 => .array .int
  | 15 => .array .int
  | 16 => .array .int
  | 17 => .array .int
  | 18 => .int
  | 19 => .int
  | 20 => .int
  | 21 => .int
  | 22 => .array .int
  | 23 => .array .int
  | 24 => .array .int
  | 25 => .array .int
  | 26 => .array .int
  | 27 => .array .int
  | 28 => .array .int
  | 29 => .boolean
  | 30 => .int
  | 31 => .array .int
  | 32 => .array .int
  | 33 => .array .int
  | 34 => .int
  | 35 => .int
  | 36 => .array .int
  | 37 => .int
  | 38 => .array .int
  | 39 => .int
  | 40 => .array .int
  | 41 => .array .int
  | 42 => .array .int
  | 43 => .array .long
  | 44 => .int
  | 45 => .array .int
  | 46 => .array .int
  | 47 => .array .int
  | 48 => .int
  | 49 => .int
  | 50 => .int
  | 51 => .int
  | 52 => .int
  | 53 => .array .int
  | 54 => .array .int
  | _ => .array .int
abbrev wsX20 : List Cond := u_ws RX2 TX2 56
set_option maxRecDepth 100000 in
theorem nmX2 : ∀ a, a < 56 → ∀ b, b < 56 → a ≠ b → (TX2 a).2.1 ≠ (TX2 b).2.1 := by decide +kernel
set_option maxRecDepth 100000 in
theorem tyX2_ok : ∀ k, k < 56 → parseFieldDescriptor (TX2 k).2.2.1 = some (tyX2 k) := by decide +kernel
abbrev cX2_init : ByteArray := prog_31_method_1_code
def yX2_init : MethodName := ⟨RX2, "<init>", "()V"⟩
def dkwX2_init_14 : List UInt8 := [27, 2, 79, 132, 1, 1, 167, 255, 240, 177]
abbrev dktX2_init_14 : List UInt8 := dkwX2_init_14 ++ []
def dkwX2_init_13 : List UInt8 := [180, 0, 30, 5, 4, 79, 42, 16, 254, 181, 0, 121, 3, 60, 27, 16, 6, 162, 0, 16, 42, 180, 0, 93]
abbrev dktX2_init_13 : List UInt8 := dkwX2_init_13 ++ dktX2_init_14
def dkwX2_init_12 : List UInt8 := [188, 10, 181, 0, 115, 42, 16, 6, 188, 10, 181, 0, 118, 42, 180, 0, 30, 4, 16, 25, 79, 42]
abbrev dktX2_init_12 : List UInt8 := dkwX2_init_12 ++ dktX2_init_13
def dkwX2_init_11 : List UInt8 := [188, 10, 181, 0, 106, 42, 16, 80, 188, 10, 181, 0, 109, 42, 16, 10, 188, 10, 181, 0, 112, 42, 16, 6]
abbrev dktX2_init_11 : List UInt8 := dkwX2_init_11 ++ dktX2_init_12
def dkwX2_init_10 : List UInt8 := [181, 0, 96, 42, 17, 1, 104, 188, 11, 181, 0, 99, 42, 16, 60, 188, 10, 181, 0, 103, 42, 17, 1, 232]
abbrev dktX2_init_10 : List UInt8 := dkwX2_init_10 ++ dktX2_init_11
def dkwX2_init_9 : List UInt8 := [181, 0, 87, 42, 16, 24, 188, 10, 181, 0, 90, 42, 16, 6, 188, 10, 181, 0, 93, 42, 16, 6, 188, 10]
abbrev dktX2_init_9 : List UInt8 := dkwX2_init_9 ++ dktX2_init_10
def dkwX2_init_8 : List UInt8 := [181, 0, 78, 42, 8, 188, 10, 181, 0, 81, 42, 17, 0, 160, 188, 10, 181, 0, 84, 42, 16, 50, 188, 10]
abbrev dktX2_init_8 : List UInt8 := dkwX2_init_8 ++ dktX2_init_9
def dkwX2_init_7 : List UInt8 := [181, 0, 69, 42, 8, 188, 10, 181, 0, 72, 42, 16, 8, 188, 10, 181, 0, 75, 42, 16, 8, 188, 10]
abbrev dktX2_init_7 : List UInt8 := dkwX2_init_7 ++ dktX2_init_8
def dkwX2_init_6 : List UInt8 := [17, 0, 200, 188, 10, 181, 0, 63, 42, 17, 0, 200, 188, 10, 181, 0, 66, 42, 16, 6, 188, 10]
abbrev dktX2_init_6 : List UInt8 := dkwX2_init_6 ++ dktX2_init_7
def dkwX2_init_5 : List UInt8 := [16, 61, 188, 10, 181, 0, 54, 42, 16, 61, 188, 10, 181, 0, 57, 42, 16, 61, 188, 10, 181, 0, 60, 42]
abbrev dktX2_init_5 : List UInt8 := dkwX2_init_5 ++ dktX2_init_6
def dkwX2_init_4 : List UInt8 := [188, 10, 181, 0, 45, 42, 16, 60, 188, 10, 181, 0, 48, 42, 17, 0, 200, 188, 10, 181, 0, 51, 42]
abbrev dktX2_init_4 : List UInt8 := dkwX2_init_4 ++ dktX2_init_5
def dkwX2_init_3 : List UInt8 := [188, 10, 181, 0, 36, 42, 16, 120, 188, 10, 181, 0, 39, 42, 16, 60, 188, 10, 181, 0, 42, 42, 16, 60]
abbrev dktX2_init_3 : List UInt8 := dkwX2_init_3 ++ dktX2_init_4
def dkwX2_init_2 : List UInt8 := [188, 10, 181, 0, 27, 42, 6, 188, 10, 181, 0, 30, 42, 16, 8, 188, 10, 181, 0, 33, 42, 16, 8]
abbrev dktX2_init_2 : List UInt8 := dkwX2_init_2 ++ dktX2_init_3
def dkwX2_init_1 : List UInt8 := [188, 10, 181, 0, 18, 42, 16, 8, 188, 10, 181, 0, 21, 42, 16, 8, 188, 10, 181, 0, 24, 42, 16, 8]
abbrev dktX2_init_1 : List UInt8 := dkwX2_init_1 ++ dktX2_init_2
def dkwX2_init_0 : List UInt8 := [42, 183, 0, 3, 42, 16, 8, 188, 10, 181, 0, 9, 42, 16, 8, 188, 10, 181, 0, 15, 42, 16, 8]
abbrev dktX2_init_0 : List UInt8 := dkwX2_init_0 ++ dktX2_init_1
theorem dksX2_init_0 : cX2_init.data.toList.drop 0 = dktX2_init_0 := by decide +kernel
theorem dksX2_init_1 : cX2_init.data.toList.drop 23 = dktX2_init_1 := dk_seg dksX2_init_0 23 rfl rfl
theorem dksX2_init_2 : cX2_init.data.toList.drop 47 = dktX2_init_2 := dk_seg dksX2_init_1 24 rfl rfl
theorem dksX2_init_3 : cX2_init.data.toList.drop 70 = dktX2_init_3 := dk_seg dksX2_init_2 23 rfl rfl
theorem dksX2_init_4 : cX2_init.data.toList.drop 94 = dktX2_init_4 := dk_seg dksX2_init_3 24 rfl rfl
theorem dksX2_init_5 : cX2_init.data.toList.drop 117 = dktX2_init_5 := dk_seg dksX2_init_4 23 rfl rfl
theorem dksX2_init_6 : cX2_init.data.toList.drop 141 = dktX2_init_6 := dk_seg dksX2_init_5 24 rfl rfl
theorem dksX2_init_7 : cX2_init.data.toList.drop 163 = dktX2_init_7 := dk_seg dksX2_init_6 22 rfl rfl
theorem dksX2_init_8 : cX2_init.data.toList.drop 186 = dktX2_init_8 := dk_seg dksX2_init_7 23 rfl rfl
theorem dksX2_init_9 : cX2_init.data.toList.drop 210 = dktX2_init_9 := dk_seg dksX2_init_8 24 rfl rfl
theorem dksX2_init_10 : cX2_init.data.toList.drop 234 = dktX2_init_10 := dk_seg dksX2_init_9 24 rfl rfl
theorem dksX2_init_11 : cX2_init.data.toList.drop 258 = dktX2_init_11 := dk_seg dksX2_init_10 24 rfl rfl
theorem dksX2_init_12 : cX2_init.data.toList.drop 282 = dktX2_init_12 := dk_seg dksX2_init_11 24 rfl rfl
theorem dksX2_init_13 : cX2_init.data.toList.drop 304 = dktX2_init_13 := dk_seg dksX2_init_12 22 rfl rfl
theorem dksX2_init_14 : cX2_init.data.toList.drop 328 = dktX2_init_14 := dk_seg dksX2_init_13 24 rfl rfl
theorem dX2_init_0 : decode cX2_init 0 = .ok (.aload_n 0, 1) := dk_42 (dk_at dksX2_init_0 0 rfl rfl)
theorem dX2_init_1 : decode cX2_init 1 = .ok (.invokespecial 3, 3) := dk_183 0 3 (dk_at dksX2_init_0 1 rfl rfl)
theorem dX2_init_4 : decode cX2_init 4 = .ok (.aload_n 0, 1) := dk_42 (dk_at dksX2_init_0 4 rfl rfl)
theorem dX2_init_5 : decode cX2_init 5 = .ok (.bipush 8, 2) := dk_16 8 (dk_at dksX2_init_0 5 rfl rfl)
theorem dX2_init_7 : decode cX2_init 7 = .ok (.newarray .int, 2) := dk_188_10 (dk_at dksX2_init_0 7 rfl rfl)
theorem dX2_init_9 : decode cX2_init 9 = .ok (.putfield 9, 3) := dk_181 0 9 (dk_at dksX2_init_0 9 rfl rfl)
theorem dX2_init_12 : decode cX2_init 12 = .ok (.aload_n 0, 1) := dk_42 (dk_at dksX2_init_0 12 rfl rfl)
theorem dX2_init_13 : decode cX2_init 13 = .ok (.bipush 8, 2) := dk_16 8 (dk_at dksX2_init_0 13 rfl rfl)
theorem dX2_init_15 : decode cX2_init 15 = .ok (.newarray .int, 2) := dk_188_10 (dk_at dksX2_init_0 15 rfl rfl)
theorem dX2_init_17 : decode cX2_init 17 = .ok (.putfield 15, 3) := dk_181 0 15 (dk_at dksX2_init_0 17 rfl rfl)
theorem dX2_init_20 : decode cX2_init 20 = .ok (.aload_n 0, 1) := dk_42 (dk_at dksX2_init_0 20 rfl rfl)
theorem dX2_init_21 : decode cX2_init 21 = .ok (.bipush 8, 2) := dk_16 8 (dk_at dksX2_init_0 21 rfl rfl)
theorem dX2_init_23 : decode cX2_init 23 = .ok (.newarray .int, 2) := dk_188_10 (dk_at dksX2_init_1 0 rfl rfl)
theorem dX2_init_25 : decode cX2_init 25 = .ok (.putfield 18, 3) := dk_181 0 18 (dk_at dksX2_init_1 2 rfl rfl)
theorem dX2_init_28 : decode cX2_init 28 = .ok (.aload_n 0, 1) := dk_42 (dk_at dksX2_init_1 5 rfl rfl)
theorem dX2_init_29 : decode cX2_init 29 = .ok (.bipush 8, 2) := dk_16 8 (dk_at dksX2_init_1 6 rfl rfl)
theorem dX2_init_31 : decode cX2_init 31 = .ok (.newarray .int, 2) := dk_188_10 (dk_at dksX2_init_1 8 rfl rfl)
theorem dX2_init_33 : decode cX2_init 33 = .ok (.putfield 21, 3) := dk_181 0 21 (dk_at dksX2_init_1 10 rfl rfl)
theorem dX2_init_36 : decode cX2_init 36 = .ok (.aload_n 0, 1) := dk_42 (dk_at dksX2_init_1 13 rfl rfl)
theorem dX2_init_37 : decode cX2_init 37 = .ok (.bipush 8, 2) := dk_16 8 (dk_at dksX2_init_1 14 rfl rfl)
theorem dX2_init_39 : decode cX2_init 39 = .ok (.newarray .int, 2) := dk_188_10 (dk_at dksX2_init_1 16 rfl rfl)
theorem dX2_init_41 : decode cX2_init 41 = .ok (.putfield 24, 3) := dk_181 0 24 (dk_at dksX2_init_1 18 rfl rfl)
theorem dX2_init_44 : decode cX2_init 44 = .ok (.aload_n 0, 1) := dk_42 (dk_at dksX2_init_1 21 rfl rfl)
theorem dX2_init_45 : decode cX2_init 45 = .ok (.bipush 8, 2) := dk_16 8 (dk_at dksX2_init_1 22 rfl rfl)
theorem dX2_init_47 : decode cX2_init 47 = .ok (.newarray .int, 2) := dk_188_10 (dk_at dksX2_init_2 0 rfl rfl)
theorem dX2_init_49 : decode cX2_init 49 = .ok (.putfield 27, 3) := dk_181 0 27 (dk_at dksX2_init_2 2 rfl rfl)
theorem dX2_init_52 : decode cX2_init 52 = .ok (.aload_n 0, 1) := dk_42 (dk_at dksX2_init_2 5 rfl rfl)
theorem dX2_init_53 : decode cX2_init 53 = .ok (.iconst 3, 1) := dk_6 (dk_at dksX2_init_2 6 rfl rfl)
theorem dX2_init_54 : decode cX2_init 54 = .ok (.newarray .int, 2) := dk_188_10 (dk_at dksX2_init_2 7 rfl rfl)
theorem dX2_init_56 : decode cX2_init 56 = .ok (.putfield 30, 3) := dk_181 0 30 (dk_at dksX2_init_2 9 rfl rfl)
theorem dX2_init_59 : decode cX2_init 59 = .ok (.aload_n 0, 1) := dk_42 (dk_at dksX2_init_2 12 rfl rfl)
theorem dX2_init_60 : decode cX2_init 60 = .ok (.bipush 8, 2) := dk_16 8 (dk_at dksX2_init_2 13 rfl rfl)
theorem dX2_init_62 : decode cX2_init 62 = .ok (.newarray .int, 2) := dk_188_10 (dk_at dksX2_init_2 15 rfl rfl)
theorem dX2_init_64 : decode cX2_init 64 = .ok (.putfield 33, 3) := dk_181 0 33 (dk_at dksX2_init_2 17 rfl rfl)
theorem dX2_init_67 : decode cX2_init 67 = .ok (.aload_n 0, 1) := dk_42 (dk_at dksX2_init_2 20 rfl rfl)
theorem dX2_init_68 : decode cX2_init 68 = .ok (.bipush 8, 2) := dk_16 8 (dk_at dksX2_init_2 21 rfl rfl)
theorem dX2_init_70 : decode cX2_init 70 = .ok (.newarray .int, 2) := dk_188_10 (dk_at dksX2_init_3 0 rfl rfl)
theorem dX2_init_72 : decode cX2_init 72 = .ok (.putfield 36, 3) := dk_181 0 36 (dk_at dksX2_init_3 2 rfl rfl)
theorem dX2_init_75 : decode cX2_init 75 = .ok (.aload_n 0, 1) := dk_42 (dk_at dksX2_init_3 5 rfl rfl)
theorem dX2_init_76 : decode cX2_init 76 = .ok (.bipush 120, 2) := dk_16 120 (dk_at dksX2_init_3 6 rfl rfl)
theorem dX2_init_78 : decode cX2_init 78 = .ok (.newarray .int, 2) := dk_188_10 (dk_at dksX2_init_3 8 rfl rfl)
theorem dX2_init_80 : decode cX2_init 80 = .ok (.putfield 39, 3) := dk_181 0 39 (dk_at dksX2_init_3 10 rfl rfl)
theorem dX2_init_83 : decode cX2_init 83 = .ok (.aload_n 0, 1) := dk_42 (dk_at dksX2_init_3 13 rfl rfl)
theorem dX2_init_84 : decode cX2_init 84 = .ok (.bipush 60, 2) := dk_16 60 (dk_at dksX2_init_3 14 rfl rfl)
theorem dX2_init_86 : decode cX2_init 86 = .ok (.newarray .int, 2) := dk_188_10 (dk_at dksX2_init_3 16 rfl rfl)
theorem dX2_init_88 : decode cX2_init 88 = .ok (.putfield 42, 3) := dk_181 0 42 (dk_at dksX2_init_3 18 rfl rfl)
theorem dX2_init_91 : decode cX2_init 91 = .ok (.aload_n 0, 1) := dk_42 (dk_at dksX2_init_3 21 rfl rfl)
theorem dX2_init_92 : decode cX2_init 92 = .ok (.bipush 60, 2) := dk_16 60 (dk_at dksX2_init_3 22 rfl rfl)
theorem dX2_init_94 : decode cX2_init 94 = .ok (.newarray .int, 2) := dk_188_10 (dk_at dksX2_init_4 0 rfl rfl)
theorem dX2_init_96 : decode cX2_init 96 = .ok (.putfield 45, 3) := dk_181 0 45 (dk_at dksX2_init_4 2 rfl rfl)
theorem dX2_init_99 : decode cX2_init 99 = .ok (.aload_n 0, 1) := dk_42 (dk_at dksX2_init_4 5 rfl rfl)
theorem dX2_init_100 : decode cX2_init 100 = .ok (.bipush 60, 2) := dk_16 60 (dk_at dksX2_init_4 6 rfl rfl)
theorem dX2_init_102 : decode cX2_init 102 = .ok (.newarray .int, 2) := dk_188_10 (dk_at dksX2_init_4 8 rfl rfl)
theorem dX2_init_104 : decode cX2_init 104 = .ok (.putfield 48, 3) := dk_181 0 48 (dk_at dksX2_init_4 10 rfl rfl)
theorem dX2_init_107 : decode cX2_init 107 = .ok (.aload_n 0, 1) := dk_42 (dk_at dksX2_init_4 13 rfl rfl)
theorem dX2_init_108 : decode cX2_init 108 = .ok (.sipush 200, 3) := dk_17 0 200 (dk_at dksX2_init_4 14 rfl rfl)
theorem dX2_init_111 : decode cX2_init 111 = .ok (.newarray .int, 2) := dk_188_10 (dk_at dksX2_init_4 17 rfl rfl)
theorem dX2_init_113 : decode cX2_init 113 = .ok (.putfield 51, 3) := dk_181 0 51 (dk_at dksX2_init_4 19 rfl rfl)
theorem dX2_init_116 : decode cX2_init 116 = .ok (.aload_n 0, 1) := dk_42 (dk_at dksX2_init_4 22 rfl rfl)
theorem dX2_init_117 : decode cX2_init 117 = .ok (.bipush 61, 2) := dk_16 61 (dk_at dksX2_init_5 0 rfl rfl)
theorem dX2_init_119 : decode cX2_init 119 = .ok (.newarray .int, 2) := dk_188_10 (dk_at dksX2_init_5 2 rfl rfl)
theorem dX2_init_121 : decode cX2_init 121 = .ok (.putfield 54, 3) := dk_181 0 54 (dk_at dksX2_init_5 4 rfl rfl)
theorem dX2_init_124 : decode cX2_init 124 = .ok (.aload_n 0, 1) := dk_42 (dk_at dksX2_init_5 7 rfl rfl)
theorem dX2_init_125 : decode cX2_init 125 = .ok (.bipush 61, 2) := dk_16 61 (dk_at dksX2_init_5 8 rfl rfl)
theorem dX2_init_127 : decode cX2_init 127 = .ok (.newarray .int, 2) := dk_188_10 (dk_at dksX2_init_5 10 rfl rfl)
theorem dX2_init_129 : decode cX2_init 129 = .ok (.putfield 57, 3) := dk_181 0 57 (dk_at dksX2_init_5 12 rfl rfl)
theorem dX2_init_132 : decode cX2_init 132 = .ok (.aload_n 0, 1) := dk_42 (dk_at dksX2_init_5 15 rfl rfl)
theorem dX2_init_133 : decode cX2_init 133 = .ok (.bipush 61, 2) := dk_16 61 (dk_at dksX2_init_5 16 rfl rfl)
theorem dX2_init_135 : decode cX2_init 135 = .ok (.newarray .int, 2) := dk_188_10 (dk_at dksX2_init_5 18 rfl rfl)
theorem dX2_init_137 : decode cX2_init 137 = .ok (.putfield 60, 3) := dk_181 0 60 (dk_at dksX2_init_5 20 rfl rfl)
theorem dX2_init_140 : decode cX2_init 140 = .ok (.aload_n 0, 1) := dk_42 (dk_at dksX2_init_5 23 rfl rfl)
theorem dX2_init_141 : decode cX2_init 141 = .ok (.sipush 200, 3) := dk_17 0 200 (dk_at dksX2_init_6 0 rfl rfl)
theorem dX2_init_144 : decode cX2_init 144 = .ok (.newarray .int, 2) := dk_188_10 (dk_at dksX2_init_6 3 rfl rfl)
theorem dX2_init_146 : decode cX2_init 146 = .ok (.putfield 63, 3) := dk_181 0 63 (dk_at dksX2_init_6 5 rfl rfl)
theorem dX2_init_149 : decode cX2_init 149 = .ok (.aload_n 0, 1) := dk_42 (dk_at dksX2_init_6 8 rfl rfl)
theorem dX2_init_150 : decode cX2_init 150 = .ok (.sipush 200, 3) := dk_17 0 200 (dk_at dksX2_init_6 9 rfl rfl)
theorem dX2_init_153 : decode cX2_init 153 = .ok (.newarray .int, 2) := dk_188_10 (dk_at dksX2_init_6 12 rfl rfl)
theorem dX2_init_155 : decode cX2_init 155 = .ok (.putfield 66, 3) := dk_181 0 66 (dk_at dksX2_init_6 14 rfl rfl)
theorem dX2_init_158 : decode cX2_init 158 = .ok (.aload_n 0, 1) := dk_42 (dk_at dksX2_init_6 17 rfl rfl)
theorem dX2_init_159 : decode cX2_init 159 = .ok (.bipush 6, 2) := dk_16 6 (dk_at dksX2_init_6 18 rfl rfl)
theorem dX2_init_161 : decode cX2_init 161 = .ok (.newarray .int, 2) := dk_188_10 (dk_at dksX2_init_6 20 rfl rfl)
theorem dX2_init_163 : decode cX2_init 163 = .ok (.putfield 69, 3) := dk_181 0 69 (dk_at dksX2_init_7 0 rfl rfl)
theorem dX2_init_166 : decode cX2_init 166 = .ok (.aload_n 0, 1) := dk_42 (dk_at dksX2_init_7 3 rfl rfl)
theorem dX2_init_167 : decode cX2_init 167 = .ok (.iconst 5, 1) := dk_8 (dk_at dksX2_init_7 4 rfl rfl)
theorem dX2_init_168 : decode cX2_init 168 = .ok (.newarray .int, 2) := dk_188_10 (dk_at dksX2_init_7 5 rfl rfl)
theorem dX2_init_170 : decode cX2_init 170 = .ok (.putfield 72, 3) := dk_181 0 72 (dk_at dksX2_init_7 7 rfl rfl)
theorem dX2_init_173 : decode cX2_init 173 = .ok (.aload_n 0, 1) := dk_42 (dk_at dksX2_init_7 10 rfl rfl)
theorem dX2_init_174 : decode cX2_init 174 = .ok (.bipush 8, 2) := dk_16 8 (dk_at dksX2_init_7 11 rfl rfl)
theorem dX2_init_176 : decode cX2_init 176 = .ok (.newarray .int, 2) := dk_188_10 (dk_at dksX2_init_7 13 rfl rfl)
theorem dX2_init_178 : decode cX2_init 178 = .ok (.putfield 75, 3) := dk_181 0 75 (dk_at dksX2_init_7 15 rfl rfl)
theorem dX2_init_181 : decode cX2_init 181 = .ok (.aload_n 0, 1) := dk_42 (dk_at dksX2_init_7 18 rfl rfl)
theorem dX2_init_182 : decode cX2_init 182 = .ok (.bipush 8, 2) := dk_16 8 (dk_at dksX2_init_7 19 rfl rfl)
theorem dX2_init_184 : decode cX2_init 184 = .ok (.newarray .int, 2) := dk_188_10 (dk_at dksX2_init_7 21 rfl rfl)
theorem dX2_init_186 : decode cX2_init 186 = .ok (.putfield 78, 3) := dk_181 0 78 (dk_at dksX2_init_8 0 rfl rfl)
theorem dX2_init_189 : decode cX2_init 189 = .ok (.aload_n 0, 1) := dk_42 (dk_at dksX2_init_8 3 rfl rfl)
theorem dX2_init_190 : decode cX2_init 190 = .ok (.iconst 5, 1) := dk_8 (dk_at dksX2_init_8 4 rfl rfl)
theorem dX2_init_191 : decode cX2_init 191 = .ok (.newarray .int, 2) := dk_188_10 (dk_at dksX2_init_8 5 rfl rfl)
theorem dX2_init_193 : decode cX2_init 193 = .ok (.putfield 81, 3) := dk_181 0 81 (dk_at dksX2_init_8 7 rfl rfl)
theorem dX2_init_196 : decode cX2_init 196 = .ok (.aload_n 0, 1) := dk_42 (dk_at dksX2_init_8 10 rfl rfl)
theorem dX2_init_197 : decode cX2_init 197 = .ok (.sipush 160, 3) := dk_17 0 160 (dk_at dksX2_init_8 11 rfl rfl)
theorem dX2_init_200 : decode cX2_init 200 = .ok (.newarray .int, 2) := dk_188_10 (dk_at dksX2_init_8 14 rfl rfl)
theorem dX2_init_202 : decode cX2_init 202 = .ok (.putfield 84, 3) := dk_181 0 84 (dk_at dksX2_init_8 16 rfl rfl)
theorem dX2_init_205 : decode cX2_init 205 = .ok (.aload_n 0, 1) := dk_42 (dk_at dksX2_init_8 19 rfl rfl)
theorem dX2_init_206 : decode cX2_init 206 = .ok (.bipush 50, 2) := dk_16 50 (dk_at dksX2_init_8 20 rfl rfl)
theorem dX2_init_208 : decode cX2_init 208 = .ok (.newarray .int, 2) := dk_188_10 (dk_at dksX2_init_8 22 rfl rfl)
theorem dX2_init_210 : decode cX2_init 210 = .ok (.putfield 87, 3) := dk_181 0 87 (dk_at dksX2_init_9 0 rfl rfl)
theorem dX2_init_213 : decode cX2_init 213 = .ok (.aload_n 0, 1) := dk_42 (dk_at dksX2_init_9 3 rfl rfl)
theorem dX2_init_214 : decode cX2_init 214 = .ok (.bipush 24, 2) := dk_16 24 (dk_at dksX2_init_9 4 rfl rfl)
theorem dX2_init_216 : decode cX2_init 216 = .ok (.newarray .int, 2) := dk_188_10 (dk_at dksX2_init_9 6 rfl rfl)
theorem dX2_init_218 : decode cX2_init 218 = .ok (.putfield 90, 3) := dk_181 0 90 (dk_at dksX2_init_9 8 rfl rfl)
theorem dX2_init_221 : decode cX2_init 221 = .ok (.aload_n 0, 1) := dk_42 (dk_at dksX2_init_9 11 rfl rfl)
theorem dX2_init_222 : decode cX2_init 222 = .ok (.bipush 6, 2) := dk_16 6 (dk_at dksX2_init_9 12 rfl rfl)
theorem dX2_init_224 : decode cX2_init 224 = .ok (.newarray .int, 2) := dk_188_10 (dk_at dksX2_init_9 14 rfl rfl)
theorem dX2_init_226 : decode cX2_init 226 = .ok (.putfield 93, 3) := dk_181 0 93 (dk_at dksX2_init_9 16 rfl rfl)
theorem dX2_init_229 : decode cX2_init 229 = .ok (.aload_n 0, 1) := dk_42 (dk_at dksX2_init_9 19 rfl rfl)
theorem dX2_init_230 : decode cX2_init 230 = .ok (.bipush 6, 2) := dk_16 6 (dk_at dksX2_init_9 20 rfl rfl)
theorem dX2_init_232 : decode cX2_init 232 = .ok (.newarray .int, 2) := dk_188_10 (dk_at dksX2_init_9 22 rfl rfl)
theorem dX2_init_234 : decode cX2_init 234 = .ok (.putfield 96, 3) := dk_181 0 96 (dk_at dksX2_init_10 0 rfl rfl)
theorem dX2_init_237 : decode cX2_init 237 = .ok (.aload_n 0, 1) := dk_42 (dk_at dksX2_init_10 3 rfl rfl)
theorem dX2_init_238 : decode cX2_init 238 = .ok (.sipush 360, 3) := dk_17 1 104 (dk_at dksX2_init_10 4 rfl rfl)
theorem dX2_init_241 : decode cX2_init 241 = .ok (.newarray .long, 2) := dk_188_11 (dk_at dksX2_init_10 7 rfl rfl)
theorem dX2_init_243 : decode cX2_init 243 = .ok (.putfield 99, 3) := dk_181 0 99 (dk_at dksX2_init_10 9 rfl rfl)
theorem dX2_init_246 : decode cX2_init 246 = .ok (.aload_n 0, 1) := dk_42 (dk_at dksX2_init_10 12 rfl rfl)
theorem dX2_init_247 : decode cX2_init 247 = .ok (.bipush 60, 2) := dk_16 60 (dk_at dksX2_init_10 13 rfl rfl)
theorem dX2_init_249 : decode cX2_init 249 = .ok (.newarray .int, 2) := dk_188_10 (dk_at dksX2_init_10 15 rfl rfl)
theorem dX2_init_251 : decode cX2_init 251 = .ok (.putfield 103, 3) := dk_181 0 103 (dk_at dksX2_init_10 17 rfl rfl)
theorem dX2_init_254 : decode cX2_init 254 = .ok (.aload_n 0, 1) := dk_42 (dk_at dksX2_init_10 20 rfl rfl)
theorem dX2_init_255 : decode cX2_init 255 = .ok (.sipush 488, 3) := dk_17 1 232 (dk_at dksX2_init_10 21 rfl rfl)
theorem dX2_init_258 : decode cX2_init 258 = .ok (.newarray .int, 2) := dk_188_10 (dk_at dksX2_init_11 0 rfl rfl)
theorem dX2_init_260 : decode cX2_init 260 = .ok (.putfield 106, 3) := dk_181 0 106 (dk_at dksX2_init_11 2 rfl rfl)
theorem dX2_init_263 : decode cX2_init 263 = .ok (.aload_n 0, 1) := dk_42 (dk_at dksX2_init_11 5 rfl rfl)
theorem dX2_init_264 : decode cX2_init 264 = .ok (.bipush 80, 2) := dk_16 80 (dk_at dksX2_init_11 6 rfl rfl)
theorem dX2_init_266 : decode cX2_init 266 = .ok (.newarray .int, 2) := dk_188_10 (dk_at dksX2_init_11 8 rfl rfl)
theorem dX2_init_268 : decode cX2_init 268 = .ok (.putfield 109, 3) := dk_181 0 109 (dk_at dksX2_init_11 10 rfl rfl)
theorem dX2_init_271 : decode cX2_init 271 = .ok (.aload_n 0, 1) := dk_42 (dk_at dksX2_init_11 13 rfl rfl)
theorem dX2_init_272 : decode cX2_init 272 = .ok (.bipush 10, 2) := dk_16 10 (dk_at dksX2_init_11 14 rfl rfl)
theorem dX2_init_274 : decode cX2_init 274 = .ok (.newarray .int, 2) := dk_188_10 (dk_at dksX2_init_11 16 rfl rfl)
theorem dX2_init_276 : decode cX2_init 276 = .ok (.putfield 112, 3) := dk_181 0 112 (dk_at dksX2_init_11 18 rfl rfl)
theorem dX2_init_279 : decode cX2_init 279 = .ok (.aload_n 0, 1) := dk_42 (dk_at dksX2_init_11 21 rfl rfl)
theorem dX2_init_280 : decode cX2_init 280 = .ok (.bipush 6, 2) := dk_16 6 (dk_at dksX2_init_11 22 rfl rfl)
theorem dX2_init_282 : decode cX2_init 282 = .ok (.newarray .int, 2) := dk_188_10 (dk_at dksX2_init_12 0 rfl rfl)
theorem dX2_init_284 : decode cX2_init 284 = .ok (.putfield 115, 3) := dk_181 0 115 (dk_at dksX2_init_12 2 rfl rfl)
theorem dX2_init_287 : decode cX2_init 287 = .ok (.aload_n 0, 1) := dk_42 (dk_at dksX2_init_12 5 rfl rfl)
theorem dX2_init_288 : decode cX2_init 288 = .ok (.bipush 6, 2) := dk_16 6 (dk_at dksX2_init_12 6 rfl rfl)
theorem dX2_init_290 : decode cX2_init 290 = .ok (.newarray .int, 2) := dk_188_10 (dk_at dksX2_init_12 8 rfl rfl)
theorem dX2_init_292 : decode cX2_init 292 = .ok (.putfield 118, 3) := dk_181 0 118 (dk_at dksX2_init_12 10 rfl rfl)
theorem dX2_init_295 : decode cX2_init 295 = .ok (.aload_n 0, 1) := dk_42 (dk_at dksX2_init_12 13 rfl rfl)
theorem dX2_init_296 : decode cX2_init 296 = .ok (.getfield 30, 3) := dk_180 0 30 (dk_at dksX2_init_12 14 rfl rfl)
theorem dX2_init_299 : decode cX2_init 299 = .ok (.iconst 1, 1) := dk_4 (dk_at dksX2_init_12 17 rfl rfl)
theorem dX2_init_300 : decode cX2_init 300 = .ok (.bipush 25, 2) := dk_16 25 (dk_at dksX2_init_12 18 rfl rfl)
theorem dX2_init_302 : decode cX2_init 302 = .ok (.iastore, 1) := dk_79 (dk_at dksX2_init_12 20 rfl rfl)
theorem dX2_init_303 : decode cX2_init 303 = .ok (.aload_n 0, 1) := dk_42 (dk_at dksX2_init_12 21 rfl rfl)
theorem dX2_init_304 : decode cX2_init 304 = .ok (.getfield 30, 3) := dk_180 0 30 (dk_at dksX2_init_13 0 rfl rfl)
theorem dX2_init_307 : decode cX2_init 307 = .ok (.iconst 2, 1) := dk_5 (dk_at dksX2_init_13 3 rfl rfl)
theorem dX2_init_308 : decode cX2_init 308 = .ok (.iconst 1, 1) := dk_4 (dk_at dksX2_init_13 4 rfl rfl)
theorem dX2_init_309 : decode cX2_init 309 = .ok (.iastore, 1) := dk_79 (dk_at dksX2_init_13 5 rfl rfl)
theorem dX2_init_310 : decode cX2_init 310 = .ok (.aload_n 0, 1) := dk_42 (dk_at dksX2_init_13 6 rfl rfl)
theorem dX2_init_311 : decode cX2_init 311 = .ok (.bipush (-2), 2) := dk_16 254 (dk_at dksX2_init_13 7 rfl rfl)
theorem dX2_init_313 : decode cX2_init 313 = .ok (.putfield 121, 3) := dk_181 0 121 (dk_at dksX2_init_13 9 rfl rfl)
theorem dX2_init_316 : decode cX2_init 316 = .ok (.iconst 0, 1) := dk_3 (dk_at dksX2_init_13 12 rfl rfl)
theorem dX2_init_317 : decode cX2_init 317 = .ok (.istore_n 1, 1) := dk_60 (dk_at dksX2_init_13 13 rfl rfl)
theorem dX2_init_318 : decode cX2_init 318 = .ok (.iload_n 1, 1) := dk_27 (dk_at dksX2_init_13 14 rfl rfl)
theorem dX2_init_319 : decode cX2_init 319 = .ok (.bipush 6, 2) := dk_16 6 (dk_at dksX2_init_13 15 rfl rfl)
theorem dX2_init_321 : decode cX2_init 321 = .ok (.if_icmp .ge 16, 3) := dk_162 0 16 (dk_at dksX2_init_13 17 rfl rfl)
theorem dX2_init_324 : decode cX2_init 324 = .ok (.aload_n 0, 1) := dk_42 (dk_at dksX2_init_13 20 rfl rfl)
theorem dX2_init_325 : decode cX2_init 325 = .ok (.getfield 93, 3) := dk_180 0 93 (dk_at dksX2_init_13 21 rfl rfl)
theorem dX2_init_328 : decode cX2_init 328 = .ok (.iload_n 1, 1) := dk_27 (dk_at dksX2_init_14 0 rfl rfl)
theorem dX2_init_329 : decode cX2_init 329 = .ok (.iconst (-1), 1) := dk_2 (dk_at dksX2_init_14 1 rfl rfl)
theorem dX2_init_330 : decode cX2_init 330 = .ok (.iastore, 1) := dk_79 (dk_at dksX2_init_14 2 rfl rfl)
theorem dX2_init_331 : decode cX2_init 331 = .ok (.iinc 1 1, 3) := dk_132 1 1 (dk_at dksX2_init_14 3 rfl rfl)
theorem dX2_init_334 : decode cX2_init 334 = .ok (.goto (-16), 3) := dk_167 255 240 (dk_at dksX2_init_14 6 rfl rfl)
theorem dX2_init_337 : decode cX2_init 337 = .ok (.return_, 1) := dk_177 (dk_at dksX2_init_14 9 rfl rfl)
abbrev cX2_swimmer : ByteArray := prog_31_method_7_code
def yX2_swimmer : MethodName := ⟨RX2, "swimmer", "(II)I"⟩
def dkwX2_swimmer_2 : List UInt8 := [42, 27, 16, 100, 112, 27, 16, 100, 108, 28, 3, 182, 0, 136, 172]
abbrev dktX2_swimmer_2 : List UInt8 := dkwX2_swimmer_2 ++ []
def dkwX2_swimmer_1 : List UInt8 := [16, 9, 184, 0, 128, 154, 0, 5, 2, 172, 42, 180, 0, 125, 16, 8, 160, 0, 8, 16, 253, 167, 0, 17]
abbrev dktX2_swimmer_1 : List UInt8 := dkwX2_swimmer_1 ++ dktX2_swimmer_2
def dkwX2_swimmer_0 : List UInt8 := [27, 155, 0, 31, 27, 16, 100, 108, 16, 15, 163, 0, 22, 27, 16, 100, 112, 16, 15, 163, 0, 13, 28, 4]
abbrev dktX2_swimmer_0 : List UInt8 := dkwX2_swimmer_0 ++ dktX2_swimmer_1
theorem dksX2_swimmer_0 : cX2_swimmer.data.toList.drop 0 = dktX2_swimmer_0 := by decide +kernel
theorem dksX2_swimmer_1 : cX2_swimmer.data.toList.drop 24 = dktX2_swimmer_1 := dk_seg dksX2_swimmer_0 24 rfl rfl
theorem dksX2_swimmer_2 : cX2_swimmer.data.toList.drop 48 = dktX2_swimmer_2 := dk_seg dksX2_swimmer_1 24 rfl rfl
theorem dX2_swimmer_0 : decode cX2_swimmer 0 = .ok (.iload_n 1, 1) := dk_27 (dk_at dksX2_swimmer_0 0 rfl rfl)
theorem dX2_swimmer_1 : decode cX2_swimmer 1 = .ok (.ifCond .lt 31, 3) := dk_155 0 31 (dk_at dksX2_swimmer_0 1 rfl rfl)
theorem dX2_swimmer_4 : decode cX2_swimmer 4 = .ok (.iload_n 1, 1) := dk_27 (dk_at dksX2_swimmer_0 4 rfl rfl)
theorem dX2_swimmer_5 : decode cX2_swimmer 5 = .ok (.bipush 100, 2) := dk_16 100 (dk_at dksX2_swimmer_0 5 rfl rfl)
theorem dX2_swimmer_7 : decode cX2_swimmer 7 = .ok (.idiv, 1) := dk_108 (dk_at dksX2_swimmer_0 7 rfl rfl)
theorem dX2_swimmer_8 : decode cX2_swimmer 8 = .ok (.bipush 15, 2) := dk_16 15 (dk_at dksX2_swimmer_0 8 rfl rfl)
theorem dX2_swimmer_10 : decode cX2_swimmer 10 = .ok (.if_icmp .gt 22, 3) := dk_163 0 22 (dk_at dksX2_swimmer_0 10 rfl rfl)
theorem dX2_swimmer_13 : decode cX2_swimmer 13 = .ok (.iload_n 1, 1) := dk_27 (dk_at dksX2_swimmer_0 13 rfl rfl)
theorem dX2_swimmer_14 : decode cX2_swimmer 14 = .ok (.bipush 100, 2) := dk_16 100 (dk_at dksX2_swimmer_0 14 rfl rfl)
theorem dX2_swimmer_16 : decode cX2_swimmer 16 = .ok (.irem, 1) := dk_112 (dk_at dksX2_swimmer_0 16 rfl rfl)
theorem dX2_swimmer_17 : decode cX2_swimmer 17 = .ok (.bipush 15, 2) := dk_16 15 (dk_at dksX2_swimmer_0 17 rfl rfl)
theorem dX2_swimmer_19 : decode cX2_swimmer 19 = .ok (.if_icmp .gt 13, 3) := dk_163 0 13 (dk_at dksX2_swimmer_0 19 rfl rfl)
theorem dX2_swimmer_22 : decode cX2_swimmer 22 = .ok (.iload_n 2, 1) := dk_28 (dk_at dksX2_swimmer_0 22 rfl rfl)
theorem dX2_swimmer_23 : decode cX2_swimmer 23 = .ok (.iconst 1, 1) := dk_4 (dk_at dksX2_swimmer_0 23 rfl rfl)
theorem dX2_swimmer_24 : decode cX2_swimmer 24 = .ok (.bipush 9, 2) := dk_16 9 (dk_at dksX2_swimmer_1 0 rfl rfl)
theorem dX2_swimmer_26 : decode cX2_swimmer 26 = .ok (.invokestatic 128, 3) := dk_184 0 128 (dk_at dksX2_swimmer_1 2 rfl rfl)
theorem dX2_swimmer_29 : decode cX2_swimmer 29 = .ok (.ifCond .ne 5, 3) := dk_154 0 5 (dk_at dksX2_swimmer_1 5 rfl rfl)
theorem dX2_swimmer_32 : decode cX2_swimmer 32 = .ok (.iconst (-1), 1) := dk_2 (dk_at dksX2_swimmer_1 8 rfl rfl)
theorem dX2_swimmer_33 : decode cX2_swimmer 33 = .ok (.ireturn, 1) := dk_172 (dk_at dksX2_swimmer_1 9 rfl rfl)
theorem dX2_swimmer_34 : decode cX2_swimmer 34 = .ok (.aload_n 0, 1) := dk_42 (dk_at dksX2_swimmer_1 10 rfl rfl)
theorem dX2_swimmer_35 : decode cX2_swimmer 35 = .ok (.getfield 125, 3) := dk_180 0 125 (dk_at dksX2_swimmer_1 11 rfl rfl)
theorem dX2_swimmer_38 : decode cX2_swimmer 38 = .ok (.bipush 8, 2) := dk_16 8 (dk_at dksX2_swimmer_1 14 rfl rfl)
theorem dX2_swimmer_40 : decode cX2_swimmer 40 = .ok (.if_icmp .ne 8, 3) := dk_160 0 8 (dk_at dksX2_swimmer_1 16 rfl rfl)
theorem dX2_swimmer_43 : decode cX2_swimmer 43 = .ok (.bipush (-3), 2) := dk_16 253 (dk_at dksX2_swimmer_1 19 rfl rfl)
theorem dX2_swimmer_45 : decode cX2_swimmer 45 = .ok (.goto 17, 3) := dk_167 0 17 (dk_at dksX2_swimmer_1 21 rfl rfl)
theorem dX2_swimmer_48 : decode cX2_swimmer 48 = .ok (.aload_n 0, 1) := dk_42 (dk_at dksX2_swimmer_2 0 rfl rfl)
theorem dX2_swimmer_49 : decode cX2_swimmer 49 = .ok (.iload_n 1, 1) := dk_27 (dk_at dksX2_swimmer_2 1 rfl rfl)
theorem dX2_swimmer_50 : decode cX2_swimmer 50 = .ok (.bipush 100, 2) := dk_16 100 (dk_at dksX2_swimmer_2 2 rfl rfl)
theorem dX2_swimmer_52 : decode cX2_swimmer 52 = .ok (.irem, 1) := dk_112 (dk_at dksX2_swimmer_2 4 rfl rfl)
theorem dX2_swimmer_53 : decode cX2_swimmer 53 = .ok (.iload_n 1, 1) := dk_27 (dk_at dksX2_swimmer_2 5 rfl rfl)
theorem dX2_swimmer_54 : decode cX2_swimmer 54 = .ok (.bipush 100, 2) := dk_16 100 (dk_at dksX2_swimmer_2 6 rfl rfl)
theorem dX2_swimmer_56 : decode cX2_swimmer 56 = .ok (.idiv, 1) := dk_108 (dk_at dksX2_swimmer_2 8 rfl rfl)
theorem dX2_swimmer_57 : decode cX2_swimmer 57 = .ok (.iload_n 2, 1) := dk_28 (dk_at dksX2_swimmer_2 9 rfl rfl)
theorem dX2_swimmer_58 : decode cX2_swimmer 58 = .ok (.iconst 0, 1) := dk_3 (dk_at dksX2_swimmer_2 10 rfl rfl)
theorem dX2_swimmer_59 : decode cX2_swimmer 59 = .ok (.invokevirtual 136, 3) := dk_182 0 136 (dk_at dksX2_swimmer_2 11 rfl rfl)
theorem dX2_swimmer_62 : decode cX2_swimmer 62 = .ok (.ireturn, 1) := dk_172 (dk_at dksX2_swimmer_2 14 rfl rfl)
abbrev cX2_within : ByteArray := prog_31_method_2_code
def yX2_within : MethodName := ⟨RX2, "within", "(III)Z"⟩
def dkwX2_within_0 : List UInt8 := [26, 27, 161, 0, 12, 26, 28, 163, 0, 7, 4, 167, 0, 4, 3, 172]
abbrev dktX2_within_0 : List UInt8 := dkwX2_within_0 ++ []
theorem dksX2_within_0 : cX2_within.data.toList.drop 0 = dktX2_within_0 := by decide +kernel
theorem dX2_within_0 : decode cX2_within 0 = .ok (.iload_n 0, 1) := dk_26 (dk_at dksX2_within_0 0 rfl rfl)
theorem dX2_within_1 : decode cX2_within 1 = .ok (.iload_n 1, 1) := dk_27 (dk_at dksX2_within_0 1 rfl rfl)
theorem dX2_within_2 : decode cX2_within 2 = .ok (.if_icmp .lt 12, 3) := dk_161 0 12 (dk_at dksX2_within_0 2 rfl rfl)
theorem dX2_within_5 : decode cX2_within 5 = .ok (.iload_n 0, 1) := dk_26 (dk_at dksX2_within_0 5 rfl rfl)
theorem dX2_within_6 : decode cX2_within 6 = .ok (.iload_n 2, 1) := dk_28 (dk_at dksX2_within_0 6 rfl rfl)
theorem dX2_within_7 : decode cX2_within 7 = .ok (.if_icmp .gt 7, 3) := dk_163 0 7 (dk_at dksX2_within_0 7 rfl rfl)
theorem dX2_within_10 : decode cX2_within 10 = .ok (.iconst 1, 1) := dk_4 (dk_at dksX2_within_0 10 rfl rfl)
theorem dX2_within_11 : decode cX2_within 11 = .ok (.goto 4, 3) := dk_167 0 4 (dk_at dksX2_within_0 11 rfl rfl)
theorem dX2_within_14 : decode cX2_within 14 = .ok (.iconst 0, 1) := dk_3 (dk_at dksX2_within_0 14 rfl rfl)
theorem dX2_within_15 : decode cX2_within 15 = .ok (.ireturn, 1) := dk_172 (dk_at dksX2_within_0 15 rfl rfl)
abbrev cX2_newSwimmer : ByteArray := prog_31_method_6_code
def yX2_newSwimmer : MethodName := ⟨RX2, "newSwimmer", "(IIII)I"⟩
def dkwX2_newSwimmer_3 : List UInt8 := [3, 79, 42, 180, 0, 36, 42, 180, 0, 125, 3, 79, 42, 89, 180, 0, 125, 90, 4, 96, 181, 0, 125, 172]
abbrev dktX2_newSwimmer_3 : List UInt8 := dkwX2_newSwimmer_3 ++ []
def dkwX2_newSwimmer_2 : List UInt8 := [180, 0, 125, 21, 4, 79, 42, 180, 0, 27, 42, 180, 0, 125, 3, 79, 42, 180, 0, 33, 42, 180, 0, 125]
abbrev dktX2_newSwimmer_2 : List UInt8 := dkwX2_newSwimmer_2 ++ dktX2_newSwimmer_3
def dkwX2_newSwimmer_1 : List UInt8 := [42, 180, 0, 125, 29, 79, 42, 180, 0, 21, 42, 180, 0, 125, 16, 12, 79, 42, 180, 0, 24, 42]
abbrev dktX2_newSwimmer_1 : List UInt8 := dkwX2_newSwimmer_1 ++ dktX2_newSwimmer_2
def dkwX2_newSwimmer_0 : List UInt8 := [42, 180, 0, 9, 42, 180, 0, 125, 27, 79, 42, 180, 0, 15, 42, 180, 0, 125, 28, 79, 42, 180, 0, 18]
abbrev dktX2_newSwimmer_0 : List UInt8 := dkwX2_newSwimmer_0 ++ dktX2_newSwimmer_1
theorem dksX2_newSwimmer_0 : cX2_newSwimmer.data.toList.drop 0 = dktX2_newSwimmer_0 := by decide +kernel
theorem dksX2_newSwimmer_1 : cX2_newSwimmer.data.toList.drop 24 = dktX2_newSwimmer_1 := dk_seg dksX2_newSwimmer_0 24 rfl rfl
theorem dksX2_newSwimmer_2 : cX2_newSwimmer.data.toList.drop 46 = dktX2_newSwimmer_2 := dk_seg dksX2_newSwimmer_1 22 rfl rfl
theorem dksX2_newSwimmer_3 : cX2_newSwimmer.data.toList.drop 70 = dktX2_newSwimmer_3 := dk_seg dksX2_newSwimmer_2 24 rfl rfl
theorem dX2_newSwimmer_0 : decode cX2_newSwimmer 0 = .ok (.aload_n 0, 1) := dk_42 (dk_at dksX2_newSwimmer_0 0 rfl rfl)
theorem dX2_newSwimmer_1 : decode cX2_newSwimmer 1 = .ok (.getfield 9, 3) := dk_180 0 9 (dk_at dksX2_newSwimmer_0 1 rfl rfl)
theorem dX2_newSwimmer_4 : decode cX2_newSwimmer 4 = .ok (.aload_n 0, 1) := dk_42 (dk_at dksX2_newSwimmer_0 4 rfl rfl)
theorem dX2_newSwimmer_5 : decode cX2_newSwimmer 5 = .ok (.getfield 125, 3) := dk_180 0 125 (dk_at dksX2_newSwimmer_0 5 rfl rfl)
theorem dX2_newSwimmer_8 : decode cX2_newSwimmer 8 = .ok (.iload_n 1, 1) := dk_27 (dk_at dksX2_newSwimmer_0 8 rfl rfl)
theorem dX2_newSwimmer_9 : decode cX2_newSwimmer 9 = .ok (.iastore, 1) := dk_79 (dk_at dksX2_newSwimmer_0 9 rfl rfl)
theorem dX2_newSwimmer_10 : decode cX2_newSwimmer 10 = .ok (.aload_n 0, 1) := dk_42 (dk_at dksX2_newSwimmer_0 10 rfl rfl)
theorem dX2_newSwimmer_11 : decode cX2_newSwimmer 11 = .ok (.getfield 15, 3) := dk_180 0 15 (dk_at dksX2_newSwimmer_0 11 rfl rfl)
theorem dX2_newSwimmer_14 : decode cX2_newSwimmer 14 = .ok (.aload_n 0, 1) := dk_42 (dk_at dksX2_newSwimmer_0 14 rfl rfl)
theorem dX2_newSwimmer_15 : decode cX2_newSwimmer 15 = .ok (.getfield 125, 3) := dk_180 0 125 (dk_at dksX2_newSwimmer_0 15 rfl rfl)
theorem dX2_newSwimmer_18 : decode cX2_newSwimmer 18 = .ok (.iload_n 2, 1) := dk_28 (dk_at dksX2_newSwimmer_0 18 rfl rfl)
theorem dX2_newSwimmer_19 : decode cX2_newSwimmer 19 = .ok (.iastore, 1) := dk_79 (dk_at dksX2_newSwimmer_0 19 rfl rfl)
theorem dX2_newSwimmer_20 : decode cX2_newSwimmer 20 = .ok (.aload_n 0, 1) := dk_42 (dk_at dksX2_newSwimmer_0 20 rfl rfl)
theorem dX2_newSwimmer_21 : decode cX2_newSwimmer 21 = .ok (.getfield 18, 3) := dk_180 0 18 (dk_at dksX2_newSwimmer_0 21 rfl rfl)
theorem dX2_newSwimmer_24 : decode cX2_newSwimmer 24 = .ok (.aload_n 0, 1) := dk_42 (dk_at dksX2_newSwimmer_1 0 rfl rfl)
theorem dX2_newSwimmer_25 : decode cX2_newSwimmer 25 = .ok (.getfield 125, 3) := dk_180 0 125 (dk_at dksX2_newSwimmer_1 1 rfl rfl)
theorem dX2_newSwimmer_28 : decode cX2_newSwimmer 28 = .ok (.iload_n 3, 1) := dk_29 (dk_at dksX2_newSwimmer_1 4 rfl rfl)
theorem dX2_newSwimmer_29 : decode cX2_newSwimmer 29 = .ok (.iastore, 1) := dk_79 (dk_at dksX2_newSwimmer_1 5 rfl rfl)
theorem dX2_newSwimmer_30 : decode cX2_newSwimmer 30 = .ok (.aload_n 0, 1) := dk_42 (dk_at dksX2_newSwimmer_1 6 rfl rfl)
theorem dX2_newSwimmer_31 : decode cX2_newSwimmer 31 = .ok (.getfield 21, 3) := dk_180 0 21 (dk_at dksX2_newSwimmer_1 7 rfl rfl)
theorem dX2_newSwimmer_34 : decode cX2_newSwimmer 34 = .ok (.aload_n 0, 1) := dk_42 (dk_at dksX2_newSwimmer_1 10 rfl rfl)
theorem dX2_newSwimmer_35 : decode cX2_newSwimmer 35 = .ok (.getfield 125, 3) := dk_180 0 125 (dk_at dksX2_newSwimmer_1 11 rfl rfl)
theorem dX2_newSwimmer_38 : decode cX2_newSwimmer 38 = .ok (.bipush 12, 2) := dk_16 12 (dk_at dksX2_newSwimmer_1 14 rfl rfl)
theorem dX2_newSwimmer_40 : decode cX2_newSwimmer 40 = .ok (.iastore, 1) := dk_79 (dk_at dksX2_newSwimmer_1 16 rfl rfl)
theorem dX2_newSwimmer_41 : decode cX2_newSwimmer 41 = .ok (.aload_n 0, 1) := dk_42 (dk_at dksX2_newSwimmer_1 17 rfl rfl)
theorem dX2_newSwimmer_42 : decode cX2_newSwimmer 42 = .ok (.getfield 24, 3) := dk_180 0 24 (dk_at dksX2_newSwimmer_1 18 rfl rfl)
theorem dX2_newSwimmer_45 : decode cX2_newSwimmer 45 = .ok (.aload_n 0, 1) := dk_42 (dk_at dksX2_newSwimmer_1 21 rfl rfl)
theorem dX2_newSwimmer_46 : decode cX2_newSwimmer 46 = .ok (.getfield 125, 3) := dk_180 0 125 (dk_at dksX2_newSwimmer_2 0 rfl rfl)
theorem dX2_newSwimmer_49 : decode cX2_newSwimmer 49 = .ok (.iload 4, 2) := dk_21 4 (dk_at dksX2_newSwimmer_2 3 rfl rfl)
theorem dX2_newSwimmer_51 : decode cX2_newSwimmer 51 = .ok (.iastore, 1) := dk_79 (dk_at dksX2_newSwimmer_2 5 rfl rfl)
theorem dX2_newSwimmer_52 : decode cX2_newSwimmer 52 = .ok (.aload_n 0, 1) := dk_42 (dk_at dksX2_newSwimmer_2 6 rfl rfl)
theorem dX2_newSwimmer_53 : decode cX2_newSwimmer 53 = .ok (.getfield 27, 3) := dk_180 0 27 (dk_at dksX2_newSwimmer_2 7 rfl rfl)
theorem dX2_newSwimmer_56 : decode cX2_newSwimmer 56 = .ok (.aload_n 0, 1) := dk_42 (dk_at dksX2_newSwimmer_2 10 rfl rfl)
theorem dX2_newSwimmer_57 : decode cX2_newSwimmer 57 = .ok (.getfield 125, 3) := dk_180 0 125 (dk_at dksX2_newSwimmer_2 11 rfl rfl)
theorem dX2_newSwimmer_60 : decode cX2_newSwimmer 60 = .ok (.iconst 0, 1) := dk_3 (dk_at dksX2_newSwimmer_2 14 rfl rfl)
theorem dX2_newSwimmer_61 : decode cX2_newSwimmer 61 = .ok (.iastore, 1) := dk_79 (dk_at dksX2_newSwimmer_2 15 rfl rfl)
theorem dX2_newSwimmer_62 : decode cX2_newSwimmer 62 = .ok (.aload_n 0, 1) := dk_42 (dk_at dksX2_newSwimmer_2 16 rfl rfl)
theorem dX2_newSwimmer_63 : decode cX2_newSwimmer 63 = .ok (.getfield 33, 3) := dk_180 0 33 (dk_at dksX2_newSwimmer_2 17 rfl rfl)
theorem dX2_newSwimmer_66 : decode cX2_newSwimmer 66 = .ok (.aload_n 0, 1) := dk_42 (dk_at dksX2_newSwimmer_2 20 rfl rfl)
theorem dX2_newSwimmer_67 : decode cX2_newSwimmer 67 = .ok (.getfield 125, 3) := dk_180 0 125 (dk_at dksX2_newSwimmer_2 21 rfl rfl)
theorem dX2_newSwimmer_70 : decode cX2_newSwimmer 70 = .ok (.iconst 0, 1) := dk_3 (dk_at dksX2_newSwimmer_3 0 rfl rfl)
theorem dX2_newSwimmer_71 : decode cX2_newSwimmer 71 = .ok (.iastore, 1) := dk_79 (dk_at dksX2_newSwimmer_3 1 rfl rfl)
theorem dX2_newSwimmer_72 : decode cX2_newSwimmer 72 = .ok (.aload_n 0, 1) := dk_42 (dk_at dksX2_newSwimmer_3 2 rfl rfl)
theorem dX2_newSwimmer_73 : decode cX2_newSwimmer 73 = .ok (.getfield 36, 3) := dk_180 0 36 (dk_at dksX2_newSwimmer_3 3 rfl rfl)
theorem dX2_newSwimmer_76 : decode cX2_newSwimmer 76 = .ok (.aload_n 0, 1) := dk_42 (dk_at dksX2_newSwimmer_3 6 rfl rfl)
theorem dX2_newSwimmer_77 : decode cX2_newSwimmer 77 = .ok (.getfield 125, 3) := dk_180 0 125 (dk_at dksX2_newSwimmer_3 7 rfl rfl)
theorem dX2_newSwimmer_80 : decode cX2_newSwimmer 80 = .ok (.iconst 0, 1) := dk_3 (dk_at dksX2_newSwimmer_3 10 rfl rfl)
theorem dX2_newSwimmer_81 : decode cX2_newSwimmer 81 = .ok (.iastore, 1) := dk_79 (dk_at dksX2_newSwimmer_3 11 rfl rfl)
theorem dX2_newSwimmer_82 : decode cX2_newSwimmer 82 = .ok (.aload_n 0, 1) := dk_42 (dk_at dksX2_newSwimmer_3 12 rfl rfl)
theorem dX2_newSwimmer_83 : decode cX2_newSwimmer 83 = .ok (.dup, 1) := dk_89 (dk_at dksX2_newSwimmer_3 13 rfl rfl)
theorem dX2_newSwimmer_84 : decode cX2_newSwimmer 84 = .ok (.getfield 125, 3) := dk_180 0 125 (dk_at dksX2_newSwimmer_3 14 rfl rfl)
theorem dX2_newSwimmer_87 : decode cX2_newSwimmer 87 = .ok (.dup_x1, 1) := dk_90 (dk_at dksX2_newSwimmer_3 17 rfl rfl)
theorem dX2_newSwimmer_88 : decode cX2_newSwimmer 88 = .ok (.iconst 1, 1) := dk_4 (dk_at dksX2_newSwimmer_3 18 rfl rfl)
theorem dX2_newSwimmer_89 : decode cX2_newSwimmer 89 = .ok (.iadd, 1) := dk_96 (dk_at dksX2_newSwimmer_3 19 rfl rfl)
theorem dX2_newSwimmer_90 : decode cX2_newSwimmer 90 = .ok (.putfield 125, 3) := dk_181 0 125 (dk_at dksX2_newSwimmer_3 20 rfl rfl)
theorem dX2_newSwimmer_93 : decode cX2_newSwimmer 93 = .ok (.ireturn, 1) := dk_172 (dk_at dksX2_newSwimmer_3 23 rfl rfl)
abbrev cX2_swimmers : ByteArray := prog_31_method_8_code
def yX2_swimmers : MethodName := ⟨RX2, "swimmers", "(III)I"⟩
def dkwX2_swimmers_10 : List UInt8 := [132, 4, 1, 132, 5, 1, 167, 255, 65, 21, 4, 172]
abbrev dktX2_swimmers_10 : List UInt8 := dkwX2_swimmers_10 ++ []
def dkwX2_swimmers_9 : List UInt8 := [180, 0, 99, 21, 8, 5, 96, 47, 136, 42, 180, 0, 99, 21, 8, 6, 96, 47, 136, 182, 0, 136, 87]
abbrev dktX2_swimmers_9 : List UInt8 := dkwX2_swimmers_9 ++ dktX2_swimmers_10
def dkwX2_swimmers_8 : List UInt8 := [21, 4, 172, 42, 42, 180, 0, 99, 21, 8, 47, 136, 42, 180, 0, 99, 21, 8, 4, 96, 47, 136, 42]
abbrev dktX2_swimmers_8 : List UInt8 := dkwX2_swimmers_8 ++ dktX2_swimmers_9
def dkwX2_swimmers_7 : List UInt8 := [153, 0, 23, 42, 180, 0, 99, 21, 8, 6, 96, 47, 136, 16, 247, 16, 9, 184, 0, 128, 154, 0, 6]
abbrev dktX2_swimmers_7 : List UInt8 := dkwX2_swimmers_7 ++ dktX2_swimmers_8
def dkwX2_swimmers_6 : List UInt8 := [184, 0, 128, 153, 0, 42, 42, 180, 0, 99, 21, 8, 5, 96, 47, 136, 4, 16, 9, 184, 0, 128]
abbrev dktX2_swimmers_6 : List UInt8 := dkwX2_swimmers_6 ++ dktX2_swimmers_7
def dkwX2_swimmers_5 : List UInt8 := [47, 136, 3, 16, 15, 184, 0, 128, 153, 0, 61, 42, 180, 0, 99, 21, 8, 4, 96, 47, 136, 3, 16, 15]
abbrev dktX2_swimmers_5 : List UInt8 := dkwX2_swimmers_5 ++ dktX2_swimmers_6
def dkwX2_swimmers_4 : List UInt8 := [16, 8, 160, 0, 6, 21, 4, 172, 16, 60, 27, 104, 22, 6, 136, 96, 54, 8, 42, 180, 0, 99, 21, 8]
abbrev dktX2_swimmers_4 : List UInt8 := dkwX2_swimmers_4 ++ dktX2_swimmers_5
def dkwX2_swimmers_3 : List UInt8 := [155, 0, 29, 22, 6, 20, 0, 143, 97, 42, 180, 0, 96, 27, 46, 133, 148, 157, 0, 12, 42, 180, 0, 125]
abbrev dktX2_swimmers_3 : List UInt8 := dkwX2_swimmers_3 ++ dktX2_swimmers_4
def dkwX2_swimmers_2 : List UInt8 := [54, 5, 21, 5, 29, 162, 0, 191, 28, 133, 20, 0, 143, 21, 5, 133, 105, 97, 55, 6, 22, 6, 9, 148]
abbrev dktX2_swimmers_2 : List UInt8 := dkwX2_swimmers_2 ++ dktX2_swimmers_3
def dkwX2_swimmers_1 : List UInt8 := [46, 2, 160, 0, 5, 3, 172, 42, 180, 0, 93, 27, 46, 153, 0, 6, 16, 244, 172, 3, 54, 4, 3]
abbrev dktX2_swimmers_1 : List UInt8 := dkwX2_swimmers_1 ++ dktX2_swimmers_2
def dkwX2_swimmers_0 : List UInt8 := [27, 184, 0, 140, 153, 0, 13, 29, 4, 16, 8, 184, 0, 128, 154, 0, 5, 2, 172, 42, 180, 0, 93, 27]
abbrev dktX2_swimmers_0 : List UInt8 := dkwX2_swimmers_0 ++ dktX2_swimmers_1
theorem dksX2_swimmers_0 : cX2_swimmers.data.toList.drop 0 = dktX2_swimmers_0 := by decide +kernel
theorem dksX2_swimmers_1 : cX2_swimmers.data.toList.drop 24 = dktX2_swimmers_1 := dk_seg dksX2_swimmers_0 24 rfl rfl
theorem dksX2_swimmers_2 : cX2_swimmers.data.toList.drop 47 = dktX2_swimmers_2 := dk_seg dksX2_swimmers_1 23 rfl rfl
theorem dksX2_swimmers_3 : cX2_swimmers.data.toList.drop 71 = dktX2_swimmers_3 := dk_seg dksX2_swimmers_2 24 rfl rfl
theorem dksX2_swimmers_4 : cX2_swimmers.data.toList.drop 95 = dktX2_swimmers_4 := dk_seg dksX2_swimmers_3 24 rfl rfl
theorem dksX2_swimmers_5 : cX2_swimmers.data.toList.drop 119 = dktX2_swimmers_5 := dk_seg dksX2_swimmers_4 24 rfl rfl
theorem dksX2_swimmers_6 : cX2_swimmers.data.toList.drop 143 = dktX2_swimmers_6 := dk_seg dksX2_swimmers_5 24 rfl rfl
theorem dksX2_swimmers_7 : cX2_swimmers.data.toList.drop 165 = dktX2_swimmers_7 := dk_seg dksX2_swimmers_6 22 rfl rfl
theorem dksX2_swimmers_8 : cX2_swimmers.data.toList.drop 188 = dktX2_swimmers_8 := dk_seg dksX2_swimmers_7 23 rfl rfl
theorem dksX2_swimmers_9 : cX2_swimmers.data.toList.drop 211 = dktX2_swimmers_9 := dk_seg dksX2_swimmers_8 23 rfl rfl
theorem dksX2_swimmers_10 : cX2_swimmers.data.toList.drop 234 = dktX2_swimmers_10 := dk_seg dksX2_swimmers_9 23 rfl rfl
theorem dX2_swimmers_0 : decode cX2_swimmers 0 = .ok (.iload_n 1, 1) := dk_27 (dk_at dksX2_swimmers_0 0 rfl rfl)
theorem dX2_swimmers_1 : decode cX2_swimmers 1 = .ok (.invokestatic 140, 3) := dk_184 0 140 (dk_at dksX2_swimmers_0 1 rfl rfl)
theorem dX2_swimmers_4 : decode cX2_swimmers 4 = .ok (.ifCond .eq 13, 3) := dk_153 0 13 (dk_at dksX2_swimmers_0 4 rfl rfl)
theorem dX2_swimmers_7 : decode cX2_swimmers 7 = .ok (.iload_n 3, 1) := dk_29 (dk_at dksX2_swimmers_0 7 rfl rfl)
theorem dX2_swimmers_8 : decode cX2_swimmers 8 = .ok (.iconst 1, 1) := dk_4 (dk_at dksX2_swimmers_0 8 rfl rfl)
theorem dX2_swimmers_9 : decode cX2_swimmers 9 = .ok (.bipush 8, 2) := dk_16 8 (dk_at dksX2_swimmers_0 9 rfl rfl)
theorem dX2_swimmers_11 : decode cX2_swimmers 11 = .ok (.invokestatic 128, 3) := dk_184 0 128 (dk_at dksX2_swimmers_0 11 rfl rfl)
theorem dX2_swimmers_14 : decode cX2_swimmers 14 = .ok (.ifCond .ne 5, 3) := dk_154 0 5 (dk_at dksX2_swimmers_0 14 rfl rfl)
theorem dX2_swimmers_17 : decode cX2_swimmers 17 = .ok (.iconst (-1), 1) := dk_2 (dk_at dksX2_swimmers_0 17 rfl rfl)
theorem dX2_swimmers_18 : decode cX2_swimmers 18 = .ok (.ireturn, 1) := dk_172 (dk_at dksX2_swimmers_0 18 rfl rfl)
theorem dX2_swimmers_19 : decode cX2_swimmers 19 = .ok (.aload_n 0, 1) := dk_42 (dk_at dksX2_swimmers_0 19 rfl rfl)
theorem dX2_swimmers_20 : decode cX2_swimmers 20 = .ok (.getfield 93, 3) := dk_180 0 93 (dk_at dksX2_swimmers_0 20 rfl rfl)
theorem dX2_swimmers_23 : decode cX2_swimmers 23 = .ok (.iload_n 1, 1) := dk_27 (dk_at dksX2_swimmers_0 23 rfl rfl)
theorem dX2_swimmers_24 : decode cX2_swimmers 24 = .ok (.iaload, 1) := dk_46 (dk_at dksX2_swimmers_1 0 rfl rfl)
theorem dX2_swimmers_25 : decode cX2_swimmers 25 = .ok (.iconst (-1), 1) := dk_2 (dk_at dksX2_swimmers_1 1 rfl rfl)
theorem dX2_swimmers_26 : decode cX2_swimmers 26 = .ok (.if_icmp .ne 5, 3) := dk_160 0 5 (dk_at dksX2_swimmers_1 2 rfl rfl)
theorem dX2_swimmers_29 : decode cX2_swimmers 29 = .ok (.iconst 0, 1) := dk_3 (dk_at dksX2_swimmers_1 5 rfl rfl)
theorem dX2_swimmers_30 : decode cX2_swimmers 30 = .ok (.ireturn, 1) := dk_172 (dk_at dksX2_swimmers_1 6 rfl rfl)
theorem dX2_swimmers_31 : decode cX2_swimmers 31 = .ok (.aload_n 0, 1) := dk_42 (dk_at dksX2_swimmers_1 7 rfl rfl)
theorem dX2_swimmers_32 : decode cX2_swimmers 32 = .ok (.getfield 93, 3) := dk_180 0 93 (dk_at dksX2_swimmers_1 8 rfl rfl)
theorem dX2_swimmers_35 : decode cX2_swimmers 35 = .ok (.iload_n 1, 1) := dk_27 (dk_at dksX2_swimmers_1 11 rfl rfl)
theorem dX2_swimmers_36 : decode cX2_swimmers 36 = .ok (.iaload, 1) := dk_46 (dk_at dksX2_swimmers_1 12 rfl rfl)
theorem dX2_swimmers_37 : decode cX2_swimmers 37 = .ok (.ifCond .eq 6, 3) := dk_153 0 6 (dk_at dksX2_swimmers_1 13 rfl rfl)
theorem dX2_swimmers_40 : decode cX2_swimmers 40 = .ok (.bipush (-12), 2) := dk_16 244 (dk_at dksX2_swimmers_1 16 rfl rfl)
theorem dX2_swimmers_42 : decode cX2_swimmers 42 = .ok (.ireturn, 1) := dk_172 (dk_at dksX2_swimmers_1 18 rfl rfl)
theorem dX2_swimmers_43 : decode cX2_swimmers 43 = .ok (.iconst 0, 1) := dk_3 (dk_at dksX2_swimmers_1 19 rfl rfl)
theorem dX2_swimmers_44 : decode cX2_swimmers 44 = .ok (.istore 4, 2) := dk_54 4 (dk_at dksX2_swimmers_1 20 rfl rfl)
theorem dX2_swimmers_46 : decode cX2_swimmers 46 = .ok (.iconst 0, 1) := dk_3 (dk_at dksX2_swimmers_1 22 rfl rfl)
theorem dX2_swimmers_47 : decode cX2_swimmers 47 = .ok (.istore 5, 2) := dk_54 5 (dk_at dksX2_swimmers_2 0 rfl rfl)
theorem dX2_swimmers_49 : decode cX2_swimmers 49 = .ok (.iload 5, 2) := dk_21 5 (dk_at dksX2_swimmers_2 2 rfl rfl)
theorem dX2_swimmers_51 : decode cX2_swimmers 51 = .ok (.iload_n 3, 1) := dk_29 (dk_at dksX2_swimmers_2 4 rfl rfl)
theorem dX2_swimmers_52 : decode cX2_swimmers 52 = .ok (.if_icmp .ge 191, 3) := dk_162 0 191 (dk_at dksX2_swimmers_2 5 rfl rfl)
theorem dX2_swimmers_55 : decode cX2_swimmers 55 = .ok (.iload_n 2, 1) := dk_28 (dk_at dksX2_swimmers_2 8 rfl rfl)
theorem dX2_swimmers_56 : decode cX2_swimmers 56 = .ok (.i2l, 1) := dk_133 (dk_at dksX2_swimmers_2 9 rfl rfl)
theorem dX2_swimmers_57 : decode cX2_swimmers 57 = .ok (.ldc2_w 143, 3) := dk_20 0 143 (dk_at dksX2_swimmers_2 10 rfl rfl)
theorem dX2_swimmers_60 : decode cX2_swimmers 60 = .ok (.iload 5, 2) := dk_21 5 (dk_at dksX2_swimmers_2 13 rfl rfl)
theorem dX2_swimmers_62 : decode cX2_swimmers 62 = .ok (.i2l, 1) := dk_133 (dk_at dksX2_swimmers_2 15 rfl rfl)
theorem dX2_swimmers_63 : decode cX2_swimmers 63 = .ok (.lmul, 1) := dk_105 (dk_at dksX2_swimmers_2 16 rfl rfl)
theorem dX2_swimmers_64 : decode cX2_swimmers 64 = .ok (.ladd, 1) := dk_97 (dk_at dksX2_swimmers_2 17 rfl rfl)
theorem dX2_swimmers_65 : decode cX2_swimmers 65 = .ok (.lstore 6, 2) := dk_55 6 (dk_at dksX2_swimmers_2 18 rfl rfl)
theorem dX2_swimmers_67 : decode cX2_swimmers 67 = .ok (.lload 6, 2) := dk_22 6 (dk_at dksX2_swimmers_2 20 rfl rfl)
theorem dX2_swimmers_69 : decode cX2_swimmers 69 = .ok (.lconst 0, 1) := dk_9 (dk_at dksX2_swimmers_2 22 rfl rfl)
theorem dX2_swimmers_70 : decode cX2_swimmers 70 = .ok (.lcmp, 1) := dk_148 (dk_at dksX2_swimmers_2 23 rfl rfl)
theorem dX2_swimmers_71 : decode cX2_swimmers 71 = .ok (.ifCond .lt 29, 3) := dk_155 0 29 (dk_at dksX2_swimmers_3 0 rfl rfl)
theorem dX2_swimmers_74 : decode cX2_swimmers 74 = .ok (.lload 6, 2) := dk_22 6 (dk_at dksX2_swimmers_3 3 rfl rfl)
theorem dX2_swimmers_76 : decode cX2_swimmers 76 = .ok (.ldc2_w 143, 3) := dk_20 0 143 (dk_at dksX2_swimmers_3 5 rfl rfl)
theorem dX2_swimmers_79 : decode cX2_swimmers 79 = .ok (.ladd, 1) := dk_97 (dk_at dksX2_swimmers_3 8 rfl rfl)
theorem dX2_swimmers_80 : decode cX2_swimmers 80 = .ok (.aload_n 0, 1) := dk_42 (dk_at dksX2_swimmers_3 9 rfl rfl)
theorem dX2_swimmers_81 : decode cX2_swimmers 81 = .ok (.getfield 96, 3) := dk_180 0 96 (dk_at dksX2_swimmers_3 10 rfl rfl)
theorem dX2_swimmers_84 : decode cX2_swimmers 84 = .ok (.iload_n 1, 1) := dk_27 (dk_at dksX2_swimmers_3 13 rfl rfl)
theorem dX2_swimmers_85 : decode cX2_swimmers 85 = .ok (.iaload, 1) := dk_46 (dk_at dksX2_swimmers_3 14 rfl rfl)
theorem dX2_swimmers_86 : decode cX2_swimmers 86 = .ok (.i2l, 1) := dk_133 (dk_at dksX2_swimmers_3 15 rfl rfl)
theorem dX2_swimmers_87 : decode cX2_swimmers 87 = .ok (.lcmp, 1) := dk_148 (dk_at dksX2_swimmers_3 16 rfl rfl)
theorem dX2_swimmers_88 : decode cX2_swimmers 88 = .ok (.ifCond .gt 12, 3) := dk_157 0 12 (dk_at dksX2_swimmers_3 17 rfl rfl)
theorem dX2_swimmers_91 : decode cX2_swimmers 91 = .ok (.aload_n 0, 1) := dk_42 (dk_at dksX2_swimmers_3 20 rfl rfl)
theorem dX2_swimmers_92 : decode cX2_swimmers 92 = .ok (.getfield 125, 3) := dk_180 0 125 (dk_at dksX2_swimmers_3 21 rfl rfl)
theorem dX2_swimmers_95 : decode cX2_swimmers 95 = .ok (.bipush 8, 2) := dk_16 8 (dk_at dksX2_swimmers_4 0 rfl rfl)
theorem dX2_swimmers_97 : decode cX2_swimmers 97 = .ok (.if_icmp .ne 6, 3) := dk_160 0 6 (dk_at dksX2_swimmers_4 2 rfl rfl)
theorem dX2_swimmers_100 : decode cX2_swimmers 100 = .ok (.iload 4, 2) := dk_21 4 (dk_at dksX2_swimmers_4 5 rfl rfl)
theorem dX2_swimmers_102 : decode cX2_swimmers 102 = .ok (.ireturn, 1) := dk_172 (dk_at dksX2_swimmers_4 7 rfl rfl)
theorem dX2_swimmers_103 : decode cX2_swimmers 103 = .ok (.bipush 60, 2) := dk_16 60 (dk_at dksX2_swimmers_4 8 rfl rfl)
theorem dX2_swimmers_105 : decode cX2_swimmers 105 = .ok (.iload_n 1, 1) := dk_27 (dk_at dksX2_swimmers_4 10 rfl rfl)
theorem dX2_swimmers_106 : decode cX2_swimmers 106 = .ok (.imul, 1) := dk_104 (dk_at dksX2_swimmers_4 11 rfl rfl)
theorem dX2_swimmers_107 : decode cX2_swimmers 107 = .ok (.lload 6, 2) := dk_22 6 (dk_at dksX2_swimmers_4 12 rfl rfl)
theorem dX2_swimmers_109 : decode cX2_swimmers 109 = .ok (.l2i, 1) := dk_136 (dk_at dksX2_swimmers_4 14 rfl rfl)
theorem dX2_swimmers_110 : decode cX2_swimmers 110 = .ok (.iadd, 1) := dk_96 (dk_at dksX2_swimmers_4 15 rfl rfl)
theorem dX2_swimmers_111 : decode cX2_swimmers 111 = .ok (.istore 8, 2) := dk_54 8 (dk_at dksX2_swimmers_4 16 rfl rfl)
theorem dX2_swimmers_113 : decode cX2_swimmers 113 = .ok (.aload_n 0, 1) := dk_42 (dk_at dksX2_swimmers_4 18 rfl rfl)
theorem dX2_swimmers_114 : decode cX2_swimmers 114 = .ok (.getfield 99, 3) := dk_180 0 99 (dk_at dksX2_swimmers_4 19 rfl rfl)
theorem dX2_swimmers_117 : decode cX2_swimmers 117 = .ok (.iload 8, 2) := dk_21 8 (dk_at dksX2_swimmers_4 22 rfl rfl)
theorem dX2_swimmers_119 : decode cX2_swimmers 119 = .ok (.laload, 1) := dk_47 (dk_at dksX2_swimmers_5 0 rfl rfl)
theorem dX2_swimmers_120 : decode cX2_swimmers 120 = .ok (.l2i, 1) := dk_136 (dk_at dksX2_swimmers_5 1 rfl rfl)
theorem dX2_swimmers_121 : decode cX2_swimmers 121 = .ok (.iconst 0, 1) := dk_3 (dk_at dksX2_swimmers_5 2 rfl rfl)
theorem dX2_swimmers_122 : decode cX2_swimmers 122 = .ok (.bipush 15, 2) := dk_16 15 (dk_at dksX2_swimmers_5 3 rfl rfl)
theorem dX2_swimmers_124 : decode cX2_swimmers 124 = .ok (.invokestatic 128, 3) := dk_184 0 128 (dk_at dksX2_swimmers_5 5 rfl rfl)
theorem dX2_swimmers_127 : decode cX2_swimmers 127 = .ok (.ifCond .eq 61, 3) := dk_153 0 61 (dk_at dksX2_swimmers_5 8 rfl rfl)
theorem dX2_swimmers_130 : decode cX2_swimmers 130 = .ok (.aload_n 0, 1) := dk_42 (dk_at dksX2_swimmers_5 11 rfl rfl)
theorem dX2_swimmers_131 : decode cX2_swimmers 131 = .ok (.getfield 99, 3) := dk_180 0 99 (dk_at dksX2_swimmers_5 12 rfl rfl)
theorem dX2_swimmers_134 : decode cX2_swimmers 134 = .ok (.iload 8, 2) := dk_21 8 (dk_at dksX2_swimmers_5 15 rfl rfl)
theorem dX2_swimmers_136 : decode cX2_swimmers 136 = .ok (.iconst 1, 1) := dk_4 (dk_at dksX2_swimmers_5 17 rfl rfl)
theorem dX2_swimmers_137 : decode cX2_swimmers 137 = .ok (.iadd, 1) := dk_96 (dk_at dksX2_swimmers_5 18 rfl rfl)
theorem dX2_swimmers_138 : decode cX2_swimmers 138 = .ok (.laload, 1) := dk_47 (dk_at dksX2_swimmers_5 19 rfl rfl)
theorem dX2_swimmers_139 : decode cX2_swimmers 139 = .ok (.l2i, 1) := dk_136 (dk_at dksX2_swimmers_5 20 rfl rfl)
theorem dX2_swimmers_140 : decode cX2_swimmers 140 = .ok (.iconst 0, 1) := dk_3 (dk_at dksX2_swimmers_5 21 rfl rfl)
theorem dX2_swimmers_141 : decode cX2_swimmers 141 = .ok (.bipush 15, 2) := dk_16 15 (dk_at dksX2_swimmers_5 22 rfl rfl)
theorem dX2_swimmers_143 : decode cX2_swimmers 143 = .ok (.invokestatic 128, 3) := dk_184 0 128 (dk_at dksX2_swimmers_6 0 rfl rfl)
theorem dX2_swimmers_146 : decode cX2_swimmers 146 = .ok (.ifCond .eq 42, 3) := dk_153 0 42 (dk_at dksX2_swimmers_6 3 rfl rfl)
theorem dX2_swimmers_149 : decode cX2_swimmers 149 = .ok (.aload_n 0, 1) := dk_42 (dk_at dksX2_swimmers_6 6 rfl rfl)
theorem dX2_swimmers_150 : decode cX2_swimmers 150 = .ok (.getfield 99, 3) := dk_180 0 99 (dk_at dksX2_swimmers_6 7 rfl rfl)
theorem dX2_swimmers_153 : decode cX2_swimmers 153 = .ok (.iload 8, 2) := dk_21 8 (dk_at dksX2_swimmers_6 10 rfl rfl)
theorem dX2_swimmers_155 : decode cX2_swimmers 155 = .ok (.iconst 2, 1) := dk_5 (dk_at dksX2_swimmers_6 12 rfl rfl)
theorem dX2_swimmers_156 : decode cX2_swimmers 156 = .ok (.iadd, 1) := dk_96 (dk_at dksX2_swimmers_6 13 rfl rfl)
theorem dX2_swimmers_157 : decode cX2_swimmers 157 = .ok (.laload, 1) := dk_47 (dk_at dksX2_swimmers_6 14 rfl rfl)
theorem dX2_swimmers_158 : decode cX2_swimmers 158 = .ok (.l2i, 1) := dk_136 (dk_at dksX2_swimmers_6 15 rfl rfl)
theorem dX2_swimmers_159 : decode cX2_swimmers 159 = .ok (.iconst 1, 1) := dk_4 (dk_at dksX2_swimmers_6 16 rfl rfl)
theorem dX2_swimmers_160 : decode cX2_swimmers 160 = .ok (.bipush 9, 2) := dk_16 9 (dk_at dksX2_swimmers_6 17 rfl rfl)
theorem dX2_swimmers_162 : decode cX2_swimmers 162 = .ok (.invokestatic 128, 3) := dk_184 0 128 (dk_at dksX2_swimmers_6 19 rfl rfl)
theorem dX2_swimmers_165 : decode cX2_swimmers 165 = .ok (.ifCond .eq 23, 3) := dk_153 0 23 (dk_at dksX2_swimmers_7 0 rfl rfl)
theorem dX2_swimmers_168 : decode cX2_swimmers 168 = .ok (.aload_n 0, 1) := dk_42 (dk_at dksX2_swimmers_7 3 rfl rfl)
theorem dX2_swimmers_169 : decode cX2_swimmers 169 = .ok (.getfield 99, 3) := dk_180 0 99 (dk_at dksX2_swimmers_7 4 rfl rfl)
theorem dX2_swimmers_172 : decode cX2_swimmers 172 = .ok (.iload 8, 2) := dk_21 8 (dk_at dksX2_swimmers_7 7 rfl rfl)
theorem dX2_swimmers_174 : decode cX2_swimmers 174 = .ok (.iconst 3, 1) := dk_6 (dk_at dksX2_swimmers_7 9 rfl rfl)
theorem dX2_swimmers_175 : decode cX2_swimmers 175 = .ok (.iadd, 1) := dk_96 (dk_at dksX2_swimmers_7 10 rfl rfl)
theorem dX2_swimmers_176 : decode cX2_swimmers 176 = .ok (.laload, 1) := dk_47 (dk_at dksX2_swimmers_7 11 rfl rfl)
theorem dX2_swimmers_177 : decode cX2_swimmers 177 = .ok (.l2i, 1) := dk_136 (dk_at dksX2_swimmers_7 12 rfl rfl)
theorem dX2_swimmers_178 : decode cX2_swimmers 178 = .ok (.bipush (-9), 2) := dk_16 247 (dk_at dksX2_swimmers_7 13 rfl rfl)
theorem dX2_swimmers_180 : decode cX2_swimmers 180 = .ok (.bipush 9, 2) := dk_16 9 (dk_at dksX2_swimmers_7 15 rfl rfl)
theorem dX2_swimmers_182 : decode cX2_swimmers 182 = .ok (.invokestatic 128, 3) := dk_184 0 128 (dk_at dksX2_swimmers_7 17 rfl rfl)
theorem dX2_swimmers_185 : decode cX2_swimmers 185 = .ok (.ifCond .ne 6, 3) := dk_154 0 6 (dk_at dksX2_swimmers_7 20 rfl rfl)
theorem dX2_swimmers_188 : decode cX2_swimmers 188 = .ok (.iload 4, 2) := dk_21 4 (dk_at dksX2_swimmers_8 0 rfl rfl)
theorem dX2_swimmers_190 : decode cX2_swimmers 190 = .ok (.ireturn, 1) := dk_172 (dk_at dksX2_swimmers_8 2 rfl rfl)
theorem dX2_swimmers_191 : decode cX2_swimmers 191 = .ok (.aload_n 0, 1) := dk_42 (dk_at dksX2_swimmers_8 3 rfl rfl)
theorem dX2_swimmers_192 : decode cX2_swimmers 192 = .ok (.aload_n 0, 1) := dk_42 (dk_at dksX2_swimmers_8 4 rfl rfl)
theorem dX2_swimmers_193 : decode cX2_swimmers 193 = .ok (.getfield 99, 3) := dk_180 0 99 (dk_at dksX2_swimmers_8 5 rfl rfl)
theorem dX2_swimmers_196 : decode cX2_swimmers 196 = .ok (.iload 8, 2) := dk_21 8 (dk_at dksX2_swimmers_8 8 rfl rfl)
theorem dX2_swimmers_198 : decode cX2_swimmers 198 = .ok (.laload, 1) := dk_47 (dk_at dksX2_swimmers_8 10 rfl rfl)
theorem dX2_swimmers_199 : decode cX2_swimmers 199 = .ok (.l2i, 1) := dk_136 (dk_at dksX2_swimmers_8 11 rfl rfl)
theorem dX2_swimmers_200 : decode cX2_swimmers 200 = .ok (.aload_n 0, 1) := dk_42 (dk_at dksX2_swimmers_8 12 rfl rfl)
theorem dX2_swimmers_201 : decode cX2_swimmers 201 = .ok (.getfield 99, 3) := dk_180 0 99 (dk_at dksX2_swimmers_8 13 rfl rfl)
theorem dX2_swimmers_204 : decode cX2_swimmers 204 = .ok (.iload 8, 2) := dk_21 8 (dk_at dksX2_swimmers_8 16 rfl rfl)
theorem dX2_swimmers_206 : decode cX2_swimmers 206 = .ok (.iconst 1, 1) := dk_4 (dk_at dksX2_swimmers_8 18 rfl rfl)
theorem dX2_swimmers_207 : decode cX2_swimmers 207 = .ok (.iadd, 1) := dk_96 (dk_at dksX2_swimmers_8 19 rfl rfl)
theorem dX2_swimmers_208 : decode cX2_swimmers 208 = .ok (.laload, 1) := dk_47 (dk_at dksX2_swimmers_8 20 rfl rfl)
theorem dX2_swimmers_209 : decode cX2_swimmers 209 = .ok (.l2i, 1) := dk_136 (dk_at dksX2_swimmers_8 21 rfl rfl)
theorem dX2_swimmers_210 : decode cX2_swimmers 210 = .ok (.aload_n 0, 1) := dk_42 (dk_at dksX2_swimmers_8 22 rfl rfl)
theorem dX2_swimmers_211 : decode cX2_swimmers 211 = .ok (.getfield 99, 3) := dk_180 0 99 (dk_at dksX2_swimmers_9 0 rfl rfl)
theorem dX2_swimmers_214 : decode cX2_swimmers 214 = .ok (.iload 8, 2) := dk_21 8 (dk_at dksX2_swimmers_9 3 rfl rfl)
theorem dX2_swimmers_216 : decode cX2_swimmers 216 = .ok (.iconst 2, 1) := dk_5 (dk_at dksX2_swimmers_9 5 rfl rfl)
theorem dX2_swimmers_217 : decode cX2_swimmers 217 = .ok (.iadd, 1) := dk_96 (dk_at dksX2_swimmers_9 6 rfl rfl)
theorem dX2_swimmers_218 : decode cX2_swimmers 218 = .ok (.laload, 1) := dk_47 (dk_at dksX2_swimmers_9 7 rfl rfl)
theorem dX2_swimmers_219 : decode cX2_swimmers 219 = .ok (.l2i, 1) := dk_136 (dk_at dksX2_swimmers_9 8 rfl rfl)
theorem dX2_swimmers_220 : decode cX2_swimmers 220 = .ok (.aload_n 0, 1) := dk_42 (dk_at dksX2_swimmers_9 9 rfl rfl)
theorem dX2_swimmers_221 : decode cX2_swimmers 221 = .ok (.getfield 99, 3) := dk_180 0 99 (dk_at dksX2_swimmers_9 10 rfl rfl)
theorem dX2_swimmers_224 : decode cX2_swimmers 224 = .ok (.iload 8, 2) := dk_21 8 (dk_at dksX2_swimmers_9 13 rfl rfl)
theorem dX2_swimmers_226 : decode cX2_swimmers 226 = .ok (.iconst 3, 1) := dk_6 (dk_at dksX2_swimmers_9 15 rfl rfl)
theorem dX2_swimmers_227 : decode cX2_swimmers 227 = .ok (.iadd, 1) := dk_96 (dk_at dksX2_swimmers_9 16 rfl rfl)
theorem dX2_swimmers_228 : decode cX2_swimmers 228 = .ok (.laload, 1) := dk_47 (dk_at dksX2_swimmers_9 17 rfl rfl)
theorem dX2_swimmers_229 : decode cX2_swimmers 229 = .ok (.l2i, 1) := dk_136 (dk_at dksX2_swimmers_9 18 rfl rfl)
theorem dX2_swimmers_230 : decode cX2_swimmers 230 = .ok (.invokevirtual 136, 3) := dk_182 0 136 (dk_at dksX2_swimmers_9 19 rfl rfl)
theorem dX2_swimmers_233 : decode cX2_swimmers 233 = .ok (.pop, 1) := dk_87 (dk_at dksX2_swimmers_9 22 rfl rfl)
theorem dX2_swimmers_234 : decode cX2_swimmers 234 = .ok (.iinc 4 1, 3) := dk_132 4 1 (dk_at dksX2_swimmers_10 0 rfl rfl)
theorem dX2_swimmers_237 : decode cX2_swimmers 237 = .ok (.iinc 5 1, 3) := dk_132 5 1 (dk_at dksX2_swimmers_10 3 rfl rfl)
theorem dX2_swimmers_240 : decode cX2_swimmers 240 = .ok (.goto (-191), 3) := dk_167 255 65 (dk_at dksX2_swimmers_10 6 rfl rfl)
theorem dX2_swimmers_243 : decode cX2_swimmers 243 = .ok (.iload 4, 2) := dk_21 4 (dk_at dksX2_swimmers_10 9 rfl rfl)
theorem dX2_swimmers_245 : decode cX2_swimmers 245 = .ok (.ireturn, 1) := dk_172 (dk_at dksX2_swimmers_10 11 rfl rfl)
abbrev cX2_isShelf : ByteArray := prog_31_method_5_code
def yX2_isShelf : MethodName := ⟨RX2, "isShelf", "(I)Z"⟩
def dkwX2_isShelf_0 : List UInt8 := [26, 3, 8, 184, 0, 128, 172]
abbrev dktX2_isShelf_0 : List UInt8 := dkwX2_isShelf_0 ++ []
theorem dksX2_isShelf_0 : cX2_isShelf.data.toList.drop 0 = dktX2_isShelf_0 := by decide +kernel
theorem dX2_isShelf_0 : decode cX2_isShelf 0 = .ok (.iload_n 0, 1) := dk_26 (dk_at dksX2_isShelf_0 0 rfl rfl)
theorem dX2_isShelf_1 : decode cX2_isShelf 1 = .ok (.iconst 0, 1) := dk_3 (dk_at dksX2_isShelf_0 1 rfl rfl)
theorem dX2_isShelf_2 : decode cX2_isShelf 2 = .ok (.iconst 5, 1) := dk_8 (dk_at dksX2_isShelf_0 2 rfl rfl)
theorem dX2_isShelf_3 : decode cX2_isShelf 3 = .ok (.invokestatic 128, 3) := dk_184 0 128 (dk_at dksX2_isShelf_0 3 rfl rfl)
theorem dX2_isShelf_6 : decode cX2_isShelf 6 = .ok (.ireturn, 1) := dk_172 (dk_at dksX2_isShelf_0 6 rfl rfl)
abbrev cX2_mend : ByteArray := prog_31_method_13_code
def yX2_mend : MethodName := ⟨RX2, "mend", "(III)I"⟩
def dkwX2_mend_7 : List UInt8 := [42, 180, 0, 161, 181, 0, 164, 21, 4, 172]
abbrev dktX2_mend_7 : List UInt8 := dkwX2_mend_7 ++ []
def dkwX2_mend_6 : List UInt8 := [180, 0, 84, 7, 42, 180, 0, 161, 104, 6, 96, 29, 79, 42, 89, 180, 0, 161, 4, 96, 181, 0, 161, 42]
abbrev dktX2_mend_6 : List UInt8 := dkwX2_mend_6 ++ dktX2_mend_7
def dkwX2_mend_5 : List UInt8 := [180, 0, 161, 104, 4, 96, 28, 79, 42, 180, 0, 84, 7, 42, 180, 0, 161, 104, 5, 96, 21, 4, 79, 42]
abbrev dktX2_mend_5 : List UInt8 := dkwX2_mend_5 ++ dktX2_mend_6
def dkwX2_mend_4 : List UInt8 := [100, 181, 0, 161, 42, 180, 0, 84, 7, 42, 180, 0, 161, 104, 27, 79, 42, 180, 0, 84, 7, 42]
abbrev dktX2_mend_4 : List UInt8 := dkwX2_mend_4 ++ dktX2_mend_5
def dkwX2_mend_3 : List UInt8 := [21, 5, 42, 180, 0, 84, 21, 5, 7, 96, 46, 79, 132, 5, 1, 167, 255, 229, 42, 89, 180, 0, 161, 4]
abbrev dktX2_mend_3 : List UInt8 := dkwX2_mend_3 ++ dktX2_mend_4
def dkwX2_mend_2 : List UInt8 := [180, 0, 161, 16, 40, 160, 0, 46, 3, 54, 5, 21, 5, 17, 0, 156, 162, 0, 25, 42, 180, 0, 84]
abbrev dktX2_mend_2 : List UInt8 := dkwX2_mend_2 ++ dktX2_mend_3
def dkwX2_mend_1 : List UInt8 := [182, 0, 153, 54, 4, 21, 4, 29, 160, 0, 6, 21, 4, 172, 42, 27, 28, 29, 182, 0, 157, 42]
abbrev dktX2_mend_1 : List UInt8 := dkwX2_mend_1 ++ dktX2_mend_2
def dkwX2_mend_0 : List UInt8 := [42, 27, 28, 182, 0, 145, 153, 0, 11, 28, 29, 184, 0, 149, 154, 0, 6, 18, 152, 172, 42, 27, 28]
abbrev dktX2_mend_0 : List UInt8 := dkwX2_mend_0 ++ dktX2_mend_1
theorem dksX2_mend_0 : cX2_mend.data.toList.drop 0 = dktX2_mend_0 := by decide +kernel
theorem dksX2_mend_1 : cX2_mend.data.toList.drop 23 = dktX2_mend_1 := dk_seg dksX2_mend_0 23 rfl rfl
theorem dksX2_mend_2 : cX2_mend.data.toList.drop 45 = dktX2_mend_2 := dk_seg dksX2_mend_1 22 rfl rfl
theorem dksX2_mend_3 : cX2_mend.data.toList.drop 68 = dktX2_mend_3 := dk_seg dksX2_mend_2 23 rfl rfl
theorem dksX2_mend_4 : cX2_mend.data.toList.drop 92 = dktX2_mend_4 := dk_seg dksX2_mend_3 24 rfl rfl
theorem dksX2_mend_5 : cX2_mend.data.toList.drop 114 = dktX2_mend_5 := dk_seg dksX2_mend_4 22 rfl rfl
theorem dksX2_mend_6 : cX2_mend.data.toList.drop 138 = dktX2_mend_6 := dk_seg dksX2_mend_5 24 rfl rfl
theorem dksX2_mend_7 : cX2_mend.data.toList.drop 162 = dktX2_mend_7 := dk_seg dksX2_mend_6 24 rfl rfl
theorem dX2_mend_0 : decode cX2_mend 0 = .ok (.aload_n 0, 1) := dk_42 (dk_at dksX2_mend_0 0 rfl rfl)
theorem dX2_mend_1 : decode cX2_mend 1 = .ok (.iload_n 1, 1) := dk_27 (dk_at dksX2_mend_0 1 rfl rfl)
theorem dX2_mend_2 : decode cX2_mend 2 = .ok (.iload_n 2, 1) := dk_28 (dk_at dksX2_mend_0 2 rfl rfl)
theorem dX2_mend_3 : decode cX2_mend 3 = .ok (.invokevirtual 145, 3) := dk_182 0 145 (dk_at dksX2_mend_0 3 rfl rfl)
theorem dX2_mend_6 : decode cX2_mend 6 = .ok (.ifCond .eq 11, 3) := dk_153 0 11 (dk_at dksX2_mend_0 6 rfl rfl)
theorem dX2_mend_9 : decode cX2_mend 9 = .ok (.iload_n 2, 1) := dk_28 (dk_at dksX2_mend_0 9 rfl rfl)
theorem dX2_mend_10 : decode cX2_mend 10 = .ok (.iload_n 3, 1) := dk_29 (dk_at dksX2_mend_0 10 rfl rfl)
theorem dX2_mend_11 : decode cX2_mend 11 = .ok (.invokestatic 149, 3) := dk_184 0 149 (dk_at dksX2_mend_0 11 rfl rfl)
theorem dX2_mend_14 : decode cX2_mend 14 = .ok (.ifCond .ne 6, 3) := dk_154 0 6 (dk_at dksX2_mend_0 14 rfl rfl)
theorem dX2_mend_17 : decode cX2_mend 17 = .ok (.ldc 152, 2) := dk_18 152 (dk_at dksX2_mend_0 17 rfl rfl)
theorem dX2_mend_19 : decode cX2_mend 19 = .ok (.ireturn, 1) := dk_172 (dk_at dksX2_mend_0 19 rfl rfl)
theorem dX2_mend_20 : decode cX2_mend 20 = .ok (.aload_n 0, 1) := dk_42 (dk_at dksX2_mend_0 20 rfl rfl)
theorem dX2_mend_21 : decode cX2_mend 21 = .ok (.iload_n 1, 1) := dk_27 (dk_at dksX2_mend_0 21 rfl rfl)
theorem dX2_mend_22 : decode cX2_mend 22 = .ok (.iload_n 2, 1) := dk_28 (dk_at dksX2_mend_0 22 rfl rfl)
theorem dX2_mend_23 : decode cX2_mend 23 = .ok (.invokevirtual 153, 3) := dk_182 0 153 (dk_at dksX2_mend_1 0 rfl rfl)
theorem dX2_mend_26 : decode cX2_mend 26 = .ok (.istore 4, 2) := dk_54 4 (dk_at dksX2_mend_1 3 rfl rfl)
theorem dX2_mend_28 : decode cX2_mend 28 = .ok (.iload 4, 2) := dk_21 4 (dk_at dksX2_mend_1 5 rfl rfl)
theorem dX2_mend_30 : decode cX2_mend 30 = .ok (.iload_n 3, 1) := dk_29 (dk_at dksX2_mend_1 7 rfl rfl)
theorem dX2_mend_31 : decode cX2_mend 31 = .ok (.if_icmp .ne 6, 3) := dk_160 0 6 (dk_at dksX2_mend_1 8 rfl rfl)
theorem dX2_mend_34 : decode cX2_mend 34 = .ok (.iload 4, 2) := dk_21 4 (dk_at dksX2_mend_1 11 rfl rfl)
theorem dX2_mend_36 : decode cX2_mend 36 = .ok (.ireturn, 1) := dk_172 (dk_at dksX2_mend_1 13 rfl rfl)
theorem dX2_mend_37 : decode cX2_mend 37 = .ok (.aload_n 0, 1) := dk_42 (dk_at dksX2_mend_1 14 rfl rfl)
theorem dX2_mend_38 : decode cX2_mend 38 = .ok (.iload_n 1, 1) := dk_27 (dk_at dksX2_mend_1 15 rfl rfl)
theorem dX2_mend_39 : decode cX2_mend 39 = .ok (.iload_n 2, 1) := dk_28 (dk_at dksX2_mend_1 16 rfl rfl)
theorem dX2_mend_40 : decode cX2_mend 40 = .ok (.iload_n 3, 1) := dk_29 (dk_at dksX2_mend_1 17 rfl rfl)
theorem dX2_mend_41 : decode cX2_mend 41 = .ok (.invokevirtual 157, 3) := dk_182 0 157 (dk_at dksX2_mend_1 18 rfl rfl)
theorem dX2_mend_44 : decode cX2_mend 44 = .ok (.aload_n 0, 1) := dk_42 (dk_at dksX2_mend_1 21 rfl rfl)
theorem dX2_mend_45 : decode cX2_mend 45 = .ok (.getfield 161, 3) := dk_180 0 161 (dk_at dksX2_mend_2 0 rfl rfl)
theorem dX2_mend_48 : decode cX2_mend 48 = .ok (.bipush 40, 2) := dk_16 40 (dk_at dksX2_mend_2 3 rfl rfl)
theorem dX2_mend_50 : decode cX2_mend 50 = .ok (.if_icmp .ne 46, 3) := dk_160 0 46 (dk_at dksX2_mend_2 5 rfl rfl)
theorem dX2_mend_53 : decode cX2_mend 53 = .ok (.iconst 0, 1) := dk_3 (dk_at dksX2_mend_2 8 rfl rfl)
theorem dX2_mend_54 : decode cX2_mend 54 = .ok (.istore 5, 2) := dk_54 5 (dk_at dksX2_mend_2 9 rfl rfl)
theorem dX2_mend_56 : decode cX2_mend 56 = .ok (.iload 5, 2) := dk_21 5 (dk_at dksX2_mend_2 11 rfl rfl)
theorem dX2_mend_58 : decode cX2_mend 58 = .ok (.sipush 156, 3) := dk_17 0 156 (dk_at dksX2_mend_2 13 rfl rfl)
theorem dX2_mend_61 : decode cX2_mend 61 = .ok (.if_icmp .ge 25, 3) := dk_162 0 25 (dk_at dksX2_mend_2 16 rfl rfl)
theorem dX2_mend_64 : decode cX2_mend 64 = .ok (.aload_n 0, 1) := dk_42 (dk_at dksX2_mend_2 19 rfl rfl)
theorem dX2_mend_65 : decode cX2_mend 65 = .ok (.getfield 84, 3) := dk_180 0 84 (dk_at dksX2_mend_2 20 rfl rfl)
theorem dX2_mend_68 : decode cX2_mend 68 = .ok (.iload 5, 2) := dk_21 5 (dk_at dksX2_mend_3 0 rfl rfl)
theorem dX2_mend_70 : decode cX2_mend 70 = .ok (.aload_n 0, 1) := dk_42 (dk_at dksX2_mend_3 2 rfl rfl)
theorem dX2_mend_71 : decode cX2_mend 71 = .ok (.getfield 84, 3) := dk_180 0 84 (dk_at dksX2_mend_3 3 rfl rfl)
theorem dX2_mend_74 : decode cX2_mend 74 = .ok (.iload 5, 2) := dk_21 5 (dk_at dksX2_mend_3 6 rfl rfl)
theorem dX2_mend_76 : decode cX2_mend 76 = .ok (.iconst 4, 1) := dk_7 (dk_at dksX2_mend_3 8 rfl rfl)
theorem dX2_mend_77 : decode cX2_mend 77 = .ok (.iadd, 1) := dk_96 (dk_at dksX2_mend_3 9 rfl rfl)
theorem dX2_mend_78 : decode cX2_mend 78 = .ok (.iaload, 1) := dk_46 (dk_at dksX2_mend_3 10 rfl rfl)
theorem dX2_mend_79 : decode cX2_mend 79 = .ok (.iastore, 1) := dk_79 (dk_at dksX2_mend_3 11 rfl rfl)
theorem dX2_mend_80 : decode cX2_mend 80 = .ok (.iinc 5 1, 3) := dk_132 5 1 (dk_at dksX2_mend_3 12 rfl rfl)
theorem dX2_mend_83 : decode cX2_mend 83 = .ok (.goto (-27), 3) := dk_167 255 229 (dk_at dksX2_mend_3 15 rfl rfl)
theorem dX2_mend_86 : decode cX2_mend 86 = .ok (.aload_n 0, 1) := dk_42 (dk_at dksX2_mend_3 18 rfl rfl)
theorem dX2_mend_87 : decode cX2_mend 87 = .ok (.dup, 1) := dk_89 (dk_at dksX2_mend_3 19 rfl rfl)
theorem dX2_mend_88 : decode cX2_mend 88 = .ok (.getfield 161, 3) := dk_180 0 161 (dk_at dksX2_mend_3 20 rfl rfl)
theorem dX2_mend_91 : decode cX2_mend 91 = .ok (.iconst 1, 1) := dk_4 (dk_at dksX2_mend_3 23 rfl rfl)
theorem dX2_mend_92 : decode cX2_mend 92 = .ok (.isub, 1) := dk_100 (dk_at dksX2_mend_4 0 rfl rfl)
theorem dX2_mend_93 : decode cX2_mend 93 = .ok (.putfield 161, 3) := dk_181 0 161 (dk_at dksX2_mend_4 1 rfl rfl)
theorem dX2_mend_96 : decode cX2_mend 96 = .ok (.aload_n 0, 1) := dk_42 (dk_at dksX2_mend_4 4 rfl rfl)
theorem dX2_mend_97 : decode cX2_mend 97 = .ok (.getfield 84, 3) := dk_180 0 84 (dk_at dksX2_mend_4 5 rfl rfl)
theorem dX2_mend_100 : decode cX2_mend 100 = .ok (.iconst 4, 1) := dk_7 (dk_at dksX2_mend_4 8 rfl rfl)
theorem dX2_mend_101 : decode cX2_mend 101 = .ok (.aload_n 0, 1) := dk_42 (dk_at dksX2_mend_4 9 rfl rfl)
theorem dX2_mend_102 : decode cX2_mend 102 = .ok (.getfield 161, 3) := dk_180 0 161 (dk_at dksX2_mend_4 10 rfl rfl)
theorem dX2_mend_105 : decode cX2_mend 105 = .ok (.imul, 1) := dk_104 (dk_at dksX2_mend_4 13 rfl rfl)
theorem dX2_mend_106 : decode cX2_mend 106 = .ok (.iload_n 1, 1) := dk_27 (dk_at dksX2_mend_4 14 rfl rfl)
theorem dX2_mend_107 : decode cX2_mend 107 = .ok (.iastore, 1) := dk_79 (dk_at dksX2_mend_4 15 rfl rfl)
theorem dX2_mend_108 : decode cX2_mend 108 = .ok (.aload_n 0, 1) := dk_42 (dk_at dksX2_mend_4 16 rfl rfl)
theorem dX2_mend_109 : decode cX2_mend 109 = .ok (.getfield 84, 3) := dk_180 0 84 (dk_at dksX2_mend_4 17 rfl rfl)
theorem dX2_mend_112 : decode cX2_mend 112 = .ok (.iconst 4, 1) := dk_7 (dk_at dksX2_mend_4 20 rfl rfl)
theorem dX2_mend_113 : decode cX2_mend 113 = .ok (.aload_n 0, 1) := dk_42 (dk_at dksX2_mend_4 21 rfl rfl)
theorem dX2_mend_114 : decode cX2_mend 114 = .ok (.getfield 161, 3) := dk_180 0 161 (dk_at dksX2_mend_5 0 rfl rfl)
theorem dX2_mend_117 : decode cX2_mend 117 = .ok (.imul, 1) := dk_104 (dk_at dksX2_mend_5 3 rfl rfl)
theorem dX2_mend_118 : decode cX2_mend 118 = .ok (.iconst 1, 1) := dk_4 (dk_at dksX2_mend_5 4 rfl rfl)
theorem dX2_mend_119 : decode cX2_mend 119 = .ok (.iadd, 1) := dk_96 (dk_at dksX2_mend_5 5 rfl rfl)
theorem dX2_mend_120 : decode cX2_mend 120 = .ok (.iload_n 2, 1) := dk_28 (dk_at dksX2_mend_5 6 rfl rfl)
theorem dX2_mend_121 : decode cX2_mend 121 = .ok (.iastore, 1) := dk_79 (dk_at dksX2_mend_5 7 rfl rfl)
theorem dX2_mend_122 : decode cX2_mend 122 = .ok (.aload_n 0, 1) := dk_42 (dk_at dksX2_mend_5 8 rfl rfl)
theorem dX2_mend_123 : decode cX2_mend 123 = .ok (.getfield 84, 3) := dk_180 0 84 (dk_at dksX2_mend_5 9 rfl rfl)
theorem dX2_mend_126 : decode cX2_mend 126 = .ok (.iconst 4, 1) := dk_7 (dk_at dksX2_mend_5 12 rfl rfl)
theorem dX2_mend_127 : decode cX2_mend 127 = .ok (.aload_n 0, 1) := dk_42 (dk_at dksX2_mend_5 13 rfl rfl)
theorem dX2_mend_128 : decode cX2_mend 128 = .ok (.getfield 161, 3) := dk_180 0 161 (dk_at dksX2_mend_5 14 rfl rfl)
theorem dX2_mend_131 : decode cX2_mend 131 = .ok (.imul, 1) := dk_104 (dk_at dksX2_mend_5 17 rfl rfl)
theorem dX2_mend_132 : decode cX2_mend 132 = .ok (.iconst 2, 1) := dk_5 (dk_at dksX2_mend_5 18 rfl rfl)
theorem dX2_mend_133 : decode cX2_mend 133 = .ok (.iadd, 1) := dk_96 (dk_at dksX2_mend_5 19 rfl rfl)
theorem dX2_mend_134 : decode cX2_mend 134 = .ok (.iload 4, 2) := dk_21 4 (dk_at dksX2_mend_5 20 rfl rfl)
theorem dX2_mend_136 : decode cX2_mend 136 = .ok (.iastore, 1) := dk_79 (dk_at dksX2_mend_5 22 rfl rfl)
theorem dX2_mend_137 : decode cX2_mend 137 = .ok (.aload_n 0, 1) := dk_42 (dk_at dksX2_mend_5 23 rfl rfl)
theorem dX2_mend_138 : decode cX2_mend 138 = .ok (.getfield 84, 3) := dk_180 0 84 (dk_at dksX2_mend_6 0 rfl rfl)
theorem dX2_mend_141 : decode cX2_mend 141 = .ok (.iconst 4, 1) := dk_7 (dk_at dksX2_mend_6 3 rfl rfl)
theorem dX2_mend_142 : decode cX2_mend 142 = .ok (.aload_n 0, 1) := dk_42 (dk_at dksX2_mend_6 4 rfl rfl)
theorem dX2_mend_143 : decode cX2_mend 143 = .ok (.getfield 161, 3) := dk_180 0 161 (dk_at dksX2_mend_6 5 rfl rfl)
theorem dX2_mend_146 : decode cX2_mend 146 = .ok (.imul, 1) := dk_104 (dk_at dksX2_mend_6 8 rfl rfl)
theorem dX2_mend_147 : decode cX2_mend 147 = .ok (.iconst 3, 1) := dk_6 (dk_at dksX2_mend_6 9 rfl rfl)
theorem dX2_mend_148 : decode cX2_mend 148 = .ok (.iadd, 1) := dk_96 (dk_at dksX2_mend_6 10 rfl rfl)
theorem dX2_mend_149 : decode cX2_mend 149 = .ok (.iload_n 3, 1) := dk_29 (dk_at dksX2_mend_6 11 rfl rfl)
theorem dX2_mend_150 : decode cX2_mend 150 = .ok (.iastore, 1) := dk_79 (dk_at dksX2_mend_6 12 rfl rfl)
theorem dX2_mend_151 : decode cX2_mend 151 = .ok (.aload_n 0, 1) := dk_42 (dk_at dksX2_mend_6 13 rfl rfl)
theorem dX2_mend_152 : decode cX2_mend 152 = .ok (.dup, 1) := dk_89 (dk_at dksX2_mend_6 14 rfl rfl)
theorem dX2_mend_153 : decode cX2_mend 153 = .ok (.getfield 161, 3) := dk_180 0 161 (dk_at dksX2_mend_6 15 rfl rfl)
theorem dX2_mend_156 : decode cX2_mend 156 = .ok (.iconst 1, 1) := dk_4 (dk_at dksX2_mend_6 18 rfl rfl)
theorem dX2_mend_157 : decode cX2_mend 157 = .ok (.iadd, 1) := dk_96 (dk_at dksX2_mend_6 19 rfl rfl)
theorem dX2_mend_158 : decode cX2_mend 158 = .ok (.putfield 161, 3) := dk_181 0 161 (dk_at dksX2_mend_6 20 rfl rfl)
theorem dX2_mend_161 : decode cX2_mend 161 = .ok (.aload_n 0, 1) := dk_42 (dk_at dksX2_mend_6 23 rfl rfl)
theorem dX2_mend_162 : decode cX2_mend 162 = .ok (.aload_n 0, 1) := dk_42 (dk_at dksX2_mend_7 0 rfl rfl)
theorem dX2_mend_163 : decode cX2_mend 163 = .ok (.getfield 161, 3) := dk_180 0 161 (dk_at dksX2_mend_7 1 rfl rfl)
theorem dX2_mend_166 : decode cX2_mend 166 = .ok (.putfield 164, 3) := dk_181 0 164 (dk_at dksX2_mend_7 4 rfl rfl)
theorem dX2_mend_169 : decode cX2_mend 169 = .ok (.iload 4, 2) := dk_21 4 (dk_at dksX2_mend_7 7 rfl rfl)
theorem dX2_mend_171 : decode cX2_mend 171 = .ok (.ireturn, 1) := dk_172 (dk_at dksX2_mend_7 9 rfl rfl)
abbrev cX2_isOf : ByteArray := prog_31_method_9_code
def yX2_isOf : MethodName := ⟨RX2, "isOf", "(II)Z"⟩
def dkwX2_isOf_1 : List UInt8 := [184, 0, 128, 153, 0, 11, 27, 154, 0, 7, 4, 167, 0, 4, 3, 172]
abbrev dktX2_isOf_1 : List UInt8 := dkwX2_isOf_1 ++ []
def dkwX2_isOf_0 : List UInt8 := [28, 3, 8, 184, 0, 128, 153, 0, 11, 42, 27, 182, 0, 132, 167, 0, 23, 28, 16, 6, 16, 8]
abbrev dktX2_isOf_0 : List UInt8 := dkwX2_isOf_0 ++ dktX2_isOf_1
theorem dksX2_isOf_0 : cX2_isOf.data.toList.drop 0 = dktX2_isOf_0 := by decide +kernel
theorem dksX2_isOf_1 : cX2_isOf.data.toList.drop 22 = dktX2_isOf_1 := dk_seg dksX2_isOf_0 22 rfl rfl
theorem dX2_isOf_0 : decode cX2_isOf 0 = .ok (.iload_n 2, 1) := dk_28 (dk_at dksX2_isOf_0 0 rfl rfl)
theorem dX2_isOf_1 : decode cX2_isOf 1 = .ok (.iconst 0, 1) := dk_3 (dk_at dksX2_isOf_0 1 rfl rfl)
theorem dX2_isOf_2 : decode cX2_isOf 2 = .ok (.iconst 5, 1) := dk_8 (dk_at dksX2_isOf_0 2 rfl rfl)
theorem dX2_isOf_3 : decode cX2_isOf 3 = .ok (.invokestatic 128, 3) := dk_184 0 128 (dk_at dksX2_isOf_0 3 rfl rfl)
theorem dX2_isOf_6 : decode cX2_isOf 6 = .ok (.ifCond .eq 11, 3) := dk_153 0 11 (dk_at dksX2_isOf_0 6 rfl rfl)
theorem dX2_isOf_9 : decode cX2_isOf 9 = .ok (.aload_n 0, 1) := dk_42 (dk_at dksX2_isOf_0 9 rfl rfl)
theorem dX2_isOf_10 : decode cX2_isOf 10 = .ok (.iload_n 1, 1) := dk_27 (dk_at dksX2_isOf_0 10 rfl rfl)
theorem dX2_isOf_11 : decode cX2_isOf 11 = .ok (.invokevirtual 132, 3) := dk_182 0 132 (dk_at dksX2_isOf_0 11 rfl rfl)
theorem dX2_isOf_14 : decode cX2_isOf 14 = .ok (.goto 23, 3) := dk_167 0 23 (dk_at dksX2_isOf_0 14 rfl rfl)
theorem dX2_isOf_17 : decode cX2_isOf 17 = .ok (.iload_n 2, 1) := dk_28 (dk_at dksX2_isOf_0 17 rfl rfl)
theorem dX2_isOf_18 : decode cX2_isOf 18 = .ok (.bipush 6, 2) := dk_16 6 (dk_at dksX2_isOf_0 18 rfl rfl)
theorem dX2_isOf_20 : decode cX2_isOf 20 = .ok (.bipush 8, 2) := dk_16 8 (dk_at dksX2_isOf_0 20 rfl rfl)
theorem dX2_isOf_22 : decode cX2_isOf 22 = .ok (.invokestatic 128, 3) := dk_184 0 128 (dk_at dksX2_isOf_1 0 rfl rfl)
theorem dX2_isOf_25 : decode cX2_isOf 25 = .ok (.ifCond .eq 11, 3) := dk_153 0 11 (dk_at dksX2_isOf_1 3 rfl rfl)
theorem dX2_isOf_28 : decode cX2_isOf 28 = .ok (.iload_n 1, 1) := dk_27 (dk_at dksX2_isOf_1 6 rfl rfl)
theorem dX2_isOf_29 : decode cX2_isOf 29 = .ok (.ifCond .ne 7, 3) := dk_154 0 7 (dk_at dksX2_isOf_1 7 rfl rfl)
theorem dX2_isOf_32 : decode cX2_isOf 32 = .ok (.iconst 1, 1) := dk_4 (dk_at dksX2_isOf_1 10 rfl rfl)
theorem dX2_isOf_33 : decode cX2_isOf 33 = .ok (.goto 4, 3) := dk_167 0 4 (dk_at dksX2_isOf_1 11 rfl rfl)
theorem dX2_isOf_36 : decode cX2_isOf 36 = .ok (.iconst 0, 1) := dk_3 (dk_at dksX2_isOf_1 14 rfl rfl)
theorem dX2_isOf_37 : decode cX2_isOf 37 = .ok (.ireturn, 1) := dk_172 (dk_at dksX2_isOf_1 15 rfl rfl)
abbrev cX2_isOne : ByteArray := prog_31_method_3_code
def yX2_isOne : MethodName := ⟨RX2, "isOne", "(I)Z"⟩
def dkwX2_isOne_0 : List UInt8 := [27, 3, 42, 180, 0, 125, 4, 100, 184, 0, 128, 172]
abbrev dktX2_isOne_0 : List UInt8 := dkwX2_isOne_0 ++ []
theorem dksX2_isOne_0 : cX2_isOne.data.toList.drop 0 = dktX2_isOne_0 := by decide +kernel
theorem dX2_isOne_0 : decode cX2_isOne 0 = .ok (.iload_n 1, 1) := dk_27 (dk_at dksX2_isOne_0 0 rfl rfl)
theorem dX2_isOne_1 : decode cX2_isOne 1 = .ok (.iconst 0, 1) := dk_3 (dk_at dksX2_isOne_0 1 rfl rfl)
theorem dX2_isOne_2 : decode cX2_isOne 2 = .ok (.aload_n 0, 1) := dk_42 (dk_at dksX2_isOne_0 2 rfl rfl)
theorem dX2_isOne_3 : decode cX2_isOne 3 = .ok (.getfield 125, 3) := dk_180 0 125 (dk_at dksX2_isOne_0 3 rfl rfl)
theorem dX2_isOne_6 : decode cX2_isOne 6 = .ok (.iconst 1, 1) := dk_4 (dk_at dksX2_isOne_0 6 rfl rfl)
theorem dX2_isOne_7 : decode cX2_isOne 7 = .ok (.isub, 1) := dk_100 (dk_at dksX2_isOne_0 7 rfl rfl)
theorem dX2_isOne_8 : decode cX2_isOne 8 = .ok (.invokestatic 128, 3) := dk_184 0 128 (dk_at dksX2_isOne_0 8 rfl rfl)
theorem dX2_isOne_11 : decode cX2_isOne 11 = .ok (.ireturn, 1) := dk_172 (dk_at dksX2_isOne_0 11 rfl rfl)
abbrev cX2_isFit : ByteArray := prog_31_method_10_code
def yX2_isFit : MethodName := ⟨RX2, "isFit", "(II)Z"⟩
def dkwX2_isFit_4 : List UInt8 := [172, 27, 4, 17, 3, 231, 184, 0, 128, 172]
abbrev dktX2_isFit_4 : List UInt8 := dkwX2_isFit_4 ++ []
def dkwX2_isFit_3 : List UInt8 := [27, 16, 247, 16, 9, 184, 0, 128, 172, 27, 3, 16, 99, 184, 0, 128, 172, 27, 3, 16, 7, 184, 0, 128]
abbrev dktX2_isFit_3 : List UInt8 := dkwX2_isFit_3 ++ dktX2_isFit_4
def dkwX2_isFit_2 : List UInt8 := [27, 3, 16, 15, 184, 0, 128, 172, 27, 4, 16, 9, 184, 0, 128, 172, 27, 4, 16, 60, 184, 0, 128, 172]
abbrev dktX2_isFit_2 : List UInt8 := dkwX2_isFit_2 ++ dktX2_isFit_3
def dkwX2_isFit_1 : List UInt8 := [170, 0, 0, 0, 0, 0, 100, 0, 0, 0, 0, 0, 0, 0, 8, 0, 0, 0, 51, 0, 0, 0, 51, 0, 0, 0, 59, 0, 0, 0, 67, 0, 0, 0, 75, 0, 0, 0, 84, 0, 0, 0, 92, 0, 0, 0, 100, 0, 0, 0, 59]
abbrev dktX2_isFit_1 : List UInt8 := dkwX2_isFit_1 ++ dktX2_isFit_2
def dkwX2_isFit_0 : List UInt8 := [26]
abbrev dktX2_isFit_0 : List UInt8 := dkwX2_isFit_0 ++ dktX2_isFit_1
theorem dksX2_isFit_0 : cX2_isFit.data.toList.drop 0 = dktX2_isFit_0 := by decide +kernel
theorem dksX2_isFit_1 : cX2_isFit.data.toList.drop 1 = dktX2_isFit_1 := dk_seg dksX2_isFit_0 1 rfl rfl
theorem dksX2_isFit_2 : cX2_isFit.data.toList.drop 52 = dktX2_isFit_2 := dk_seg dksX2_isFit_1 51 rfl rfl
theorem dksX2_isFit_3 : cX2_isFit.data.toList.drop 76 = dktX2_isFit_3 := dk_seg dksX2_isFit_2 24 rfl rfl
theorem dksX2_isFit_4 : cX2_isFit.data.toList.drop 100 = dktX2_isFit_4 := dk_seg dksX2_isFit_3 24 rfl rfl
theorem dX2_isFit_0 : decode cX2_isFit 0 = .ok (.iload_n 0, 1) := dk_26 (dk_at dksX2_isFit_0 0 rfl rfl)
theorem dX2_isFit_1 : decode cX2_isFit 1 = .ok (.tableswitch 100 0 8 #[51, 51, 59, 67, 75, 84, 92, 100, 59], 51) := by decide +kernel
theorem dX2_isFit_52 : decode cX2_isFit 52 = .ok (.iload_n 1, 1) := dk_27 (dk_at dksX2_isFit_2 0 rfl rfl)
theorem dX2_isFit_53 : decode cX2_isFit 53 = .ok (.iconst 0, 1) := dk_3 (dk_at dksX2_isFit_2 1 rfl rfl)
theorem dX2_isFit_54 : decode cX2_isFit 54 = .ok (.bipush 15, 2) := dk_16 15 (dk_at dksX2_isFit_2 2 rfl rfl)
theorem dX2_isFit_56 : decode cX2_isFit 56 = .ok (.invokestatic 128, 3) := dk_184 0 128 (dk_at dksX2_isFit_2 4 rfl rfl)
theorem dX2_isFit_59 : decode cX2_isFit 59 = .ok (.ireturn, 1) := dk_172 (dk_at dksX2_isFit_2 7 rfl rfl)
theorem dX2_isFit_60 : decode cX2_isFit 60 = .ok (.iload_n 1, 1) := dk_27 (dk_at dksX2_isFit_2 8 rfl rfl)
theorem dX2_isFit_61 : decode cX2_isFit 61 = .ok (.iconst 1, 1) := dk_4 (dk_at dksX2_isFit_2 9 rfl rfl)
theorem dX2_isFit_62 : decode cX2_isFit 62 = .ok (.bipush 9, 2) := dk_16 9 (dk_at dksX2_isFit_2 10 rfl rfl)
theorem dX2_isFit_64 : decode cX2_isFit 64 = .ok (.invokestatic 128, 3) := dk_184 0 128 (dk_at dksX2_isFit_2 12 rfl rfl)
theorem dX2_isFit_67 : decode cX2_isFit 67 = .ok (.ireturn, 1) := dk_172 (dk_at dksX2_isFit_2 15 rfl rfl)
theorem dX2_isFit_68 : decode cX2_isFit 68 = .ok (.iload_n 1, 1) := dk_27 (dk_at dksX2_isFit_2 16 rfl rfl)
theorem dX2_isFit_69 : decode cX2_isFit 69 = .ok (.iconst 1, 1) := dk_4 (dk_at dksX2_isFit_2 17 rfl rfl)
theorem dX2_isFit_70 : decode cX2_isFit 70 = .ok (.bipush 60, 2) := dk_16 60 (dk_at dksX2_isFit_2 18 rfl rfl)
theorem dX2_isFit_72 : decode cX2_isFit 72 = .ok (.invokestatic 128, 3) := dk_184 0 128 (dk_at dksX2_isFit_2 20 rfl rfl)
theorem dX2_isFit_75 : decode cX2_isFit 75 = .ok (.ireturn, 1) := dk_172 (dk_at dksX2_isFit_2 23 rfl rfl)
theorem dX2_isFit_76 : decode cX2_isFit 76 = .ok (.iload_n 1, 1) := dk_27 (dk_at dksX2_isFit_3 0 rfl rfl)
theorem dX2_isFit_77 : decode cX2_isFit 77 = .ok (.bipush (-9), 2) := dk_16 247 (dk_at dksX2_isFit_3 1 rfl rfl)
theorem dX2_isFit_79 : decode cX2_isFit 79 = .ok (.bipush 9, 2) := dk_16 9 (dk_at dksX2_isFit_3 3 rfl rfl)
theorem dX2_isFit_81 : decode cX2_isFit 81 = .ok (.invokestatic 128, 3) := dk_184 0 128 (dk_at dksX2_isFit_3 5 rfl rfl)
theorem dX2_isFit_84 : decode cX2_isFit 84 = .ok (.ireturn, 1) := dk_172 (dk_at dksX2_isFit_3 8 rfl rfl)
theorem dX2_isFit_85 : decode cX2_isFit 85 = .ok (.iload_n 1, 1) := dk_27 (dk_at dksX2_isFit_3 9 rfl rfl)
theorem dX2_isFit_86 : decode cX2_isFit 86 = .ok (.iconst 0, 1) := dk_3 (dk_at dksX2_isFit_3 10 rfl rfl)
theorem dX2_isFit_87 : decode cX2_isFit 87 = .ok (.bipush 99, 2) := dk_16 99 (dk_at dksX2_isFit_3 11 rfl rfl)
theorem dX2_isFit_89 : decode cX2_isFit 89 = .ok (.invokestatic 128, 3) := dk_184 0 128 (dk_at dksX2_isFit_3 13 rfl rfl)
theorem dX2_isFit_92 : decode cX2_isFit 92 = .ok (.ireturn, 1) := dk_172 (dk_at dksX2_isFit_3 16 rfl rfl)
theorem dX2_isFit_93 : decode cX2_isFit 93 = .ok (.iload_n 1, 1) := dk_27 (dk_at dksX2_isFit_3 17 rfl rfl)
theorem dX2_isFit_94 : decode cX2_isFit 94 = .ok (.iconst 0, 1) := dk_3 (dk_at dksX2_isFit_3 18 rfl rfl)
theorem dX2_isFit_95 : decode cX2_isFit 95 = .ok (.bipush 7, 2) := dk_16 7 (dk_at dksX2_isFit_3 19 rfl rfl)
theorem dX2_isFit_97 : decode cX2_isFit 97 = .ok (.invokestatic 128, 3) := dk_184 0 128 (dk_at dksX2_isFit_3 21 rfl rfl)
theorem dX2_isFit_100 : decode cX2_isFit 100 = .ok (.ireturn, 1) := dk_172 (dk_at dksX2_isFit_4 0 rfl rfl)
theorem dX2_isFit_101 : decode cX2_isFit 101 = .ok (.iload_n 1, 1) := dk_27 (dk_at dksX2_isFit_4 1 rfl rfl)
theorem dX2_isFit_102 : decode cX2_isFit 102 = .ok (.iconst 1, 1) := dk_4 (dk_at dksX2_isFit_4 2 rfl rfl)
theorem dX2_isFit_103 : decode cX2_isFit 103 = .ok (.sipush 999, 3) := dk_17 3 231 (dk_at dksX2_isFit_4 3 rfl rfl)
theorem dX2_isFit_106 : decode cX2_isFit 106 = .ok (.invokestatic 128, 3) := dk_184 0 128 (dk_at dksX2_isFit_4 6 rfl rfl)
theorem dX2_isFit_109 : decode cX2_isFit 109 = .ok (.ireturn, 1) := dk_172 (dk_at dksX2_isFit_4 9 rfl rfl)
abbrev cX2_get : ByteArray := prog_31_method_11_code
def yX2_get : MethodName := ⟨RX2, "get", "(II)I"⟩
def dkwX2_get_4 : List UInt8 := [28, 16, 6, 100, 46, 172]
abbrev dktX2_get_4 : List UInt8 := dkwX2_get_4 ++ []
def dkwX2_get_3 : List UInt8 := [180, 0, 21, 27, 46, 172, 42, 180, 0, 24, 27, 46, 172, 42, 180, 0, 27, 27, 46, 172, 42, 180, 0, 30]
abbrev dktX2_get_3 : List UInt8 := dkwX2_get_3 ++ dktX2_get_4
def dkwX2_get_2 : List UInt8 := [42, 180, 0, 9, 27, 46, 172, 42, 180, 0, 15, 27, 46, 172, 42, 180, 0, 18, 27, 46, 172, 42]
abbrev dktX2_get_2 : List UInt8 := dkwX2_get_2 ++ dktX2_get_3
def dkwX2_get_1 : List UInt8 := [170, 0, 0, 0, 0, 0, 81, 0, 0, 0, 0, 0, 0, 0, 5, 0, 0, 0, 39, 0, 0, 0, 46, 0, 0, 0, 53, 0, 0, 0, 60, 0, 0, 0, 67, 0, 0, 0, 74]
abbrev dktX2_get_1 : List UInt8 := dkwX2_get_1 ++ dktX2_get_2
def dkwX2_get_0 : List UInt8 := [28]
abbrev dktX2_get_0 : List UInt8 := dkwX2_get_0 ++ dktX2_get_1
theorem dksX2_get_0 : cX2_get.data.toList.drop 0 = dktX2_get_0 := by decide +kernel
theorem dksX2_get_1 : cX2_get.data.toList.drop 1 = dktX2_get_1 := dk_seg dksX2_get_0 1 rfl rfl
theorem dksX2_get_2 : cX2_get.data.toList.drop 40 = dktX2_get_2 := dk_seg dksX2_get_1 39 rfl rfl
theorem dksX2_get_3 : cX2_get.data.toList.drop 62 = dktX2_get_3 := dk_seg dksX2_get_2 22 rfl rfl
theorem dksX2_get_4 : cX2_get.data.toList.drop 86 = dktX2_get_4 := dk_seg dksX2_get_3 24 rfl rfl
theorem dX2_get_0 : decode cX2_get 0 = .ok (.iload_n 2, 1) := dk_28 (dk_at dksX2_get_0 0 rfl rfl)
theorem dX2_get_1 : decode cX2_get 1 = .ok (.tableswitch 81 0 5 #[39, 46, 53, 60, 67, 74], 39) := by decide +kernel
theorem dX2_get_40 : decode cX2_get 40 = .ok (.aload_n 0, 1) := dk_42 (dk_at dksX2_get_2 0 rfl rfl)
theorem dX2_get_41 : decode cX2_get 41 = .ok (.getfield 9, 3) := dk_180 0 9 (dk_at dksX2_get_2 1 rfl rfl)
theorem dX2_get_44 : decode cX2_get 44 = .ok (.iload_n 1, 1) := dk_27 (dk_at dksX2_get_2 4 rfl rfl)
theorem dX2_get_45 : decode cX2_get 45 = .ok (.iaload, 1) := dk_46 (dk_at dksX2_get_2 5 rfl rfl)
theorem dX2_get_46 : decode cX2_get 46 = .ok (.ireturn, 1) := dk_172 (dk_at dksX2_get_2 6 rfl rfl)
theorem dX2_get_47 : decode cX2_get 47 = .ok (.aload_n 0, 1) := dk_42 (dk_at dksX2_get_2 7 rfl rfl)
theorem dX2_get_48 : decode cX2_get 48 = .ok (.getfield 15, 3) := dk_180 0 15 (dk_at dksX2_get_2 8 rfl rfl)
theorem dX2_get_51 : decode cX2_get 51 = .ok (.iload_n 1, 1) := dk_27 (dk_at dksX2_get_2 11 rfl rfl)
theorem dX2_get_52 : decode cX2_get 52 = .ok (.iaload, 1) := dk_46 (dk_at dksX2_get_2 12 rfl rfl)
theorem dX2_get_53 : decode cX2_get 53 = .ok (.ireturn, 1) := dk_172 (dk_at dksX2_get_2 13 rfl rfl)
theorem dX2_get_54 : decode cX2_get 54 = .ok (.aload_n 0, 1) := dk_42 (dk_at dksX2_get_2 14 rfl rfl)
theorem dX2_get_55 : decode cX2_get 55 = .ok (.getfield 18, 3) := dk_180 0 18 (dk_at dksX2_get_2 15 rfl rfl)
theorem dX2_get_58 : decode cX2_get 58 = .ok (.iload_n 1, 1) := dk_27 (dk_at dksX2_get_2 18 rfl rfl)
theorem dX2_get_59 : decode cX2_get 59 = .ok (.iaload, 1) := dk_46 (dk_at dksX2_get_2 19 rfl rfl)
theorem dX2_get_60 : decode cX2_get 60 = .ok (.ireturn, 1) := dk_172 (dk_at dksX2_get_2 20 rfl rfl)
theorem dX2_get_61 : decode cX2_get 61 = .ok (.aload_n 0, 1) := dk_42 (dk_at dksX2_get_2 21 rfl rfl)
theorem dX2_get_62 : decode cX2_get 62 = .ok (.getfield 21, 3) := dk_180 0 21 (dk_at dksX2_get_3 0 rfl rfl)
theorem dX2_get_65 : decode cX2_get 65 = .ok (.iload_n 1, 1) := dk_27 (dk_at dksX2_get_3 3 rfl rfl)
theorem dX2_get_66 : decode cX2_get 66 = .ok (.iaload, 1) := dk_46 (dk_at dksX2_get_3 4 rfl rfl)
theorem dX2_get_67 : decode cX2_get 67 = .ok (.ireturn, 1) := dk_172 (dk_at dksX2_get_3 5 rfl rfl)
theorem dX2_get_68 : decode cX2_get 68 = .ok (.aload_n 0, 1) := dk_42 (dk_at dksX2_get_3 6 rfl rfl)
theorem dX2_get_69 : decode cX2_get 69 = .ok (.getfield 24, 3) := dk_180 0 24 (dk_at dksX2_get_3 7 rfl rfl)
theorem dX2_get_72 : decode cX2_get 72 = .ok (.iload_n 1, 1) := dk_27 (dk_at dksX2_get_3 10 rfl rfl)
theorem dX2_get_73 : decode cX2_get 73 = .ok (.iaload, 1) := dk_46 (dk_at dksX2_get_3 11 rfl rfl)
theorem dX2_get_74 : decode cX2_get 74 = .ok (.ireturn, 1) := dk_172 (dk_at dksX2_get_3 12 rfl rfl)
theorem dX2_get_75 : decode cX2_get 75 = .ok (.aload_n 0, 1) := dk_42 (dk_at dksX2_get_3 13 rfl rfl)
theorem dX2_get_76 : decode cX2_get 76 = .ok (.getfield 27, 3) := dk_180 0 27 (dk_at dksX2_get_3 14 rfl rfl)
theorem dX2_get_79 : decode cX2_get 79 = .ok (.iload_n 1, 1) := dk_27 (dk_at dksX2_get_3 17 rfl rfl)
theorem dX2_get_80 : decode cX2_get 80 = .ok (.iaload, 1) := dk_46 (dk_at dksX2_get_3 18 rfl rfl)
theorem dX2_get_81 : decode cX2_get 81 = .ok (.ireturn, 1) := dk_172 (dk_at dksX2_get_3 19 rfl rfl)
theorem dX2_get_82 : decode cX2_get 82 = .ok (.aload_n 0, 1) := dk_42 (dk_at dksX2_get_3 20 rfl rfl)
theorem dX2_get_83 : decode cX2_get 83 = .ok (.getfield 30, 3) := dk_180 0 30 (dk_at dksX2_get_3 21 rfl rfl)
theorem dX2_get_86 : decode cX2_get 86 = .ok (.iload_n 2, 1) := dk_28 (dk_at dksX2_get_4 0 rfl rfl)
theorem dX2_get_87 : decode cX2_get 87 = .ok (.bipush 6, 2) := dk_16 6 (dk_at dksX2_get_4 1 rfl rfl)
theorem dX2_get_89 : decode cX2_get 89 = .ok (.isub, 1) := dk_100 (dk_at dksX2_get_4 3 rfl rfl)
theorem dX2_get_90 : decode cX2_get 90 = .ok (.iaload, 1) := dk_46 (dk_at dksX2_get_4 4 rfl rfl)
theorem dX2_get_91 : decode cX2_get 91 = .ok (.ireturn, 1) := dk_172 (dk_at dksX2_get_4 5 rfl rfl)
abbrev cX2_becomes : ByteArray := prog_31_method_12_code
def yX2_becomes : MethodName := ⟨RX2, "becomes", "(III)V"⟩
def dkwX2_becomes_4 : List UInt8 := [42, 180, 0, 30, 28, 16, 6, 100, 29, 79, 177]
abbrev dktX2_becomes_4 : List UInt8 := dkwX2_becomes_4 ++ []
def dkwX2_becomes_3 : List UInt8 := [42, 180, 0, 21, 27, 29, 79, 177, 42, 180, 0, 24, 27, 29, 79, 177, 42, 180, 0, 27, 27, 29, 79, 177]
abbrev dktX2_becomes_3 : List UInt8 := dkwX2_becomes_3 ++ dktX2_becomes_4
def dkwX2_becomes_2 : List UInt8 := [42, 180, 0, 9, 27, 29, 79, 177, 42, 180, 0, 15, 27, 29, 79, 177, 42, 180, 0, 18, 27, 29, 79, 177]
abbrev dktX2_becomes_2 : List UInt8 := dkwX2_becomes_2 ++ dktX2_becomes_3
def dkwX2_becomes_1 : List UInt8 := [170, 0, 0, 0, 0, 0, 87, 0, 0, 0, 0, 0, 0, 0, 5, 0, 0, 0, 39, 0, 0, 0, 47, 0, 0, 0, 55, 0, 0, 0, 63, 0, 0, 0, 71, 0, 0, 0, 79]
abbrev dktX2_becomes_1 : List UInt8 := dkwX2_becomes_1 ++ dktX2_becomes_2
def dkwX2_becomes_0 : List UInt8 := [28]
abbrev dktX2_becomes_0 : List UInt8 := dkwX2_becomes_0 ++ dktX2_becomes_1
theorem dksX2_becomes_0 : cX2_becomes.data.toList.drop 0 = dktX2_becomes_0 := by decide +kernel
theorem dksX2_becomes_1 : cX2_becomes.data.toList.drop 1 = dktX2_becomes_1 := dk_seg dksX2_becomes_0 1 rfl rfl
theorem dksX2_becomes_2 : cX2_becomes.data.toList.drop 40 = dktX2_becomes_2 := dk_seg dksX2_becomes_1 39 rfl rfl
theorem dksX2_becomes_3 : cX2_becomes.data.toList.drop 64 = dktX2_becomes_3 := dk_seg dksX2_becomes_2 24 rfl rfl
theorem dksX2_becomes_4 : cX2_becomes.data.toList.drop 88 = dktX2_becomes_4 := dk_seg dksX2_becomes_3 24 rfl rfl
theorem dX2_becomes_0 : decode cX2_becomes 0 = .ok (.iload_n 2, 1) := dk_28 (dk_at dksX2_becomes_0 0 rfl rfl)
theorem dX2_becomes_1 : decode cX2_becomes 1 = .ok (.tableswitch 87 0 5 #[39, 47, 55, 63, 71, 79], 39) := by decide +kernel
theorem dX2_becomes_40 : decode cX2_becomes 40 = .ok (.aload_n 0, 1) := dk_42 (dk_at dksX2_becomes_2 0 rfl rfl)
theorem dX2_becomes_41 : decode cX2_becomes 41 = .ok (.getfield 9, 3) := dk_180 0 9 (dk_at dksX2_becomes_2 1 rfl rfl)
theorem dX2_becomes_44 : decode cX2_becomes 44 = .ok (.iload_n 1, 1) := dk_27 (dk_at dksX2_becomes_2 4 rfl rfl)
theorem dX2_becomes_45 : decode cX2_becomes 45 = .ok (.iload_n 3, 1) := dk_29 (dk_at dksX2_becomes_2 5 rfl rfl)
theorem dX2_becomes_46 : decode cX2_becomes 46 = .ok (.iastore, 1) := dk_79 (dk_at dksX2_becomes_2 6 rfl rfl)
theorem dX2_becomes_47 : decode cX2_becomes 47 = .ok (.return_, 1) := dk_177 (dk_at dksX2_becomes_2 7 rfl rfl)
theorem dX2_becomes_48 : decode cX2_becomes 48 = .ok (.aload_n 0, 1) := dk_42 (dk_at dksX2_becomes_2 8 rfl rfl)
theorem dX2_becomes_49 : decode cX2_becomes 49 = .ok (.getfield 15, 3) := dk_180 0 15 (dk_at dksX2_becomes_2 9 rfl rfl)
theorem dX2_becomes_52 : decode cX2_becomes 52 = .ok (.iload_n 1, 1) := dk_27 (dk_at dksX2_becomes_2 12 rfl rfl)
theorem dX2_becomes_53 : decode cX2_becomes 53 = .ok (.iload_n 3, 1) := dk_29 (dk_at dksX2_becomes_2 13 rfl rfl)
theorem dX2_becomes_54 : decode cX2_becomes 54 = .ok (.iastore, 1) := dk_79 (dk_at dksX2_becomes_2 14 rfl rfl)
theorem dX2_becomes_55 : decode cX2_becomes 55 = .ok (.return_, 1) := dk_177 (dk_at dksX2_becomes_2 15 rfl rfl)
theorem dX2_becomes_56 : decode cX2_becomes 56 = .ok (.aload_n 0, 1) := dk_42 (dk_at dksX2_becomes_2 16 rfl rfl)
theorem dX2_becomes_57 : decode cX2_becomes 57 = .ok (.getfield 18, 3) := dk_180 0 18 (dk_at dksX2_becomes_2 17 rfl rfl)
theorem dX2_becomes_60 : decode cX2_becomes 60 = .ok (.iload_n 1, 1) := dk_27 (dk_at dksX2_becomes_2 20 rfl rfl)
theorem dX2_becomes_61 : decode cX2_becomes 61 = .ok (.iload_n 3, 1) := dk_29 (dk_at dksX2_becomes_2 21 rfl rfl)
theorem dX2_becomes_62 : decode cX2_becomes 62 = .ok (.iastore, 1) := dk_79 (dk_at dksX2_becomes_2 22 rfl rfl)
theorem dX2_becomes_63 : decode cX2_becomes 63 = .ok (.return_, 1) := dk_177 (dk_at dksX2_becomes_2 23 rfl rfl)
theorem dX2_becomes_64 : decode cX2_becomes 64 = .ok (.aload_n 0, 1) := dk_42 (dk_at dksX2_becomes_3 0 rfl rfl)
theorem dX2_becomes_65 : decode cX2_becomes 65 = .ok (.getfield 21, 3) := dk_180 0 21 (dk_at dksX2_becomes_3 1 rfl rfl)
theorem dX2_becomes_68 : decode cX2_becomes 68 = .ok (.iload_n 1, 1) := dk_27 (dk_at dksX2_becomes_3 4 rfl rfl)
theorem dX2_becomes_69 : decode cX2_becomes 69 = .ok (.iload_n 3, 1) := dk_29 (dk_at dksX2_becomes_3 5 rfl rfl)
theorem dX2_becomes_70 : decode cX2_becomes 70 = .ok (.iastore, 1) := dk_79 (dk_at dksX2_becomes_3 6 rfl rfl)
theorem dX2_becomes_71 : decode cX2_becomes 71 = .ok (.return_, 1) := dk_177 (dk_at dksX2_becomes_3 7 rfl rfl)
theorem dX2_becomes_72 : decode cX2_becomes 72 = .ok (.aload_n 0, 1) := dk_42 (dk_at dksX2_becomes_3 8 rfl rfl)
theorem dX2_becomes_73 : decode cX2_becomes 73 = .ok (.getfield 24, 3) := dk_180 0 24 (dk_at dksX2_becomes_3 9 rfl rfl)
theorem dX2_becomes_76 : decode cX2_becomes 76 = .ok (.iload_n 1, 1) := dk_27 (dk_at dksX2_becomes_3 12 rfl rfl)
theorem dX2_becomes_77 : decode cX2_becomes 77 = .ok (.iload_n 3, 1) := dk_29 (dk_at dksX2_becomes_3 13 rfl rfl)
theorem dX2_becomes_78 : decode cX2_becomes 78 = .ok (.iastore, 1) := dk_79 (dk_at dksX2_becomes_3 14 rfl rfl)
theorem dX2_becomes_79 : decode cX2_becomes 79 = .ok (.return_, 1) := dk_177 (dk_at dksX2_becomes_3 15 rfl rfl)
theorem dX2_becomes_80 : decode cX2_becomes 80 = .ok (.aload_n 0, 1) := dk_42 (dk_at dksX2_becomes_3 16 rfl rfl)
theorem dX2_becomes_81 : decode cX2_becomes 81 = .ok (.getfield 27, 3) := dk_180 0 27 (dk_at dksX2_becomes_3 17 rfl rfl)
theorem dX2_becomes_84 : decode cX2_becomes 84 = .ok (.iload_n 1, 1) := dk_27 (dk_at dksX2_becomes_3 20 rfl rfl)
theorem dX2_becomes_85 : decode cX2_becomes 85 = .ok (.iload_n 3, 1) := dk_29 (dk_at dksX2_becomes_3 21 rfl rfl)
theorem dX2_becomes_86 : decode cX2_becomes 86 = .ok (.iastore, 1) := dk_79 (dk_at dksX2_becomes_3 22 rfl rfl)
theorem dX2_becomes_87 : decode cX2_becomes 87 = .ok (.return_, 1) := dk_177 (dk_at dksX2_becomes_3 23 rfl rfl)
theorem dX2_becomes_88 : decode cX2_becomes 88 = .ok (.aload_n 0, 1) := dk_42 (dk_at dksX2_becomes_4 0 rfl rfl)
theorem dX2_becomes_89 : decode cX2_becomes 89 = .ok (.getfield 30, 3) := dk_180 0 30 (dk_at dksX2_becomes_4 1 rfl rfl)
theorem dX2_becomes_92 : decode cX2_becomes 92 = .ok (.iload_n 2, 1) := dk_28 (dk_at dksX2_becomes_4 4 rfl rfl)
theorem dX2_becomes_93 : decode cX2_becomes 93 = .ok (.bipush 6, 2) := dk_16 6 (dk_at dksX2_becomes_4 5 rfl rfl)
theorem dX2_becomes_95 : decode cX2_becomes 95 = .ok (.isub, 1) := dk_100 (dk_at dksX2_becomes_4 7 rfl rfl)
theorem dX2_becomes_96 : decode cX2_becomes 96 = .ok (.iload_n 3, 1) := dk_29 (dk_at dksX2_becomes_4 8 rfl rfl)
theorem dX2_becomes_97 : decode cX2_becomes 97 = .ok (.iastore, 1) := dk_79 (dk_at dksX2_becomes_4 9 rfl rfl)
theorem dX2_becomes_98 : decode cX2_becomes 98 = .ok (.return_, 1) := dk_177 (dk_at dksX2_becomes_4 10 rfl rfl)
abbrev cX2_of : ByteArray := prog_31_method_14_code
def yX2_of : MethodName := ⟨RX2, "of", "(II)I"⟩
def dkwX2_of_2 : List UInt8 := [42, 27, 28, 182, 0, 145, 153, 0, 12, 42, 27, 28, 182, 0, 153, 167, 0, 5, 18, 152, 172]
abbrev dktX2_of_2 : List UInt8 := dkwX2_of_2 ++ []
def dkwX2_of_1 : List UInt8 := [160, 0, 12, 42, 180, 0, 33, 27, 46, 167, 0, 14, 42, 180, 0, 36, 27, 46, 167, 0, 5, 18, 152, 172]
abbrev dktX2_of_1 : List UInt8 := dkwX2_of_1 ++ dktX2_of_2
def dkwX2_of_0 : List UInt8 := [28, 16, 9, 16, 10, 184, 0, 128, 153, 0, 38, 42, 27, 182, 0, 132, 153, 0, 27, 28, 16, 9]
abbrev dktX2_of_0 : List UInt8 := dkwX2_of_0 ++ dktX2_of_1
theorem dksX2_of_0 : cX2_of.data.toList.drop 0 = dktX2_of_0 := by decide +kernel
theorem dksX2_of_1 : cX2_of.data.toList.drop 22 = dktX2_of_1 := dk_seg dksX2_of_0 22 rfl rfl
theorem dksX2_of_2 : cX2_of.data.toList.drop 46 = dktX2_of_2 := dk_seg dksX2_of_1 24 rfl rfl
theorem dX2_of_0 : decode cX2_of 0 = .ok (.iload_n 2, 1) := dk_28 (dk_at dksX2_of_0 0 rfl rfl)
theorem dX2_of_1 : decode cX2_of 1 = .ok (.bipush 9, 2) := dk_16 9 (dk_at dksX2_of_0 1 rfl rfl)
theorem dX2_of_3 : decode cX2_of 3 = .ok (.bipush 10, 2) := dk_16 10 (dk_at dksX2_of_0 3 rfl rfl)
theorem dX2_of_5 : decode cX2_of 5 = .ok (.invokestatic 128, 3) := dk_184 0 128 (dk_at dksX2_of_0 5 rfl rfl)
theorem dX2_of_8 : decode cX2_of 8 = .ok (.ifCond .eq 38, 3) := dk_153 0 38 (dk_at dksX2_of_0 8 rfl rfl)
theorem dX2_of_11 : decode cX2_of 11 = .ok (.aload_n 0, 1) := dk_42 (dk_at dksX2_of_0 11 rfl rfl)
theorem dX2_of_12 : decode cX2_of 12 = .ok (.iload_n 1, 1) := dk_27 (dk_at dksX2_of_0 12 rfl rfl)
theorem dX2_of_13 : decode cX2_of 13 = .ok (.invokevirtual 132, 3) := dk_182 0 132 (dk_at dksX2_of_0 13 rfl rfl)
theorem dX2_of_16 : decode cX2_of 16 = .ok (.ifCond .eq 27, 3) := dk_153 0 27 (dk_at dksX2_of_0 16 rfl rfl)
theorem dX2_of_19 : decode cX2_of 19 = .ok (.iload_n 2, 1) := dk_28 (dk_at dksX2_of_0 19 rfl rfl)
theorem dX2_of_20 : decode cX2_of 20 = .ok (.bipush 9, 2) := dk_16 9 (dk_at dksX2_of_0 20 rfl rfl)
theorem dX2_of_22 : decode cX2_of 22 = .ok (.if_icmp .ne 12, 3) := dk_160 0 12 (dk_at dksX2_of_1 0 rfl rfl)
theorem dX2_of_25 : decode cX2_of 25 = .ok (.aload_n 0, 1) := dk_42 (dk_at dksX2_of_1 3 rfl rfl)
theorem dX2_of_26 : decode cX2_of 26 = .ok (.getfield 33, 3) := dk_180 0 33 (dk_at dksX2_of_1 4 rfl rfl)
theorem dX2_of_29 : decode cX2_of 29 = .ok (.iload_n 1, 1) := dk_27 (dk_at dksX2_of_1 7 rfl rfl)
theorem dX2_of_30 : decode cX2_of 30 = .ok (.iaload, 1) := dk_46 (dk_at dksX2_of_1 8 rfl rfl)
theorem dX2_of_31 : decode cX2_of 31 = .ok (.goto 14, 3) := dk_167 0 14 (dk_at dksX2_of_1 9 rfl rfl)
theorem dX2_of_34 : decode cX2_of 34 = .ok (.aload_n 0, 1) := dk_42 (dk_at dksX2_of_1 12 rfl rfl)
theorem dX2_of_35 : decode cX2_of 35 = .ok (.getfield 36, 3) := dk_180 0 36 (dk_at dksX2_of_1 13 rfl rfl)
theorem dX2_of_38 : decode cX2_of 38 = .ok (.iload_n 1, 1) := dk_27 (dk_at dksX2_of_1 16 rfl rfl)
theorem dX2_of_39 : decode cX2_of 39 = .ok (.iaload, 1) := dk_46 (dk_at dksX2_of_1 17 rfl rfl)
theorem dX2_of_40 : decode cX2_of 40 = .ok (.goto 5, 3) := dk_167 0 5 (dk_at dksX2_of_1 18 rfl rfl)
theorem dX2_of_43 : decode cX2_of 43 = .ok (.ldc 152, 2) := dk_18 152 (dk_at dksX2_of_1 21 rfl rfl)
theorem dX2_of_45 : decode cX2_of 45 = .ok (.ireturn, 1) := dk_172 (dk_at dksX2_of_1 23 rfl rfl)
theorem dX2_of_46 : decode cX2_of 46 = .ok (.aload_n 0, 1) := dk_42 (dk_at dksX2_of_2 0 rfl rfl)
theorem dX2_of_47 : decode cX2_of 47 = .ok (.iload_n 1, 1) := dk_27 (dk_at dksX2_of_2 1 rfl rfl)
theorem dX2_of_48 : decode cX2_of 48 = .ok (.iload_n 2, 1) := dk_28 (dk_at dksX2_of_2 2 rfl rfl)
theorem dX2_of_49 : decode cX2_of 49 = .ok (.invokevirtual 145, 3) := dk_182 0 145 (dk_at dksX2_of_2 3 rfl rfl)
theorem dX2_of_52 : decode cX2_of 52 = .ok (.ifCond .eq 12, 3) := dk_153 0 12 (dk_at dksX2_of_2 6 rfl rfl)
theorem dX2_of_55 : decode cX2_of 55 = .ok (.aload_n 0, 1) := dk_42 (dk_at dksX2_of_2 9 rfl rfl)
theorem dX2_of_56 : decode cX2_of 56 = .ok (.iload_n 1, 1) := dk_27 (dk_at dksX2_of_2 10 rfl rfl)
theorem dX2_of_57 : decode cX2_of 57 = .ok (.iload_n 2, 1) := dk_28 (dk_at dksX2_of_2 11 rfl rfl)
theorem dX2_of_58 : decode cX2_of 58 = .ok (.invokevirtual 153, 3) := dk_182 0 153 (dk_at dksX2_of_2 12 rfl rfl)
theorem dX2_of_61 : decode cX2_of 61 = .ok (.goto 5, 3) := dk_167 0 5 (dk_at dksX2_of_2 15 rfl rfl)
theorem dX2_of_64 : decode cX2_of 64 = .ok (.ldc 152, 2) := dk_18 152 (dk_at dksX2_of_2 18 rfl rfl)
theorem dX2_of_66 : decode cX2_of 66 = .ok (.ireturn, 1) := dk_172 (dk_at dksX2_of_2 20 rfl rfl)
abbrev cX2_undo : ByteArray := prog_31_method_15_code
def yX2_undo : MethodName := ⟨RX2, "undo", "()I"⟩
def dkwX2_undo_2 : List UInt8 := [180, 0, 84, 7, 42, 180, 0, 161, 104, 5, 96, 46, 182, 0, 157, 42, 180, 0, 161, 172]
abbrev dktX2_undo_2 : List UInt8 := dkwX2_undo_2 ++ []
def dkwX2_undo_1 : List UInt8 := [180, 0, 84, 7, 42, 180, 0, 161, 104, 46, 42, 180, 0, 84, 7, 42, 180, 0, 161, 104, 4, 96, 46, 42]
abbrev dktX2_undo_1 : List UInt8 := dkwX2_undo_1 ++ dktX2_undo_2
def dkwX2_undo_0 : List UInt8 := [42, 180, 0, 161, 154, 0, 6, 16, 251, 172, 42, 89, 180, 0, 161, 4, 100, 181, 0, 161, 42, 42]
abbrev dktX2_undo_0 : List UInt8 := dkwX2_undo_0 ++ dktX2_undo_1
theorem dksX2_undo_0 : cX2_undo.data.toList.drop 0 = dktX2_undo_0 := by decide +kernel
theorem dksX2_undo_1 : cX2_undo.data.toList.drop 22 = dktX2_undo_1 := dk_seg dksX2_undo_0 22 rfl rfl
theorem dksX2_undo_2 : cX2_undo.data.toList.drop 46 = dktX2_undo_2 := dk_seg dksX2_undo_1 24 rfl rfl
theorem dX2_undo_0 : decode cX2_undo 0 = .ok (.aload_n 0, 1) := dk_42 (dk_at dksX2_undo_0 0 rfl rfl)
theorem dX2_undo_1 : decode cX2_undo 1 = .ok (.getfield 161, 3) := dk_180 0 161 (dk_at dksX2_undo_0 1 rfl rfl)
theorem dX2_undo_4 : decode cX2_undo 4 = .ok (.ifCond .ne 6, 3) := dk_154 0 6 (dk_at dksX2_undo_0 4 rfl rfl)
theorem dX2_undo_7 : decode cX2_undo 7 = .ok (.bipush (-5), 2) := dk_16 251 (dk_at dksX2_undo_0 7 rfl rfl)
theorem dX2_undo_9 : decode cX2_undo 9 = .ok (.ireturn, 1) := dk_172 (dk_at dksX2_undo_0 9 rfl rfl)
theorem dX2_undo_10 : decode cX2_undo 10 = .ok (.aload_n 0, 1) := dk_42 (dk_at dksX2_undo_0 10 rfl rfl)
theorem dX2_undo_11 : decode cX2_undo 11 = .ok (.dup, 1) := dk_89 (dk_at dksX2_undo_0 11 rfl rfl)
theorem dX2_undo_12 : decode cX2_undo 12 = .ok (.getfield 161, 3) := dk_180 0 161 (dk_at dksX2_undo_0 12 rfl rfl)
theorem dX2_undo_15 : decode cX2_undo 15 = .ok (.iconst 1, 1) := dk_4 (dk_at dksX2_undo_0 15 rfl rfl)
theorem dX2_undo_16 : decode cX2_undo 16 = .ok (.isub, 1) := dk_100 (dk_at dksX2_undo_0 16 rfl rfl)
theorem dX2_undo_17 : decode cX2_undo 17 = .ok (.putfield 161, 3) := dk_181 0 161 (dk_at dksX2_undo_0 17 rfl rfl)
theorem dX2_undo_20 : decode cX2_undo 20 = .ok (.aload_n 0, 1) := dk_42 (dk_at dksX2_undo_0 20 rfl rfl)
theorem dX2_undo_21 : decode cX2_undo 21 = .ok (.aload_n 0, 1) := dk_42 (dk_at dksX2_undo_0 21 rfl rfl)
theorem dX2_undo_22 : decode cX2_undo 22 = .ok (.getfield 84, 3) := dk_180 0 84 (dk_at dksX2_undo_1 0 rfl rfl)
theorem dX2_undo_25 : decode cX2_undo 25 = .ok (.iconst 4, 1) := dk_7 (dk_at dksX2_undo_1 3 rfl rfl)
theorem dX2_undo_26 : decode cX2_undo 26 = .ok (.aload_n 0, 1) := dk_42 (dk_at dksX2_undo_1 4 rfl rfl)
theorem dX2_undo_27 : decode cX2_undo 27 = .ok (.getfield 161, 3) := dk_180 0 161 (dk_at dksX2_undo_1 5 rfl rfl)
theorem dX2_undo_30 : decode cX2_undo 30 = .ok (.imul, 1) := dk_104 (dk_at dksX2_undo_1 8 rfl rfl)
theorem dX2_undo_31 : decode cX2_undo 31 = .ok (.iaload, 1) := dk_46 (dk_at dksX2_undo_1 9 rfl rfl)
theorem dX2_undo_32 : decode cX2_undo 32 = .ok (.aload_n 0, 1) := dk_42 (dk_at dksX2_undo_1 10 rfl rfl)
theorem dX2_undo_33 : decode cX2_undo 33 = .ok (.getfield 84, 3) := dk_180 0 84 (dk_at dksX2_undo_1 11 rfl rfl)
theorem dX2_undo_36 : decode cX2_undo 36 = .ok (.iconst 4, 1) := dk_7 (dk_at dksX2_undo_1 14 rfl rfl)
theorem dX2_undo_37 : decode cX2_undo 37 = .ok (.aload_n 0, 1) := dk_42 (dk_at dksX2_undo_1 15 rfl rfl)
theorem dX2_undo_38 : decode cX2_undo 38 = .ok (.getfield 161, 3) := dk_180 0 161 (dk_at dksX2_undo_1 16 rfl rfl)
theorem dX2_undo_41 : decode cX2_undo 41 = .ok (.imul, 1) := dk_104 (dk_at dksX2_undo_1 19 rfl rfl)
theorem dX2_undo_42 : decode cX2_undo 42 = .ok (.iconst 1, 1) := dk_4 (dk_at dksX2_undo_1 20 rfl rfl)
theorem dX2_undo_43 : decode cX2_undo 43 = .ok (.iadd, 1) := dk_96 (dk_at dksX2_undo_1 21 rfl rfl)
theorem dX2_undo_44 : decode cX2_undo 44 = .ok (.iaload, 1) := dk_46 (dk_at dksX2_undo_1 22 rfl rfl)
theorem dX2_undo_45 : decode cX2_undo 45 = .ok (.aload_n 0, 1) := dk_42 (dk_at dksX2_undo_1 23 rfl rfl)
theorem dX2_undo_46 : decode cX2_undo 46 = .ok (.getfield 84, 3) := dk_180 0 84 (dk_at dksX2_undo_2 0 rfl rfl)
theorem dX2_undo_49 : decode cX2_undo 49 = .ok (.iconst 4, 1) := dk_7 (dk_at dksX2_undo_2 3 rfl rfl)
theorem dX2_undo_50 : decode cX2_undo 50 = .ok (.aload_n 0, 1) := dk_42 (dk_at dksX2_undo_2 4 rfl rfl)
theorem dX2_undo_51 : decode cX2_undo 51 = .ok (.getfield 161, 3) := dk_180 0 161 (dk_at dksX2_undo_2 5 rfl rfl)
theorem dX2_undo_54 : decode cX2_undo 54 = .ok (.imul, 1) := dk_104 (dk_at dksX2_undo_2 8 rfl rfl)
theorem dX2_undo_55 : decode cX2_undo 55 = .ok (.iconst 2, 1) := dk_5 (dk_at dksX2_undo_2 9 rfl rfl)
theorem dX2_undo_56 : decode cX2_undo 56 = .ok (.iadd, 1) := dk_96 (dk_at dksX2_undo_2 10 rfl rfl)
theorem dX2_undo_57 : decode cX2_undo 57 = .ok (.iaload, 1) := dk_46 (dk_at dksX2_undo_2 11 rfl rfl)
theorem dX2_undo_58 : decode cX2_undo 58 = .ok (.invokevirtual 157, 3) := dk_182 0 157 (dk_at dksX2_undo_2 12 rfl rfl)
theorem dX2_undo_61 : decode cX2_undo 61 = .ok (.aload_n 0, 1) := dk_42 (dk_at dksX2_undo_2 15 rfl rfl)
theorem dX2_undo_62 : decode cX2_undo 62 = .ok (.getfield 161, 3) := dk_180 0 161 (dk_at dksX2_undo_2 16 rfl rfl)
theorem dX2_undo_65 : decode cX2_undo 65 = .ok (.ireturn, 1) := dk_172 (dk_at dksX2_undo_2 19 rfl rfl)
abbrev cX2_redo : ByteArray := prog_31_method_16_code
def yX2_redo : MethodName := ⟨RX2, "redo", "()I"⟩
def dkwX2_redo_3 : List UInt8 := [180, 0, 161, 100, 172]
abbrev dktX2_redo_3 : List UInt8 := dkwX2_redo_3 ++ []
def dkwX2_redo_2 : List UInt8 := [104, 6, 96, 46, 182, 0, 157, 42, 89, 180, 0, 161, 4, 96, 181, 0, 161, 42, 180, 0, 164, 42]
abbrev dktX2_redo_2 : List UInt8 := dkwX2_redo_2 ++ dktX2_redo_3
def dkwX2_redo_1 : List UInt8 := [104, 46, 42, 180, 0, 84, 7, 42, 180, 0, 161, 104, 4, 96, 46, 42, 180, 0, 84, 7, 42, 180, 0, 161]
abbrev dktX2_redo_1 : List UInt8 := dkwX2_redo_1 ++ dktX2_redo_2
def dkwX2_redo_0 : List UInt8 := [42, 180, 0, 161, 42, 180, 0, 164, 160, 0, 6, 16, 251, 172, 42, 42, 180, 0, 84, 7, 42, 180, 0, 161]
abbrev dktX2_redo_0 : List UInt8 := dkwX2_redo_0 ++ dktX2_redo_1
theorem dksX2_redo_0 : cX2_redo.data.toList.drop 0 = dktX2_redo_0 := by decide +kernel
theorem dksX2_redo_1 : cX2_redo.data.toList.drop 24 = dktX2_redo_1 := dk_seg dksX2_redo_0 24 rfl rfl
theorem dksX2_redo_2 : cX2_redo.data.toList.drop 48 = dktX2_redo_2 := dk_seg dksX2_redo_1 24 rfl rfl
theorem dksX2_redo_3 : cX2_redo.data.toList.drop 70 = dktX2_redo_3 := dk_seg dksX2_redo_2 22 rfl rfl
theorem dX2_redo_0 : decode cX2_redo 0 = .ok (.aload_n 0, 1) := dk_42 (dk_at dksX2_redo_0 0 rfl rfl)
theorem dX2_redo_1 : decode cX2_redo 1 = .ok (.getfield 161, 3) := dk_180 0 161 (dk_at dksX2_redo_0 1 rfl rfl)
theorem dX2_redo_4 : decode cX2_redo 4 = .ok (.aload_n 0, 1) := dk_42 (dk_at dksX2_redo_0 4 rfl rfl)
theorem dX2_redo_5 : decode cX2_redo 5 = .ok (.getfield 164, 3) := dk_180 0 164 (dk_at dksX2_redo_0 5 rfl rfl)
theorem dX2_redo_8 : decode cX2_redo 8 = .ok (.if_icmp .ne 6, 3) := dk_160 0 6 (dk_at dksX2_redo_0 8 rfl rfl)
theorem dX2_redo_11 : decode cX2_redo 11 = .ok (.bipush (-5), 2) := dk_16 251 (dk_at dksX2_redo_0 11 rfl rfl)
theorem dX2_redo_13 : decode cX2_redo 13 = .ok (.ireturn, 1) := dk_172 (dk_at dksX2_redo_0 13 rfl rfl)
theorem dX2_redo_14 : decode cX2_redo 14 = .ok (.aload_n 0, 1) := dk_42 (dk_at dksX2_redo_0 14 rfl rfl)
theorem dX2_redo_15 : decode cX2_redo 15 = .ok (.aload_n 0, 1) := dk_42 (dk_at dksX2_redo_0 15 rfl rfl)
theorem dX2_redo_16 : decode cX2_redo 16 = .ok (.getfield 84, 3) := dk_180 0 84 (dk_at dksX2_redo_0 16 rfl rfl)
theorem dX2_redo_19 : decode cX2_redo 19 = .ok (.iconst 4, 1) := dk_7 (dk_at dksX2_redo_0 19 rfl rfl)
theorem dX2_redo_20 : decode cX2_redo 20 = .ok (.aload_n 0, 1) := dk_42 (dk_at dksX2_redo_0 20 rfl rfl)
theorem dX2_redo_21 : decode cX2_redo 21 = .ok (.getfield 161, 3) := dk_180 0 161 (dk_at dksX2_redo_0 21 rfl rfl)
theorem dX2_redo_24 : decode cX2_redo 24 = .ok (.imul, 1) := dk_104 (dk_at dksX2_redo_1 0 rfl rfl)
theorem dX2_redo_25 : decode cX2_redo 25 = .ok (.iaload, 1) := dk_46 (dk_at dksX2_redo_1 1 rfl rfl)
theorem dX2_redo_26 : decode cX2_redo 26 = .ok (.aload_n 0, 1) := dk_42 (dk_at dksX2_redo_1 2 rfl rfl)
theorem dX2_redo_27 : decode cX2_redo 27 = .ok (.getfield 84, 3) := dk_180 0 84 (dk_at dksX2_redo_1 3 rfl rfl)
theorem dX2_redo_30 : decode cX2_redo 30 = .ok (.iconst 4, 1) := dk_7 (dk_at dksX2_redo_1 6 rfl rfl)
theorem dX2_redo_31 : decode cX2_redo 31 = .ok (.aload_n 0, 1) := dk_42 (dk_at dksX2_redo_1 7 rfl rfl)
theorem dX2_redo_32 : decode cX2_redo 32 = .ok (.getfield 161, 3) := dk_180 0 161 (dk_at dksX2_redo_1 8 rfl rfl)
theorem dX2_redo_35 : decode cX2_redo 35 = .ok (.imul, 1) := dk_104 (dk_at dksX2_redo_1 11 rfl rfl)
theorem dX2_redo_36 : decode cX2_redo 36 = .ok (.iconst 1, 1) := dk_4 (dk_at dksX2_redo_1 12 rfl rfl)
theorem dX2_redo_37 : decode cX2_redo 37 = .ok (.iadd, 1) := dk_96 (dk_at dksX2_redo_1 13 rfl rfl)
theorem dX2_redo_38 : decode cX2_redo 38 = .ok (.iaload, 1) := dk_46 (dk_at dksX2_redo_1 14 rfl rfl)
theorem dX2_redo_39 : decode cX2_redo 39 = .ok (.aload_n 0, 1) := dk_42 (dk_at dksX2_redo_1 15 rfl rfl)
theorem dX2_redo_40 : decode cX2_redo 40 = .ok (.getfield 84, 3) := dk_180 0 84 (dk_at dksX2_redo_1 16 rfl rfl)
theorem dX2_redo_43 : decode cX2_redo 43 = .ok (.iconst 4, 1) := dk_7 (dk_at dksX2_redo_1 19 rfl rfl)
theorem dX2_redo_44 : decode cX2_redo 44 = .ok (.aload_n 0, 1) := dk_42 (dk_at dksX2_redo_1 20 rfl rfl)
theorem dX2_redo_45 : decode cX2_redo 45 = .ok (.getfield 161, 3) := dk_180 0 161 (dk_at dksX2_redo_1 21 rfl rfl)
theorem dX2_redo_48 : decode cX2_redo 48 = .ok (.imul, 1) := dk_104 (dk_at dksX2_redo_2 0 rfl rfl)
theorem dX2_redo_49 : decode cX2_redo 49 = .ok (.iconst 3, 1) := dk_6 (dk_at dksX2_redo_2 1 rfl rfl)
theorem dX2_redo_50 : decode cX2_redo 50 = .ok (.iadd, 1) := dk_96 (dk_at dksX2_redo_2 2 rfl rfl)
theorem dX2_redo_51 : decode cX2_redo 51 = .ok (.iaload, 1) := dk_46 (dk_at dksX2_redo_2 3 rfl rfl)
theorem dX2_redo_52 : decode cX2_redo 52 = .ok (.invokevirtual 157, 3) := dk_182 0 157 (dk_at dksX2_redo_2 4 rfl rfl)
theorem dX2_redo_55 : decode cX2_redo 55 = .ok (.aload_n 0, 1) := dk_42 (dk_at dksX2_redo_2 7 rfl rfl)
theorem dX2_redo_56 : decode cX2_redo 56 = .ok (.dup, 1) := dk_89 (dk_at dksX2_redo_2 8 rfl rfl)
theorem dX2_redo_57 : decode cX2_redo 57 = .ok (.getfield 161, 3) := dk_180 0 161 (dk_at dksX2_redo_2 9 rfl rfl)
theorem dX2_redo_60 : decode cX2_redo 60 = .ok (.iconst 1, 1) := dk_4 (dk_at dksX2_redo_2 12 rfl rfl)
theorem dX2_redo_61 : decode cX2_redo 61 = .ok (.iadd, 1) := dk_96 (dk_at dksX2_redo_2 13 rfl rfl)
theorem dX2_redo_62 : decode cX2_redo 62 = .ok (.putfield 161, 3) := dk_181 0 161 (dk_at dksX2_redo_2 14 rfl rfl)
theorem dX2_redo_65 : decode cX2_redo 65 = .ok (.aload_n 0, 1) := dk_42 (dk_at dksX2_redo_2 17 rfl rfl)
theorem dX2_redo_66 : decode cX2_redo 66 = .ok (.getfield 164, 3) := dk_180 0 164 (dk_at dksX2_redo_2 18 rfl rfl)
theorem dX2_redo_69 : decode cX2_redo 69 = .ok (.aload_n 0, 1) := dk_42 (dk_at dksX2_redo_2 21 rfl rfl)
theorem dX2_redo_70 : decode cX2_redo 70 = .ok (.getfield 161, 3) := dk_180 0 161 (dk_at dksX2_redo_3 0 rfl rfl)
theorem dX2_redo_73 : decode cX2_redo 73 = .ok (.isub, 1) := dk_100 (dk_at dksX2_redo_3 3 rfl rfl)
theorem dX2_redo_74 : decode cX2_redo 74 = .ok (.ireturn, 1) := dk_172 (dk_at dksX2_redo_3 4 rfl rfl)
abbrev cX2_feed : ByteArray := prog_31_method_17_code
def yX2_feed : MethodName := ⟨RX2, "feed", "(I)I"⟩
def dkwX2_feed_1 : List UInt8 := [172, 42, 180, 0, 39, 42, 89, 180, 0, 167, 90, 4, 96, 181, 0, 167, 27, 79, 42, 180, 0, 167, 172]
abbrev dktX2_feed_1 : List UInt8 := dkwX2_feed_1 ++ []
def dkwX2_feed_0 : List UInt8 := [27, 3, 17, 0, 255, 184, 0, 128, 154, 0, 5, 2, 172, 42, 180, 0, 167, 16, 120, 160, 0, 6, 16, 253]
abbrev dktX2_feed_0 : List UInt8 := dkwX2_feed_0 ++ dktX2_feed_1
theorem dksX2_feed_0 : cX2_feed.data.toList.drop 0 = dktX2_feed_0 := by decide +kernel
theorem dksX2_feed_1 : cX2_feed.data.toList.drop 24 = dktX2_feed_1 := dk_seg dksX2_feed_0 24 rfl rfl
theorem dX2_feed_0 : decode cX2_feed 0 = .ok (.iload_n 1, 1) := dk_27 (dk_at dksX2_feed_0 0 rfl rfl)
theorem dX2_feed_1 : decode cX2_feed 1 = .ok (.iconst 0, 1) := dk_3 (dk_at dksX2_feed_0 1 rfl rfl)
theorem dX2_feed_2 : decode cX2_feed 2 = .ok (.sipush 255, 3) := dk_17 0 255 (dk_at dksX2_feed_0 2 rfl rfl)
theorem dX2_feed_5 : decode cX2_feed 5 = .ok (.invokestatic 128, 3) := dk_184 0 128 (dk_at dksX2_feed_0 5 rfl rfl)
theorem dX2_feed_8 : decode cX2_feed 8 = .ok (.ifCond .ne 5, 3) := dk_154 0 5 (dk_at dksX2_feed_0 8 rfl rfl)
theorem dX2_feed_11 : decode cX2_feed 11 = .ok (.iconst (-1), 1) := dk_2 (dk_at dksX2_feed_0 11 rfl rfl)
theorem dX2_feed_12 : decode cX2_feed 12 = .ok (.ireturn, 1) := dk_172 (dk_at dksX2_feed_0 12 rfl rfl)
theorem dX2_feed_13 : decode cX2_feed 13 = .ok (.aload_n 0, 1) := dk_42 (dk_at dksX2_feed_0 13 rfl rfl)
theorem dX2_feed_14 : decode cX2_feed 14 = .ok (.getfield 167, 3) := dk_180 0 167 (dk_at dksX2_feed_0 14 rfl rfl)
theorem dX2_feed_17 : decode cX2_feed 17 = .ok (.bipush 120, 2) := dk_16 120 (dk_at dksX2_feed_0 17 rfl rfl)
theorem dX2_feed_19 : decode cX2_feed 19 = .ok (.if_icmp .ne 6, 3) := dk_160 0 6 (dk_at dksX2_feed_0 19 rfl rfl)
theorem dX2_feed_22 : decode cX2_feed 22 = .ok (.bipush (-3), 2) := dk_16 253 (dk_at dksX2_feed_0 22 rfl rfl)
theorem dX2_feed_24 : decode cX2_feed 24 = .ok (.ireturn, 1) := dk_172 (dk_at dksX2_feed_1 0 rfl rfl)
theorem dX2_feed_25 : decode cX2_feed 25 = .ok (.aload_n 0, 1) := dk_42 (dk_at dksX2_feed_1 1 rfl rfl)
theorem dX2_feed_26 : decode cX2_feed 26 = .ok (.getfield 39, 3) := dk_180 0 39 (dk_at dksX2_feed_1 2 rfl rfl)
theorem dX2_feed_29 : decode cX2_feed 29 = .ok (.aload_n 0, 1) := dk_42 (dk_at dksX2_feed_1 5 rfl rfl)
theorem dX2_feed_30 : decode cX2_feed 30 = .ok (.dup, 1) := dk_89 (dk_at dksX2_feed_1 6 rfl rfl)
theorem dX2_feed_31 : decode cX2_feed 31 = .ok (.getfield 167, 3) := dk_180 0 167 (dk_at dksX2_feed_1 7 rfl rfl)
theorem dX2_feed_34 : decode cX2_feed 34 = .ok (.dup_x1, 1) := dk_90 (dk_at dksX2_feed_1 10 rfl rfl)
theorem dX2_feed_35 : decode cX2_feed 35 = .ok (.iconst 1, 1) := dk_4 (dk_at dksX2_feed_1 11 rfl rfl)
theorem dX2_feed_36 : decode cX2_feed 36 = .ok (.iadd, 1) := dk_96 (dk_at dksX2_feed_1 12 rfl rfl)
theorem dX2_feed_37 : decode cX2_feed 37 = .ok (.putfield 167, 3) := dk_181 0 167 (dk_at dksX2_feed_1 13 rfl rfl)
theorem dX2_feed_40 : decode cX2_feed 40 = .ok (.iload_n 1, 1) := dk_27 (dk_at dksX2_feed_1 16 rfl rfl)
theorem dX2_feed_41 : decode cX2_feed 41 = .ok (.iastore, 1) := dk_79 (dk_at dksX2_feed_1 17 rfl rfl)
theorem dX2_feed_42 : decode cX2_feed 42 = .ok (.aload_n 0, 1) := dk_42 (dk_at dksX2_feed_1 18 rfl rfl)
theorem dX2_feed_43 : decode cX2_feed 43 = .ok (.getfield 167, 3) := dk_180 0 167 (dk_at dksX2_feed_1 19 rfl rfl)
theorem dX2_feed_46 : decode cX2_feed 46 = .ok (.ireturn, 1) := dk_172 (dk_at dksX2_feed_1 22 rfl rfl)
abbrev cX2_law : ByteArray := prog_31_method_30_code
def yX2_law : MethodName := ⟨RX2, "law", "()I"⟩
def dkwX2_law_7 : List UInt8 := [180, 0, 51, 29, 42, 180, 0, 63, 29, 46, 79, 132, 3, 1, 167, 255, 233, 4, 172]
abbrev dktX2_law_7 : List UInt8 := dkwX2_law_7 ++ []
def dkwX2_law_6 : List UInt8 := [180, 0, 60, 29, 46, 79, 132, 3, 1, 167, 255, 209, 3, 62, 29, 42, 180, 0, 177, 162, 0, 21, 42]
abbrev dktX2_law_6 : List UInt8 := dkwX2_law_6 ++ dktX2_law_7
def dkwX2_law_5 : List UInt8 := [180, 0, 54, 29, 46, 79, 42, 180, 0, 45, 29, 42, 180, 0, 57, 29, 46, 79, 42, 180, 0, 48, 29, 42]
abbrev dktX2_law_5 : List UInt8 := dkwX2_law_5 ++ dktX2_law_6
def dkwX2_law_4 : List UInt8 := [180, 0, 215, 181, 0, 225, 3, 62, 29, 42, 180, 0, 225, 162, 0, 45, 42, 180, 0, 42, 29, 42]
abbrev dktX2_law_4 : List UInt8 := dkwX2_law_4 ++ dktX2_law_5
def dkwX2_law_3 : List UInt8 := [181, 0, 167, 28, 154, 0, 11, 16, 156, 42, 180, 0, 170, 100, 172, 42, 4, 181, 0, 221, 42, 42]
abbrev dktX2_law_3 : List UInt8 := dkwX2_law_3 ++ dktX2_law_4
def dkwX2_law_2 : List UInt8 := [153, 0, 18, 42, 180, 0, 170, 42, 180, 0, 167, 160, 0, 7, 4, 167, 0, 4, 3, 61, 42, 3]
abbrev dktX2_law_2 : List UInt8 := dkwX2_law_2 ++ dktX2_law_3
def dkwX2_law_1 : List UInt8 := [60, 27, 153, 0, 20, 42, 16, 59, 182, 0, 194, 153, 0, 11, 42, 182, 0, 218, 60, 167, 255, 238, 27]
abbrev dktX2_law_1 : List UInt8 := dkwX2_law_1 ++ dktX2_law_2
def dkwX2_law_0 : List UInt8 := [42, 3, 181, 0, 170, 42, 3, 181, 0, 191, 42, 3, 181, 0, 177, 42, 3, 181, 0, 215, 42, 182, 0, 218]
abbrev dktX2_law_0 : List UInt8 := dkwX2_law_0 ++ dktX2_law_1
theorem dksX2_law_0 : cX2_law.data.toList.drop 0 = dktX2_law_0 := by decide +kernel
theorem dksX2_law_1 : cX2_law.data.toList.drop 24 = dktX2_law_1 := dk_seg dksX2_law_0 24 rfl rfl
theorem dksX2_law_2 : cX2_law.data.toList.drop 47 = dktX2_law_2 := dk_seg dksX2_law_1 23 rfl rfl
theorem dksX2_law_3 : cX2_law.data.toList.drop 69 = dktX2_law_3 := dk_seg dksX2_law_2 22 rfl rfl
theorem dksX2_law_4 : cX2_law.data.toList.drop 91 = dktX2_law_4 := dk_seg dksX2_law_3 22 rfl rfl
theorem dksX2_law_5 : cX2_law.data.toList.drop 113 = dktX2_law_5 := dk_seg dksX2_law_4 22 rfl rfl
theorem dksX2_law_6 : cX2_law.data.toList.drop 137 = dktX2_law_6 := dk_seg dksX2_law_5 24 rfl rfl
theorem dksX2_law_7 : cX2_law.data.toList.drop 160 = dktX2_law_7 := dk_seg dksX2_law_6 23 rfl rfl
theorem dX2_law_0 : decode cX2_law 0 = .ok (.aload_n 0, 1) := dk_42 (dk_at dksX2_law_0 0 rfl rfl)
theorem dX2_law_1 : decode cX2_law 1 = .ok (.iconst 0, 1) := dk_3 (dk_at dksX2_law_0 1 rfl rfl)
theorem dX2_law_2 : decode cX2_law 2 = .ok (.putfield 170, 3) := dk_181 0 170 (dk_at dksX2_law_0 2 rfl rfl)
theorem dX2_law_5 : decode cX2_law 5 = .ok (.aload_n 0, 1) := dk_42 (dk_at dksX2_law_0 5 rfl rfl)
theorem dX2_law_6 : decode cX2_law 6 = .ok (.iconst 0, 1) := dk_3 (dk_at dksX2_law_0 6 rfl rfl)
theorem dX2_law_7 : decode cX2_law 7 = .ok (.putfield 191, 3) := dk_181 0 191 (dk_at dksX2_law_0 7 rfl rfl)
theorem dX2_law_10 : decode cX2_law 10 = .ok (.aload_n 0, 1) := dk_42 (dk_at dksX2_law_0 10 rfl rfl)
theorem dX2_law_11 : decode cX2_law 11 = .ok (.iconst 0, 1) := dk_3 (dk_at dksX2_law_0 11 rfl rfl)
theorem dX2_law_12 : decode cX2_law 12 = .ok (.putfield 177, 3) := dk_181 0 177 (dk_at dksX2_law_0 12 rfl rfl)
theorem dX2_law_15 : decode cX2_law 15 = .ok (.aload_n 0, 1) := dk_42 (dk_at dksX2_law_0 15 rfl rfl)
theorem dX2_law_16 : decode cX2_law 16 = .ok (.iconst 0, 1) := dk_3 (dk_at dksX2_law_0 16 rfl rfl)
theorem dX2_law_17 : decode cX2_law 17 = .ok (.putfield 215, 3) := dk_181 0 215 (dk_at dksX2_law_0 17 rfl rfl)
theorem dX2_law_20 : decode cX2_law 20 = .ok (.aload_n 0, 1) := dk_42 (dk_at dksX2_law_0 20 rfl rfl)
theorem dX2_law_21 : decode cX2_law 21 = .ok (.invokevirtual 218, 3) := dk_182 0 218 (dk_at dksX2_law_0 21 rfl rfl)
theorem dX2_law_24 : decode cX2_law 24 = .ok (.istore_n 1, 1) := dk_60 (dk_at dksX2_law_1 0 rfl rfl)
theorem dX2_law_25 : decode cX2_law 25 = .ok (.iload_n 1, 1) := dk_27 (dk_at dksX2_law_1 1 rfl rfl)
theorem dX2_law_26 : decode cX2_law 26 = .ok (.ifCond .eq 20, 3) := dk_153 0 20 (dk_at dksX2_law_1 2 rfl rfl)
theorem dX2_law_29 : decode cX2_law 29 = .ok (.aload_n 0, 1) := dk_42 (dk_at dksX2_law_1 5 rfl rfl)
theorem dX2_law_30 : decode cX2_law 30 = .ok (.bipush 59, 2) := dk_16 59 (dk_at dksX2_law_1 6 rfl rfl)
theorem dX2_law_32 : decode cX2_law 32 = .ok (.invokevirtual 194, 3) := dk_182 0 194 (dk_at dksX2_law_1 8 rfl rfl)
theorem dX2_law_35 : decode cX2_law 35 = .ok (.ifCond .eq 11, 3) := dk_153 0 11 (dk_at dksX2_law_1 11 rfl rfl)
theorem dX2_law_38 : decode cX2_law 38 = .ok (.aload_n 0, 1) := dk_42 (dk_at dksX2_law_1 14 rfl rfl)
theorem dX2_law_39 : decode cX2_law 39 = .ok (.invokevirtual 218, 3) := dk_182 0 218 (dk_at dksX2_law_1 15 rfl rfl)
theorem dX2_law_42 : decode cX2_law 42 = .ok (.istore_n 1, 1) := dk_60 (dk_at dksX2_law_1 18 rfl rfl)
theorem dX2_law_43 : decode cX2_law 43 = .ok (.goto (-18), 3) := dk_167 255 238 (dk_at dksX2_law_1 19 rfl rfl)
theorem dX2_law_46 : decode cX2_law 46 = .ok (.iload_n 1, 1) := dk_27 (dk_at dksX2_law_1 22 rfl rfl)
theorem dX2_law_47 : decode cX2_law 47 = .ok (.ifCond .eq 18, 3) := dk_153 0 18 (dk_at dksX2_law_2 0 rfl rfl)
theorem dX2_law_50 : decode cX2_law 50 = .ok (.aload_n 0, 1) := dk_42 (dk_at dksX2_law_2 3 rfl rfl)
theorem dX2_law_51 : decode cX2_law 51 = .ok (.getfield 170, 3) := dk_180 0 170 (dk_at dksX2_law_2 4 rfl rfl)
theorem dX2_law_54 : decode cX2_law 54 = .ok (.aload_n 0, 1) := dk_42 (dk_at dksX2_law_2 7 rfl rfl)
theorem dX2_law_55 : decode cX2_law 55 = .ok (.getfield 167, 3) := dk_180 0 167 (dk_at dksX2_law_2 8 rfl rfl)
theorem dX2_law_58 : decode cX2_law 58 = .ok (.if_icmp .ne 7, 3) := dk_160 0 7 (dk_at dksX2_law_2 11 rfl rfl)
theorem dX2_law_61 : decode cX2_law 61 = .ok (.iconst 1, 1) := dk_4 (dk_at dksX2_law_2 14 rfl rfl)
theorem dX2_law_62 : decode cX2_law 62 = .ok (.goto 4, 3) := dk_167 0 4 (dk_at dksX2_law_2 15 rfl rfl)
theorem dX2_law_65 : decode cX2_law 65 = .ok (.iconst 0, 1) := dk_3 (dk_at dksX2_law_2 18 rfl rfl)
theorem dX2_law_66 : decode cX2_law 66 = .ok (.istore_n 2, 1) := dk_61 (dk_at dksX2_law_2 19 rfl rfl)
theorem dX2_law_67 : decode cX2_law 67 = .ok (.aload_n 0, 1) := dk_42 (dk_at dksX2_law_2 20 rfl rfl)
theorem dX2_law_68 : decode cX2_law 68 = .ok (.iconst 0, 1) := dk_3 (dk_at dksX2_law_2 21 rfl rfl)
theorem dX2_law_69 : decode cX2_law 69 = .ok (.putfield 167, 3) := dk_181 0 167 (dk_at dksX2_law_3 0 rfl rfl)
theorem dX2_law_72 : decode cX2_law 72 = .ok (.iload_n 2, 1) := dk_28 (dk_at dksX2_law_3 3 rfl rfl)
theorem dX2_law_73 : decode cX2_law 73 = .ok (.ifCond .ne 11, 3) := dk_154 0 11 (dk_at dksX2_law_3 4 rfl rfl)
theorem dX2_law_76 : decode cX2_law 76 = .ok (.bipush (-100), 2) := dk_16 156 (dk_at dksX2_law_3 7 rfl rfl)
theorem dX2_law_78 : decode cX2_law 78 = .ok (.aload_n 0, 1) := dk_42 (dk_at dksX2_law_3 9 rfl rfl)
theorem dX2_law_79 : decode cX2_law 79 = .ok (.getfield 170, 3) := dk_180 0 170 (dk_at dksX2_law_3 10 rfl rfl)
theorem dX2_law_82 : decode cX2_law 82 = .ok (.isub, 1) := dk_100 (dk_at dksX2_law_3 13 rfl rfl)
theorem dX2_law_83 : decode cX2_law 83 = .ok (.ireturn, 1) := dk_172 (dk_at dksX2_law_3 14 rfl rfl)
theorem dX2_law_84 : decode cX2_law 84 = .ok (.aload_n 0, 1) := dk_42 (dk_at dksX2_law_3 15 rfl rfl)
theorem dX2_law_85 : decode cX2_law 85 = .ok (.iconst 1, 1) := dk_4 (dk_at dksX2_law_3 16 rfl rfl)
theorem dX2_law_86 : decode cX2_law 86 = .ok (.putfield 221, 3) := dk_181 0 221 (dk_at dksX2_law_3 17 rfl rfl)
theorem dX2_law_89 : decode cX2_law 89 = .ok (.aload_n 0, 1) := dk_42 (dk_at dksX2_law_3 20 rfl rfl)
theorem dX2_law_90 : decode cX2_law 90 = .ok (.aload_n 0, 1) := dk_42 (dk_at dksX2_law_3 21 rfl rfl)
theorem dX2_law_91 : decode cX2_law 91 = .ok (.getfield 215, 3) := dk_180 0 215 (dk_at dksX2_law_4 0 rfl rfl)
theorem dX2_law_94 : decode cX2_law 94 = .ok (.putfield 225, 3) := dk_181 0 225 (dk_at dksX2_law_4 3 rfl rfl)
theorem dX2_law_97 : decode cX2_law 97 = .ok (.iconst 0, 1) := dk_3 (dk_at dksX2_law_4 6 rfl rfl)
theorem dX2_law_98 : decode cX2_law 98 = .ok (.istore_n 3, 1) := dk_62 (dk_at dksX2_law_4 7 rfl rfl)
theorem dX2_law_99 : decode cX2_law 99 = .ok (.iload_n 3, 1) := dk_29 (dk_at dksX2_law_4 8 rfl rfl)
theorem dX2_law_100 : decode cX2_law 100 = .ok (.aload_n 0, 1) := dk_42 (dk_at dksX2_law_4 9 rfl rfl)
theorem dX2_law_101 : decode cX2_law 101 = .ok (.getfield 225, 3) := dk_180 0 225 (dk_at dksX2_law_4 10 rfl rfl)
theorem dX2_law_104 : decode cX2_law 104 = .ok (.if_icmp .ge 45, 3) := dk_162 0 45 (dk_at dksX2_law_4 13 rfl rfl)
theorem dX2_law_107 : decode cX2_law 107 = .ok (.aload_n 0, 1) := dk_42 (dk_at dksX2_law_4 16 rfl rfl)
theorem dX2_law_108 : decode cX2_law 108 = .ok (.getfield 42, 3) := dk_180 0 42 (dk_at dksX2_law_4 17 rfl rfl)
theorem dX2_law_111 : decode cX2_law 111 = .ok (.iload_n 3, 1) := dk_29 (dk_at dksX2_law_4 20 rfl rfl)
theorem dX2_law_112 : decode cX2_law 112 = .ok (.aload_n 0, 1) := dk_42 (dk_at dksX2_law_4 21 rfl rfl)
theorem dX2_law_113 : decode cX2_law 113 = .ok (.getfield 54, 3) := dk_180 0 54 (dk_at dksX2_law_5 0 rfl rfl)
theorem dX2_law_116 : decode cX2_law 116 = .ok (.iload_n 3, 1) := dk_29 (dk_at dksX2_law_5 3 rfl rfl)
theorem dX2_law_117 : decode cX2_law 117 = .ok (.iaload, 1) := dk_46 (dk_at dksX2_law_5 4 rfl rfl)
theorem dX2_law_118 : decode cX2_law 118 = .ok (.iastore, 1) := dk_79 (dk_at dksX2_law_5 5 rfl rfl)
theorem dX2_law_119 : decode cX2_law 119 = .ok (.aload_n 0, 1) := dk_42 (dk_at dksX2_law_5 6 rfl rfl)
theorem dX2_law_120 : decode cX2_law 120 = .ok (.getfield 45, 3) := dk_180 0 45 (dk_at dksX2_law_5 7 rfl rfl)
theorem dX2_law_123 : decode cX2_law 123 = .ok (.iload_n 3, 1) := dk_29 (dk_at dksX2_law_5 10 rfl rfl)
theorem dX2_law_124 : decode cX2_law 124 = .ok (.aload_n 0, 1) := dk_42 (dk_at dksX2_law_5 11 rfl rfl)
theorem dX2_law_125 : decode cX2_law 125 = .ok (.getfield 57, 3) := dk_180 0 57 (dk_at dksX2_law_5 12 rfl rfl)
theorem dX2_law_128 : decode cX2_law 128 = .ok (.iload_n 3, 1) := dk_29 (dk_at dksX2_law_5 15 rfl rfl)
theorem dX2_law_129 : decode cX2_law 129 = .ok (.iaload, 1) := dk_46 (dk_at dksX2_law_5 16 rfl rfl)
theorem dX2_law_130 : decode cX2_law 130 = .ok (.iastore, 1) := dk_79 (dk_at dksX2_law_5 17 rfl rfl)
theorem dX2_law_131 : decode cX2_law 131 = .ok (.aload_n 0, 1) := dk_42 (dk_at dksX2_law_5 18 rfl rfl)
theorem dX2_law_132 : decode cX2_law 132 = .ok (.getfield 48, 3) := dk_180 0 48 (dk_at dksX2_law_5 19 rfl rfl)
theorem dX2_law_135 : decode cX2_law 135 = .ok (.iload_n 3, 1) := dk_29 (dk_at dksX2_law_5 22 rfl rfl)
theorem dX2_law_136 : decode cX2_law 136 = .ok (.aload_n 0, 1) := dk_42 (dk_at dksX2_law_5 23 rfl rfl)
theorem dX2_law_137 : decode cX2_law 137 = .ok (.getfield 60, 3) := dk_180 0 60 (dk_at dksX2_law_6 0 rfl rfl)
theorem dX2_law_140 : decode cX2_law 140 = .ok (.iload_n 3, 1) := dk_29 (dk_at dksX2_law_6 3 rfl rfl)
theorem dX2_law_141 : decode cX2_law 141 = .ok (.iaload, 1) := dk_46 (dk_at dksX2_law_6 4 rfl rfl)
theorem dX2_law_142 : decode cX2_law 142 = .ok (.iastore, 1) := dk_79 (dk_at dksX2_law_6 5 rfl rfl)
theorem dX2_law_143 : decode cX2_law 143 = .ok (.iinc 3 1, 3) := dk_132 3 1 (dk_at dksX2_law_6 6 rfl rfl)
theorem dX2_law_146 : decode cX2_law 146 = .ok (.goto (-47), 3) := dk_167 255 209 (dk_at dksX2_law_6 9 rfl rfl)
theorem dX2_law_149 : decode cX2_law 149 = .ok (.iconst 0, 1) := dk_3 (dk_at dksX2_law_6 12 rfl rfl)
theorem dX2_law_150 : decode cX2_law 150 = .ok (.istore_n 3, 1) := dk_62 (dk_at dksX2_law_6 13 rfl rfl)
theorem dX2_law_151 : decode cX2_law 151 = .ok (.iload_n 3, 1) := dk_29 (dk_at dksX2_law_6 14 rfl rfl)
theorem dX2_law_152 : decode cX2_law 152 = .ok (.aload_n 0, 1) := dk_42 (dk_at dksX2_law_6 15 rfl rfl)
theorem dX2_law_153 : decode cX2_law 153 = .ok (.getfield 177, 3) := dk_180 0 177 (dk_at dksX2_law_6 16 rfl rfl)
theorem dX2_law_156 : decode cX2_law 156 = .ok (.if_icmp .ge 21, 3) := dk_162 0 21 (dk_at dksX2_law_6 19 rfl rfl)
theorem dX2_law_159 : decode cX2_law 159 = .ok (.aload_n 0, 1) := dk_42 (dk_at dksX2_law_6 22 rfl rfl)
theorem dX2_law_160 : decode cX2_law 160 = .ok (.getfield 51, 3) := dk_180 0 51 (dk_at dksX2_law_7 0 rfl rfl)
theorem dX2_law_163 : decode cX2_law 163 = .ok (.iload_n 3, 1) := dk_29 (dk_at dksX2_law_7 3 rfl rfl)
theorem dX2_law_164 : decode cX2_law 164 = .ok (.aload_n 0, 1) := dk_42 (dk_at dksX2_law_7 4 rfl rfl)
theorem dX2_law_165 : decode cX2_law 165 = .ok (.getfield 63, 3) := dk_180 0 63 (dk_at dksX2_law_7 5 rfl rfl)
theorem dX2_law_168 : decode cX2_law 168 = .ok (.iload_n 3, 1) := dk_29 (dk_at dksX2_law_7 8 rfl rfl)
theorem dX2_law_169 : decode cX2_law 169 = .ok (.iaload, 1) := dk_46 (dk_at dksX2_law_7 9 rfl rfl)
theorem dX2_law_170 : decode cX2_law 170 = .ok (.iastore, 1) := dk_79 (dk_at dksX2_law_7 10 rfl rfl)
theorem dX2_law_171 : decode cX2_law 171 = .ok (.iinc 3 1, 3) := dk_132 3 1 (dk_at dksX2_law_7 11 rfl rfl)
theorem dX2_law_174 : decode cX2_law 174 = .ok (.goto (-23), 3) := dk_167 255 233 (dk_at dksX2_law_7 14 rfl rfl)
theorem dX2_law_177 : decode cX2_law 177 = .ok (.iconst 1, 1) := dk_4 (dk_at dksX2_law_7 17 rfl rfl)
theorem dX2_law_178 : decode cX2_law 178 = .ok (.ireturn, 1) := dk_172 (dk_at dksX2_law_7 18 rfl rfl)
abbrev cX2_isLine : ByteArray := prog_31_method_29_code
def yX2_isLine : MethodName := ⟨RX2, "isLine", "()Z"⟩
def dkwX2_isLine_3 : List UInt8 := [172, 42, 180, 0, 60, 42, 89, 180, 0, 215, 90, 4, 96, 181, 0, 215, 42, 180, 0, 177, 79, 4, 172]
abbrev dktX2_isLine_3 : List UInt8 := dkwX2_isLine_3 ++ []
def dkwX2_isLine_2 : List UInt8 := [153, 0, 25, 42, 180, 0, 57, 42, 180, 0, 215, 42, 180, 0, 177, 79, 42, 182, 0, 200, 154, 0, 5, 3]
abbrev dktX2_isLine_2 : List UInt8 := dkwX2_isLine_2 ++ dktX2_isLine_3
def dkwX2_isLine_1 : List UInt8 := [180, 0, 57, 42, 180, 0, 215, 42, 180, 0, 54, 42, 180, 0, 215, 46, 79, 42, 16, 63, 182, 0, 194]
abbrev dktX2_isLine_1 : List UInt8 := dkwX2_isLine_1 ++ dktX2_isLine_2
def dkwX2_isLine_0 : List UInt8 := [42, 180, 0, 54, 42, 180, 0, 215, 42, 180, 0, 177, 79, 42, 182, 0, 200, 154, 0, 5, 3, 172, 42]
abbrev dktX2_isLine_0 : List UInt8 := dkwX2_isLine_0 ++ dktX2_isLine_1
theorem dksX2_isLine_0 : cX2_isLine.data.toList.drop 0 = dktX2_isLine_0 := by decide +kernel
theorem dksX2_isLine_1 : cX2_isLine.data.toList.drop 23 = dktX2_isLine_1 := dk_seg dksX2_isLine_0 23 rfl rfl
theorem dksX2_isLine_2 : cX2_isLine.data.toList.drop 46 = dktX2_isLine_2 := dk_seg dksX2_isLine_1 23 rfl rfl
theorem dksX2_isLine_3 : cX2_isLine.data.toList.drop 70 = dktX2_isLine_3 := dk_seg dksX2_isLine_2 24 rfl rfl
theorem dX2_isLine_0 : decode cX2_isLine 0 = .ok (.aload_n 0, 1) := dk_42 (dk_at dksX2_isLine_0 0 rfl rfl)
theorem dX2_isLine_1 : decode cX2_isLine 1 = .ok (.getfield 54, 3) := dk_180 0 54 (dk_at dksX2_isLine_0 1 rfl rfl)
theorem dX2_isLine_4 : decode cX2_isLine 4 = .ok (.aload_n 0, 1) := dk_42 (dk_at dksX2_isLine_0 4 rfl rfl)
theorem dX2_isLine_5 : decode cX2_isLine 5 = .ok (.getfield 215, 3) := dk_180 0 215 (dk_at dksX2_isLine_0 5 rfl rfl)
theorem dX2_isLine_8 : decode cX2_isLine 8 = .ok (.aload_n 0, 1) := dk_42 (dk_at dksX2_isLine_0 8 rfl rfl)
theorem dX2_isLine_9 : decode cX2_isLine 9 = .ok (.getfield 177, 3) := dk_180 0 177 (dk_at dksX2_isLine_0 9 rfl rfl)
theorem dX2_isLine_12 : decode cX2_isLine 12 = .ok (.iastore, 1) := dk_79 (dk_at dksX2_isLine_0 12 rfl rfl)
theorem dX2_isLine_13 : decode cX2_isLine 13 = .ok (.aload_n 0, 1) := dk_42 (dk_at dksX2_isLine_0 13 rfl rfl)
theorem dX2_isLine_14 : decode cX2_isLine 14 = .ok (.invokevirtual 200, 3) := dk_182 0 200 (dk_at dksX2_isLine_0 14 rfl rfl)
theorem dX2_isLine_17 : decode cX2_isLine 17 = .ok (.ifCond .ne 5, 3) := dk_154 0 5 (dk_at dksX2_isLine_0 17 rfl rfl)
theorem dX2_isLine_20 : decode cX2_isLine 20 = .ok (.iconst 0, 1) := dk_3 (dk_at dksX2_isLine_0 20 rfl rfl)
theorem dX2_isLine_21 : decode cX2_isLine 21 = .ok (.ireturn, 1) := dk_172 (dk_at dksX2_isLine_0 21 rfl rfl)
theorem dX2_isLine_22 : decode cX2_isLine 22 = .ok (.aload_n 0, 1) := dk_42 (dk_at dksX2_isLine_0 22 rfl rfl)
theorem dX2_isLine_23 : decode cX2_isLine 23 = .ok (.getfield 57, 3) := dk_180 0 57 (dk_at dksX2_isLine_1 0 rfl rfl)
theorem dX2_isLine_26 : decode cX2_isLine 26 = .ok (.aload_n 0, 1) := dk_42 (dk_at dksX2_isLine_1 3 rfl rfl)
theorem dX2_isLine_27 : decode cX2_isLine 27 = .ok (.getfield 215, 3) := dk_180 0 215 (dk_at dksX2_isLine_1 4 rfl rfl)
theorem dX2_isLine_30 : decode cX2_isLine 30 = .ok (.aload_n 0, 1) := dk_42 (dk_at dksX2_isLine_1 7 rfl rfl)
theorem dX2_isLine_31 : decode cX2_isLine 31 = .ok (.getfield 54, 3) := dk_180 0 54 (dk_at dksX2_isLine_1 8 rfl rfl)
theorem dX2_isLine_34 : decode cX2_isLine 34 = .ok (.aload_n 0, 1) := dk_42 (dk_at dksX2_isLine_1 11 rfl rfl)
theorem dX2_isLine_35 : decode cX2_isLine 35 = .ok (.getfield 215, 3) := dk_180 0 215 (dk_at dksX2_isLine_1 12 rfl rfl)
theorem dX2_isLine_38 : decode cX2_isLine 38 = .ok (.iaload, 1) := dk_46 (dk_at dksX2_isLine_1 15 rfl rfl)
theorem dX2_isLine_39 : decode cX2_isLine 39 = .ok (.iastore, 1) := dk_79 (dk_at dksX2_isLine_1 16 rfl rfl)
theorem dX2_isLine_40 : decode cX2_isLine 40 = .ok (.aload_n 0, 1) := dk_42 (dk_at dksX2_isLine_1 17 rfl rfl)
theorem dX2_isLine_41 : decode cX2_isLine 41 = .ok (.bipush 63, 2) := dk_16 63 (dk_at dksX2_isLine_1 18 rfl rfl)
theorem dX2_isLine_43 : decode cX2_isLine 43 = .ok (.invokevirtual 194, 3) := dk_182 0 194 (dk_at dksX2_isLine_1 20 rfl rfl)
theorem dX2_isLine_46 : decode cX2_isLine 46 = .ok (.ifCond .eq 25, 3) := dk_153 0 25 (dk_at dksX2_isLine_2 0 rfl rfl)
theorem dX2_isLine_49 : decode cX2_isLine 49 = .ok (.aload_n 0, 1) := dk_42 (dk_at dksX2_isLine_2 3 rfl rfl)
theorem dX2_isLine_50 : decode cX2_isLine 50 = .ok (.getfield 57, 3) := dk_180 0 57 (dk_at dksX2_isLine_2 4 rfl rfl)
theorem dX2_isLine_53 : decode cX2_isLine 53 = .ok (.aload_n 0, 1) := dk_42 (dk_at dksX2_isLine_2 7 rfl rfl)
theorem dX2_isLine_54 : decode cX2_isLine 54 = .ok (.getfield 215, 3) := dk_180 0 215 (dk_at dksX2_isLine_2 8 rfl rfl)
theorem dX2_isLine_57 : decode cX2_isLine 57 = .ok (.aload_n 0, 1) := dk_42 (dk_at dksX2_isLine_2 11 rfl rfl)
theorem dX2_isLine_58 : decode cX2_isLine 58 = .ok (.getfield 177, 3) := dk_180 0 177 (dk_at dksX2_isLine_2 12 rfl rfl)
theorem dX2_isLine_61 : decode cX2_isLine 61 = .ok (.iastore, 1) := dk_79 (dk_at dksX2_isLine_2 15 rfl rfl)
theorem dX2_isLine_62 : decode cX2_isLine 62 = .ok (.aload_n 0, 1) := dk_42 (dk_at dksX2_isLine_2 16 rfl rfl)
theorem dX2_isLine_63 : decode cX2_isLine 63 = .ok (.invokevirtual 200, 3) := dk_182 0 200 (dk_at dksX2_isLine_2 17 rfl rfl)
theorem dX2_isLine_66 : decode cX2_isLine 66 = .ok (.ifCond .ne 5, 3) := dk_154 0 5 (dk_at dksX2_isLine_2 20 rfl rfl)
theorem dX2_isLine_69 : decode cX2_isLine 69 = .ok (.iconst 0, 1) := dk_3 (dk_at dksX2_isLine_2 23 rfl rfl)
theorem dX2_isLine_70 : decode cX2_isLine 70 = .ok (.ireturn, 1) := dk_172 (dk_at dksX2_isLine_3 0 rfl rfl)
theorem dX2_isLine_71 : decode cX2_isLine 71 = .ok (.aload_n 0, 1) := dk_42 (dk_at dksX2_isLine_3 1 rfl rfl)
theorem dX2_isLine_72 : decode cX2_isLine 72 = .ok (.getfield 60, 3) := dk_180 0 60 (dk_at dksX2_isLine_3 2 rfl rfl)
theorem dX2_isLine_75 : decode cX2_isLine 75 = .ok (.aload_n 0, 1) := dk_42 (dk_at dksX2_isLine_3 5 rfl rfl)
theorem dX2_isLine_76 : decode cX2_isLine 76 = .ok (.dup, 1) := dk_89 (dk_at dksX2_isLine_3 6 rfl rfl)
theorem dX2_isLine_77 : decode cX2_isLine 77 = .ok (.getfield 215, 3) := dk_180 0 215 (dk_at dksX2_isLine_3 7 rfl rfl)
theorem dX2_isLine_80 : decode cX2_isLine 80 = .ok (.dup_x1, 1) := dk_90 (dk_at dksX2_isLine_3 10 rfl rfl)
theorem dX2_isLine_81 : decode cX2_isLine 81 = .ok (.iconst 1, 1) := dk_4 (dk_at dksX2_isLine_3 11 rfl rfl)
theorem dX2_isLine_82 : decode cX2_isLine 82 = .ok (.iadd, 1) := dk_96 (dk_at dksX2_isLine_3 12 rfl rfl)
theorem dX2_isLine_83 : decode cX2_isLine 83 = .ok (.putfield 215, 3) := dk_181 0 215 (dk_at dksX2_isLine_3 13 rfl rfl)
theorem dX2_isLine_86 : decode cX2_isLine 86 = .ok (.aload_n 0, 1) := dk_42 (dk_at dksX2_isLine_3 16 rfl rfl)
theorem dX2_isLine_87 : decode cX2_isLine 87 = .ok (.getfield 177, 3) := dk_180 0 177 (dk_at dksX2_isLine_3 17 rfl rfl)
theorem dX2_isLine_90 : decode cX2_isLine 90 = .ok (.iastore, 1) := dk_79 (dk_at dksX2_isLine_3 20 rfl rfl)
theorem dX2_isLine_91 : decode cX2_isLine 91 = .ok (.iconst 1, 1) := dk_4 (dk_at dksX2_isLine_3 21 rfl rfl)
theorem dX2_isLine_92 : decode cX2_isLine 92 = .ok (.ireturn, 1) := dk_172 (dk_at dksX2_isLine_3 22 rfl rfl)
abbrev cX2_isE : ByteArray := prog_31_method_28_code
def yX2_isE : MethodName := ⟨RX2, "isE", "()Z"⟩
def dkwX2_isE_1 : List UInt8 := [154, 0, 5, 3, 172, 42, 16, 6, 182, 0, 184, 87, 167, 255, 231, 4, 172]
abbrev dktX2_isE_1 : List UInt8 := dkwX2_isE_1 ++ []
def dkwX2_isE_0 : List UInt8 := [42, 182, 0, 212, 154, 0, 5, 3, 172, 42, 16, 124, 182, 0, 194, 153, 0, 22, 42, 182, 0, 212]
abbrev dktX2_isE_0 : List UInt8 := dkwX2_isE_0 ++ dktX2_isE_1
theorem dksX2_isE_0 : cX2_isE.data.toList.drop 0 = dktX2_isE_0 := by decide +kernel
theorem dksX2_isE_1 : cX2_isE.data.toList.drop 22 = dktX2_isE_1 := dk_seg dksX2_isE_0 22 rfl rfl
theorem dX2_isE_0 : decode cX2_isE 0 = .ok (.aload_n 0, 1) := dk_42 (dk_at dksX2_isE_0 0 rfl rfl)
theorem dX2_isE_1 : decode cX2_isE 1 = .ok (.invokevirtual 212, 3) := dk_182 0 212 (dk_at dksX2_isE_0 1 rfl rfl)
theorem dX2_isE_4 : decode cX2_isE 4 = .ok (.ifCond .ne 5, 3) := dk_154 0 5 (dk_at dksX2_isE_0 4 rfl rfl)
theorem dX2_isE_7 : decode cX2_isE 7 = .ok (.iconst 0, 1) := dk_3 (dk_at dksX2_isE_0 7 rfl rfl)
theorem dX2_isE_8 : decode cX2_isE 8 = .ok (.ireturn, 1) := dk_172 (dk_at dksX2_isE_0 8 rfl rfl)
theorem dX2_isE_9 : decode cX2_isE 9 = .ok (.aload_n 0, 1) := dk_42 (dk_at dksX2_isE_0 9 rfl rfl)
theorem dX2_isE_10 : decode cX2_isE 10 = .ok (.bipush 124, 2) := dk_16 124 (dk_at dksX2_isE_0 10 rfl rfl)
theorem dX2_isE_12 : decode cX2_isE 12 = .ok (.invokevirtual 194, 3) := dk_182 0 194 (dk_at dksX2_isE_0 12 rfl rfl)
theorem dX2_isE_15 : decode cX2_isE 15 = .ok (.ifCond .eq 22, 3) := dk_153 0 22 (dk_at dksX2_isE_0 15 rfl rfl)
theorem dX2_isE_18 : decode cX2_isE 18 = .ok (.aload_n 0, 1) := dk_42 (dk_at dksX2_isE_0 18 rfl rfl)
theorem dX2_isE_19 : decode cX2_isE 19 = .ok (.invokevirtual 212, 3) := dk_182 0 212 (dk_at dksX2_isE_0 19 rfl rfl)
theorem dX2_isE_22 : decode cX2_isE 22 = .ok (.ifCond .ne 5, 3) := dk_154 0 5 (dk_at dksX2_isE_1 0 rfl rfl)
theorem dX2_isE_25 : decode cX2_isE 25 = .ok (.iconst 0, 1) := dk_3 (dk_at dksX2_isE_1 3 rfl rfl)
theorem dX2_isE_26 : decode cX2_isE 26 = .ok (.ireturn, 1) := dk_172 (dk_at dksX2_isE_1 4 rfl rfl)
theorem dX2_isE_27 : decode cX2_isE 27 = .ok (.aload_n 0, 1) := dk_42 (dk_at dksX2_isE_1 5 rfl rfl)
theorem dX2_isE_28 : decode cX2_isE 28 = .ok (.bipush 6, 2) := dk_16 6 (dk_at dksX2_isE_1 6 rfl rfl)
theorem dX2_isE_30 : decode cX2_isE 30 = .ok (.invokevirtual 184, 3) := dk_182 0 184 (dk_at dksX2_isE_1 8 rfl rfl)
theorem dX2_isE_33 : decode cX2_isE 33 = .ok (.pop, 1) := dk_87 (dk_at dksX2_isE_1 11 rfl rfl)
theorem dX2_isE_34 : decode cX2_isE 34 = .ok (.goto (-25), 3) := dk_167 255 231 (dk_at dksX2_isE_1 12 rfl rfl)
theorem dX2_isE_37 : decode cX2_isE 37 = .ok (.iconst 1, 1) := dk_4 (dk_at dksX2_isE_1 15 rfl rfl)
theorem dX2_isE_38 : decode cX2_isE 38 = .ok (.ireturn, 1) := dk_172 (dk_at dksX2_isE_1 16 rfl rfl)
abbrev cX2_isA : ByteArray := prog_31_method_27_code
def yX2_isA : MethodName := ⟨RX2, "isA", "()Z"⟩
def dkwX2_isA_1 : List UInt8 := [154, 0, 5, 3, 172, 42, 16, 7, 182, 0, 184, 87, 167, 255, 231, 4, 172]
abbrev dktX2_isA_1 : List UInt8 := dkwX2_isA_1 ++ []
def dkwX2_isA_0 : List UInt8 := [42, 182, 0, 209, 154, 0, 5, 3, 172, 42, 16, 38, 182, 0, 194, 153, 0, 22, 42, 182, 0, 209]
abbrev dktX2_isA_0 : List UInt8 := dkwX2_isA_0 ++ dktX2_isA_1
theorem dksX2_isA_0 : cX2_isA.data.toList.drop 0 = dktX2_isA_0 := by decide +kernel
theorem dksX2_isA_1 : cX2_isA.data.toList.drop 22 = dktX2_isA_1 := dk_seg dksX2_isA_0 22 rfl rfl
theorem dX2_isA_0 : decode cX2_isA 0 = .ok (.aload_n 0, 1) := dk_42 (dk_at dksX2_isA_0 0 rfl rfl)
theorem dX2_isA_1 : decode cX2_isA 1 = .ok (.invokevirtual 209, 3) := dk_182 0 209 (dk_at dksX2_isA_0 1 rfl rfl)
theorem dX2_isA_4 : decode cX2_isA 4 = .ok (.ifCond .ne 5, 3) := dk_154 0 5 (dk_at dksX2_isA_0 4 rfl rfl)
theorem dX2_isA_7 : decode cX2_isA 7 = .ok (.iconst 0, 1) := dk_3 (dk_at dksX2_isA_0 7 rfl rfl)
theorem dX2_isA_8 : decode cX2_isA 8 = .ok (.ireturn, 1) := dk_172 (dk_at dksX2_isA_0 8 rfl rfl)
theorem dX2_isA_9 : decode cX2_isA 9 = .ok (.aload_n 0, 1) := dk_42 (dk_at dksX2_isA_0 9 rfl rfl)
theorem dX2_isA_10 : decode cX2_isA 10 = .ok (.bipush 38, 2) := dk_16 38 (dk_at dksX2_isA_0 10 rfl rfl)
theorem dX2_isA_12 : decode cX2_isA 12 = .ok (.invokevirtual 194, 3) := dk_182 0 194 (dk_at dksX2_isA_0 12 rfl rfl)
theorem dX2_isA_15 : decode cX2_isA 15 = .ok (.ifCond .eq 22, 3) := dk_153 0 22 (dk_at dksX2_isA_0 15 rfl rfl)
theorem dX2_isA_18 : decode cX2_isA 18 = .ok (.aload_n 0, 1) := dk_42 (dk_at dksX2_isA_0 18 rfl rfl)
theorem dX2_isA_19 : decode cX2_isA 19 = .ok (.invokevirtual 209, 3) := dk_182 0 209 (dk_at dksX2_isA_0 19 rfl rfl)
theorem dX2_isA_22 : decode cX2_isA 22 = .ok (.ifCond .ne 5, 3) := dk_154 0 5 (dk_at dksX2_isA_1 0 rfl rfl)
theorem dX2_isA_25 : decode cX2_isA 25 = .ok (.iconst 0, 1) := dk_3 (dk_at dksX2_isA_1 3 rfl rfl)
theorem dX2_isA_26 : decode cX2_isA 26 = .ok (.ireturn, 1) := dk_172 (dk_at dksX2_isA_1 4 rfl rfl)
theorem dX2_isA_27 : decode cX2_isA 27 = .ok (.aload_n 0, 1) := dk_42 (dk_at dksX2_isA_1 5 rfl rfl)
theorem dX2_isA_28 : decode cX2_isA 28 = .ok (.bipush 7, 2) := dk_16 7 (dk_at dksX2_isA_1 6 rfl rfl)
theorem dX2_isA_30 : decode cX2_isA 30 = .ok (.invokevirtual 184, 3) := dk_182 0 184 (dk_at dksX2_isA_1 8 rfl rfl)
theorem dX2_isA_33 : decode cX2_isA 33 = .ok (.pop, 1) := dk_87 (dk_at dksX2_isA_1 11 rfl rfl)
theorem dX2_isA_34 : decode cX2_isA 34 = .ok (.goto (-25), 3) := dk_167 255 231 (dk_at dksX2_isA_1 12 rfl rfl)
theorem dX2_isA_37 : decode cX2_isA 37 = .ok (.iconst 1, 1) := dk_4 (dk_at dksX2_isA_1 15 rfl rfl)
theorem dX2_isA_38 : decode cX2_isA 38 = .ok (.ireturn, 1) := dk_172 (dk_at dksX2_isA_1 16 rfl rfl)
abbrev cX2_isB : ByteArray := prog_31_method_26_code
def yX2_isB : MethodName := ⟨RX2, "isB", "()Z"⟩
def dkwX2_isB_3 : List UInt8 := [182, 0, 206, 153, 0, 15, 42, 27, 182, 0, 184, 153, 0, 7, 4, 167, 0, 4, 3, 172]
abbrev dktX2_isB_3 : List UInt8 := dkwX2_isB_3 ++ []
def dkwX2_isB_2 : List UInt8 := [167, 0, 4, 2, 60, 27, 156, 0, 5, 4, 172, 42, 89, 180, 0, 170, 4, 96, 181, 0, 170, 42]
abbrev dktX2_isB_2 : List UInt8 := dkwX2_isB_2 ++ dktX2_isB_3
def dkwX2_isB_1 : List UInt8 := [182, 0, 173, 16, 61, 160, 0, 8, 16, 9, 167, 0, 18, 42, 182, 0, 173, 16, 62, 160, 0, 8, 16, 10]
abbrev dktX2_isB_1 : List UInt8 := dkwX2_isB_1 ++ dktX2_isB_2
def dkwX2_isB_0 : List UInt8 := [42, 182, 0, 206, 154, 0, 5, 3, 172, 42, 182, 0, 173, 16, 60, 160, 0, 8, 16, 8, 167, 0, 32, 42]
abbrev dktX2_isB_0 : List UInt8 := dkwX2_isB_0 ++ dktX2_isB_1
theorem dksX2_isB_0 : cX2_isB.data.toList.drop 0 = dktX2_isB_0 := by decide +kernel
theorem dksX2_isB_1 : cX2_isB.data.toList.drop 24 = dktX2_isB_1 := dk_seg dksX2_isB_0 24 rfl rfl
theorem dksX2_isB_2 : cX2_isB.data.toList.drop 48 = dktX2_isB_2 := dk_seg dksX2_isB_1 24 rfl rfl
theorem dksX2_isB_3 : cX2_isB.data.toList.drop 70 = dktX2_isB_3 := dk_seg dksX2_isB_2 22 rfl rfl
theorem dX2_isB_0 : decode cX2_isB 0 = .ok (.aload_n 0, 1) := dk_42 (dk_at dksX2_isB_0 0 rfl rfl)
theorem dX2_isB_1 : decode cX2_isB 1 = .ok (.invokevirtual 206, 3) := dk_182 0 206 (dk_at dksX2_isB_0 1 rfl rfl)
theorem dX2_isB_4 : decode cX2_isB 4 = .ok (.ifCond .ne 5, 3) := dk_154 0 5 (dk_at dksX2_isB_0 4 rfl rfl)
theorem dX2_isB_7 : decode cX2_isB 7 = .ok (.iconst 0, 1) := dk_3 (dk_at dksX2_isB_0 7 rfl rfl)
theorem dX2_isB_8 : decode cX2_isB 8 = .ok (.ireturn, 1) := dk_172 (dk_at dksX2_isB_0 8 rfl rfl)
theorem dX2_isB_9 : decode cX2_isB 9 = .ok (.aload_n 0, 1) := dk_42 (dk_at dksX2_isB_0 9 rfl rfl)
theorem dX2_isB_10 : decode cX2_isB 10 = .ok (.invokevirtual 173, 3) := dk_182 0 173 (dk_at dksX2_isB_0 10 rfl rfl)
theorem dX2_isB_13 : decode cX2_isB 13 = .ok (.bipush 60, 2) := dk_16 60 (dk_at dksX2_isB_0 13 rfl rfl)
theorem dX2_isB_15 : decode cX2_isB 15 = .ok (.if_icmp .ne 8, 3) := dk_160 0 8 (dk_at dksX2_isB_0 15 rfl rfl)
theorem dX2_isB_18 : decode cX2_isB 18 = .ok (.bipush 8, 2) := dk_16 8 (dk_at dksX2_isB_0 18 rfl rfl)
theorem dX2_isB_20 : decode cX2_isB 20 = .ok (.goto 32, 3) := dk_167 0 32 (dk_at dksX2_isB_0 20 rfl rfl)
theorem dX2_isB_23 : decode cX2_isB 23 = .ok (.aload_n 0, 1) := dk_42 (dk_at dksX2_isB_0 23 rfl rfl)
theorem dX2_isB_24 : decode cX2_isB 24 = .ok (.invokevirtual 173, 3) := dk_182 0 173 (dk_at dksX2_isB_1 0 rfl rfl)
theorem dX2_isB_27 : decode cX2_isB 27 = .ok (.bipush 61, 2) := dk_16 61 (dk_at dksX2_isB_1 3 rfl rfl)
theorem dX2_isB_29 : decode cX2_isB 29 = .ok (.if_icmp .ne 8, 3) := dk_160 0 8 (dk_at dksX2_isB_1 5 rfl rfl)
theorem dX2_isB_32 : decode cX2_isB 32 = .ok (.bipush 9, 2) := dk_16 9 (dk_at dksX2_isB_1 8 rfl rfl)
theorem dX2_isB_34 : decode cX2_isB 34 = .ok (.goto 18, 3) := dk_167 0 18 (dk_at dksX2_isB_1 10 rfl rfl)
theorem dX2_isB_37 : decode cX2_isB 37 = .ok (.aload_n 0, 1) := dk_42 (dk_at dksX2_isB_1 13 rfl rfl)
theorem dX2_isB_38 : decode cX2_isB 38 = .ok (.invokevirtual 173, 3) := dk_182 0 173 (dk_at dksX2_isB_1 14 rfl rfl)
theorem dX2_isB_41 : decode cX2_isB 41 = .ok (.bipush 62, 2) := dk_16 62 (dk_at dksX2_isB_1 17 rfl rfl)
theorem dX2_isB_43 : decode cX2_isB 43 = .ok (.if_icmp .ne 8, 3) := dk_160 0 8 (dk_at dksX2_isB_1 19 rfl rfl)
theorem dX2_isB_46 : decode cX2_isB 46 = .ok (.bipush 10, 2) := dk_16 10 (dk_at dksX2_isB_1 22 rfl rfl)
theorem dX2_isB_48 : decode cX2_isB 48 = .ok (.goto 4, 3) := dk_167 0 4 (dk_at dksX2_isB_2 0 rfl rfl)
theorem dX2_isB_51 : decode cX2_isB 51 = .ok (.iconst (-1), 1) := dk_2 (dk_at dksX2_isB_2 3 rfl rfl)
theorem dX2_isB_52 : decode cX2_isB 52 = .ok (.istore_n 1, 1) := dk_60 (dk_at dksX2_isB_2 4 rfl rfl)
theorem dX2_isB_53 : decode cX2_isB 53 = .ok (.iload_n 1, 1) := dk_27 (dk_at dksX2_isB_2 5 rfl rfl)
theorem dX2_isB_54 : decode cX2_isB 54 = .ok (.ifCond .ge 5, 3) := dk_156 0 5 (dk_at dksX2_isB_2 6 rfl rfl)
theorem dX2_isB_57 : decode cX2_isB 57 = .ok (.iconst 1, 1) := dk_4 (dk_at dksX2_isB_2 9 rfl rfl)
theorem dX2_isB_58 : decode cX2_isB 58 = .ok (.ireturn, 1) := dk_172 (dk_at dksX2_isB_2 10 rfl rfl)
theorem dX2_isB_59 : decode cX2_isB 59 = .ok (.aload_n 0, 1) := dk_42 (dk_at dksX2_isB_2 11 rfl rfl)
theorem dX2_isB_60 : decode cX2_isB 60 = .ok (.dup, 1) := dk_89 (dk_at dksX2_isB_2 12 rfl rfl)
theorem dX2_isB_61 : decode cX2_isB 61 = .ok (.getfield 170, 3) := dk_180 0 170 (dk_at dksX2_isB_2 13 rfl rfl)
theorem dX2_isB_64 : decode cX2_isB 64 = .ok (.iconst 1, 1) := dk_4 (dk_at dksX2_isB_2 16 rfl rfl)
theorem dX2_isB_65 : decode cX2_isB 65 = .ok (.iadd, 1) := dk_96 (dk_at dksX2_isB_2 17 rfl rfl)
theorem dX2_isB_66 : decode cX2_isB 66 = .ok (.putfield 170, 3) := dk_181 0 170 (dk_at dksX2_isB_2 18 rfl rfl)
theorem dX2_isB_69 : decode cX2_isB 69 = .ok (.aload_n 0, 1) := dk_42 (dk_at dksX2_isB_2 21 rfl rfl)
theorem dX2_isB_70 : decode cX2_isB 70 = .ok (.invokevirtual 206, 3) := dk_182 0 206 (dk_at dksX2_isB_3 0 rfl rfl)
theorem dX2_isB_73 : decode cX2_isB 73 = .ok (.ifCond .eq 15, 3) := dk_153 0 15 (dk_at dksX2_isB_3 3 rfl rfl)
theorem dX2_isB_76 : decode cX2_isB 76 = .ok (.aload_n 0, 1) := dk_42 (dk_at dksX2_isB_3 6 rfl rfl)
theorem dX2_isB_77 : decode cX2_isB 77 = .ok (.iload_n 1, 1) := dk_27 (dk_at dksX2_isB_3 7 rfl rfl)
theorem dX2_isB_78 : decode cX2_isB 78 = .ok (.invokevirtual 184, 3) := dk_182 0 184 (dk_at dksX2_isB_3 8 rfl rfl)
theorem dX2_isB_81 : decode cX2_isB 81 = .ok (.ifCond .eq 7, 3) := dk_153 0 7 (dk_at dksX2_isB_3 11 rfl rfl)
theorem dX2_isB_84 : decode cX2_isB 84 = .ok (.iconst 1, 1) := dk_4 (dk_at dksX2_isB_3 14 rfl rfl)
theorem dX2_isB_85 : decode cX2_isB 85 = .ok (.goto 4, 3) := dk_167 0 4 (dk_at dksX2_isB_3 15 rfl rfl)
theorem dX2_isB_88 : decode cX2_isB 88 = .ok (.iconst 0, 1) := dk_3 (dk_at dksX2_isB_3 18 rfl rfl)
theorem dX2_isB_89 : decode cX2_isB 89 = .ok (.ireturn, 1) := dk_172 (dk_at dksX2_isB_3 19 rfl rfl)
abbrev cX2_isS : ByteArray := prog_31_method_25_code
def yX2_isS : MethodName := ⟨RX2, "isS", "()Z"⟩
def dkwX2_isS_3 : List UInt8 := [167, 255, 195]
abbrev dktX2_isS_3 : List UInt8 := dkwX2_isS_3 ++ []
def dkwX2_isS_2 : List UInt8 := [180, 0, 170, 4, 96, 181, 0, 170, 42, 182, 0, 203, 154, 0, 5, 3, 172, 42, 27, 182, 0, 184, 87]
abbrev dktX2_isS_2 : List UInt8 := dkwX2_isS_2 ++ dktX2_isS_3
def dkwX2_isS_1 : List UInt8 := [182, 0, 173, 16, 45, 160, 0, 8, 16, 12, 167, 0, 4, 2, 60, 27, 156, 0, 5, 4, 172, 42, 89]
abbrev dktX2_isS_1 : List UInt8 := dkwX2_isS_1 ++ dktX2_isS_2
def dkwX2_isS_0 : List UInt8 := [42, 182, 0, 203, 154, 0, 5, 3, 172, 42, 182, 0, 173, 16, 43, 160, 0, 8, 16, 11, 167, 0, 18, 42]
abbrev dktX2_isS_0 : List UInt8 := dkwX2_isS_0 ++ dktX2_isS_1
theorem dksX2_isS_0 : cX2_isS.data.toList.drop 0 = dktX2_isS_0 := by decide +kernel
theorem dksX2_isS_1 : cX2_isS.data.toList.drop 24 = dktX2_isS_1 := dk_seg dksX2_isS_0 24 rfl rfl
theorem dksX2_isS_2 : cX2_isS.data.toList.drop 47 = dktX2_isS_2 := dk_seg dksX2_isS_1 23 rfl rfl
theorem dksX2_isS_3 : cX2_isS.data.toList.drop 70 = dktX2_isS_3 := dk_seg dksX2_isS_2 23 rfl rfl
theorem dX2_isS_0 : decode cX2_isS 0 = .ok (.aload_n 0, 1) := dk_42 (dk_at dksX2_isS_0 0 rfl rfl)
theorem dX2_isS_1 : decode cX2_isS 1 = .ok (.invokevirtual 203, 3) := dk_182 0 203 (dk_at dksX2_isS_0 1 rfl rfl)
theorem dX2_isS_4 : decode cX2_isS 4 = .ok (.ifCond .ne 5, 3) := dk_154 0 5 (dk_at dksX2_isS_0 4 rfl rfl)
theorem dX2_isS_7 : decode cX2_isS 7 = .ok (.iconst 0, 1) := dk_3 (dk_at dksX2_isS_0 7 rfl rfl)
theorem dX2_isS_8 : decode cX2_isS 8 = .ok (.ireturn, 1) := dk_172 (dk_at dksX2_isS_0 8 rfl rfl)
theorem dX2_isS_9 : decode cX2_isS 9 = .ok (.aload_n 0, 1) := dk_42 (dk_at dksX2_isS_0 9 rfl rfl)
theorem dX2_isS_10 : decode cX2_isS 10 = .ok (.invokevirtual 173, 3) := dk_182 0 173 (dk_at dksX2_isS_0 10 rfl rfl)
theorem dX2_isS_13 : decode cX2_isS 13 = .ok (.bipush 43, 2) := dk_16 43 (dk_at dksX2_isS_0 13 rfl rfl)
theorem dX2_isS_15 : decode cX2_isS 15 = .ok (.if_icmp .ne 8, 3) := dk_160 0 8 (dk_at dksX2_isS_0 15 rfl rfl)
theorem dX2_isS_18 : decode cX2_isS 18 = .ok (.bipush 11, 2) := dk_16 11 (dk_at dksX2_isS_0 18 rfl rfl)
theorem dX2_isS_20 : decode cX2_isS 20 = .ok (.goto 18, 3) := dk_167 0 18 (dk_at dksX2_isS_0 20 rfl rfl)
theorem dX2_isS_23 : decode cX2_isS 23 = .ok (.aload_n 0, 1) := dk_42 (dk_at dksX2_isS_0 23 rfl rfl)
theorem dX2_isS_24 : decode cX2_isS 24 = .ok (.invokevirtual 173, 3) := dk_182 0 173 (dk_at dksX2_isS_1 0 rfl rfl)
theorem dX2_isS_27 : decode cX2_isS 27 = .ok (.bipush 45, 2) := dk_16 45 (dk_at dksX2_isS_1 3 rfl rfl)
theorem dX2_isS_29 : decode cX2_isS 29 = .ok (.if_icmp .ne 8, 3) := dk_160 0 8 (dk_at dksX2_isS_1 5 rfl rfl)
theorem dX2_isS_32 : decode cX2_isS 32 = .ok (.bipush 12, 2) := dk_16 12 (dk_at dksX2_isS_1 8 rfl rfl)
theorem dX2_isS_34 : decode cX2_isS 34 = .ok (.goto 4, 3) := dk_167 0 4 (dk_at dksX2_isS_1 10 rfl rfl)
theorem dX2_isS_37 : decode cX2_isS 37 = .ok (.iconst (-1), 1) := dk_2 (dk_at dksX2_isS_1 13 rfl rfl)
theorem dX2_isS_38 : decode cX2_isS 38 = .ok (.istore_n 1, 1) := dk_60 (dk_at dksX2_isS_1 14 rfl rfl)
theorem dX2_isS_39 : decode cX2_isS 39 = .ok (.iload_n 1, 1) := dk_27 (dk_at dksX2_isS_1 15 rfl rfl)
theorem dX2_isS_40 : decode cX2_isS 40 = .ok (.ifCond .ge 5, 3) := dk_156 0 5 (dk_at dksX2_isS_1 16 rfl rfl)
theorem dX2_isS_43 : decode cX2_isS 43 = .ok (.iconst 1, 1) := dk_4 (dk_at dksX2_isS_1 19 rfl rfl)
theorem dX2_isS_44 : decode cX2_isS 44 = .ok (.ireturn, 1) := dk_172 (dk_at dksX2_isS_1 20 rfl rfl)
theorem dX2_isS_45 : decode cX2_isS 45 = .ok (.aload_n 0, 1) := dk_42 (dk_at dksX2_isS_1 21 rfl rfl)
theorem dX2_isS_46 : decode cX2_isS 46 = .ok (.dup, 1) := dk_89 (dk_at dksX2_isS_1 22 rfl rfl)
theorem dX2_isS_47 : decode cX2_isS 47 = .ok (.getfield 170, 3) := dk_180 0 170 (dk_at dksX2_isS_2 0 rfl rfl)
theorem dX2_isS_50 : decode cX2_isS 50 = .ok (.iconst 1, 1) := dk_4 (dk_at dksX2_isS_2 3 rfl rfl)
theorem dX2_isS_51 : decode cX2_isS 51 = .ok (.iadd, 1) := dk_96 (dk_at dksX2_isS_2 4 rfl rfl)
theorem dX2_isS_52 : decode cX2_isS 52 = .ok (.putfield 170, 3) := dk_181 0 170 (dk_at dksX2_isS_2 5 rfl rfl)
theorem dX2_isS_55 : decode cX2_isS 55 = .ok (.aload_n 0, 1) := dk_42 (dk_at dksX2_isS_2 8 rfl rfl)
theorem dX2_isS_56 : decode cX2_isS 56 = .ok (.invokevirtual 203, 3) := dk_182 0 203 (dk_at dksX2_isS_2 9 rfl rfl)
theorem dX2_isS_59 : decode cX2_isS 59 = .ok (.ifCond .ne 5, 3) := dk_154 0 5 (dk_at dksX2_isS_2 12 rfl rfl)
theorem dX2_isS_62 : decode cX2_isS 62 = .ok (.iconst 0, 1) := dk_3 (dk_at dksX2_isS_2 15 rfl rfl)
theorem dX2_isS_63 : decode cX2_isS 63 = .ok (.ireturn, 1) := dk_172 (dk_at dksX2_isS_2 16 rfl rfl)
theorem dX2_isS_64 : decode cX2_isS 64 = .ok (.aload_n 0, 1) := dk_42 (dk_at dksX2_isS_2 17 rfl rfl)
theorem dX2_isS_65 : decode cX2_isS 65 = .ok (.iload_n 1, 1) := dk_27 (dk_at dksX2_isS_2 18 rfl rfl)
theorem dX2_isS_66 : decode cX2_isS 66 = .ok (.invokevirtual 184, 3) := dk_182 0 184 (dk_at dksX2_isS_2 19 rfl rfl)
theorem dX2_isS_69 : decode cX2_isS 69 = .ok (.pop, 1) := dk_87 (dk_at dksX2_isS_2 22 rfl rfl)
theorem dX2_isS_70 : decode cX2_isS 70 = .ok (.goto (-61), 3) := dk_167 255 195 (dk_at dksX2_isS_3 0 rfl rfl)
abbrev cX2_isP : ByteArray := prog_31_method_24_code
def yX2_isP : MethodName := ⟨RX2, "isP", "()Z"⟩
def dkwX2_isP_3 : List UInt8 := [182, 0, 197, 154, 0, 5, 3, 172, 42, 27, 182, 0, 184, 87, 167, 255, 181]
abbrev dktX2_isP_3 : List UInt8 := dkwX2_isP_3 ++ []
def dkwX2_isP_2 : List UInt8 := [167, 0, 4, 2, 60, 27, 156, 0, 5, 4, 172, 42, 89, 180, 0, 170, 4, 96, 181, 0, 170, 42]
abbrev dktX2_isP_2 : List UInt8 := dkwX2_isP_2 ++ dktX2_isP_3
def dkwX2_isP_1 : List UInt8 := [182, 0, 173, 16, 47, 160, 0, 8, 16, 14, 167, 0, 18, 42, 182, 0, 173, 16, 37, 160, 0, 8, 16, 15]
abbrev dktX2_isP_1 : List UInt8 := dkwX2_isP_1 ++ dktX2_isP_2
def dkwX2_isP_0 : List UInt8 := [42, 182, 0, 197, 154, 0, 5, 3, 172, 42, 182, 0, 173, 16, 42, 160, 0, 8, 16, 13, 167, 0, 32, 42]
abbrev dktX2_isP_0 : List UInt8 := dkwX2_isP_0 ++ dktX2_isP_1
theorem dksX2_isP_0 : cX2_isP.data.toList.drop 0 = dktX2_isP_0 := by decide +kernel
theorem dksX2_isP_1 : cX2_isP.data.toList.drop 24 = dktX2_isP_1 := dk_seg dksX2_isP_0 24 rfl rfl
theorem dksX2_isP_2 : cX2_isP.data.toList.drop 48 = dktX2_isP_2 := dk_seg dksX2_isP_1 24 rfl rfl
theorem dksX2_isP_3 : cX2_isP.data.toList.drop 70 = dktX2_isP_3 := dk_seg dksX2_isP_2 22 rfl rfl
theorem dX2_isP_0 : decode cX2_isP 0 = .ok (.aload_n 0, 1) := dk_42 (dk_at dksX2_isP_0 0 rfl rfl)
theorem dX2_isP_1 : decode cX2_isP 1 = .ok (.invokevirtual 197, 3) := dk_182 0 197 (dk_at dksX2_isP_0 1 rfl rfl)
theorem dX2_isP_4 : decode cX2_isP 4 = .ok (.ifCond .ne 5, 3) := dk_154 0 5 (dk_at dksX2_isP_0 4 rfl rfl)
theorem dX2_isP_7 : decode cX2_isP 7 = .ok (.iconst 0, 1) := dk_3 (dk_at dksX2_isP_0 7 rfl rfl)
theorem dX2_isP_8 : decode cX2_isP 8 = .ok (.ireturn, 1) := dk_172 (dk_at dksX2_isP_0 8 rfl rfl)
theorem dX2_isP_9 : decode cX2_isP 9 = .ok (.aload_n 0, 1) := dk_42 (dk_at dksX2_isP_0 9 rfl rfl)
theorem dX2_isP_10 : decode cX2_isP 10 = .ok (.invokevirtual 173, 3) := dk_182 0 173 (dk_at dksX2_isP_0 10 rfl rfl)
theorem dX2_isP_13 : decode cX2_isP 13 = .ok (.bipush 42, 2) := dk_16 42 (dk_at dksX2_isP_0 13 rfl rfl)
theorem dX2_isP_15 : decode cX2_isP 15 = .ok (.if_icmp .ne 8, 3) := dk_160 0 8 (dk_at dksX2_isP_0 15 rfl rfl)
theorem dX2_isP_18 : decode cX2_isP 18 = .ok (.bipush 13, 2) := dk_16 13 (dk_at dksX2_isP_0 18 rfl rfl)
theorem dX2_isP_20 : decode cX2_isP 20 = .ok (.goto 32, 3) := dk_167 0 32 (dk_at dksX2_isP_0 20 rfl rfl)
theorem dX2_isP_23 : decode cX2_isP 23 = .ok (.aload_n 0, 1) := dk_42 (dk_at dksX2_isP_0 23 rfl rfl)
theorem dX2_isP_24 : decode cX2_isP 24 = .ok (.invokevirtual 173, 3) := dk_182 0 173 (dk_at dksX2_isP_1 0 rfl rfl)
theorem dX2_isP_27 : decode cX2_isP 27 = .ok (.bipush 47, 2) := dk_16 47 (dk_at dksX2_isP_1 3 rfl rfl)
theorem dX2_isP_29 : decode cX2_isP 29 = .ok (.if_icmp .ne 8, 3) := dk_160 0 8 (dk_at dksX2_isP_1 5 rfl rfl)
theorem dX2_isP_32 : decode cX2_isP 32 = .ok (.bipush 14, 2) := dk_16 14 (dk_at dksX2_isP_1 8 rfl rfl)
theorem dX2_isP_34 : decode cX2_isP 34 = .ok (.goto 18, 3) := dk_167 0 18 (dk_at dksX2_isP_1 10 rfl rfl)
theorem dX2_isP_37 : decode cX2_isP 37 = .ok (.aload_n 0, 1) := dk_42 (dk_at dksX2_isP_1 13 rfl rfl)
theorem dX2_isP_38 : decode cX2_isP 38 = .ok (.invokevirtual 173, 3) := dk_182 0 173 (dk_at dksX2_isP_1 14 rfl rfl)
theorem dX2_isP_41 : decode cX2_isP 41 = .ok (.bipush 37, 2) := dk_16 37 (dk_at dksX2_isP_1 17 rfl rfl)
theorem dX2_isP_43 : decode cX2_isP 43 = .ok (.if_icmp .ne 8, 3) := dk_160 0 8 (dk_at dksX2_isP_1 19 rfl rfl)
theorem dX2_isP_46 : decode cX2_isP 46 = .ok (.bipush 15, 2) := dk_16 15 (dk_at dksX2_isP_1 22 rfl rfl)
theorem dX2_isP_48 : decode cX2_isP 48 = .ok (.goto 4, 3) := dk_167 0 4 (dk_at dksX2_isP_2 0 rfl rfl)
theorem dX2_isP_51 : decode cX2_isP 51 = .ok (.iconst (-1), 1) := dk_2 (dk_at dksX2_isP_2 3 rfl rfl)
theorem dX2_isP_52 : decode cX2_isP 52 = .ok (.istore_n 1, 1) := dk_60 (dk_at dksX2_isP_2 4 rfl rfl)
theorem dX2_isP_53 : decode cX2_isP 53 = .ok (.iload_n 1, 1) := dk_27 (dk_at dksX2_isP_2 5 rfl rfl)
theorem dX2_isP_54 : decode cX2_isP 54 = .ok (.ifCond .ge 5, 3) := dk_156 0 5 (dk_at dksX2_isP_2 6 rfl rfl)
theorem dX2_isP_57 : decode cX2_isP 57 = .ok (.iconst 1, 1) := dk_4 (dk_at dksX2_isP_2 9 rfl rfl)
theorem dX2_isP_58 : decode cX2_isP 58 = .ok (.ireturn, 1) := dk_172 (dk_at dksX2_isP_2 10 rfl rfl)
theorem dX2_isP_59 : decode cX2_isP 59 = .ok (.aload_n 0, 1) := dk_42 (dk_at dksX2_isP_2 11 rfl rfl)
theorem dX2_isP_60 : decode cX2_isP 60 = .ok (.dup, 1) := dk_89 (dk_at dksX2_isP_2 12 rfl rfl)
theorem dX2_isP_61 : decode cX2_isP 61 = .ok (.getfield 170, 3) := dk_180 0 170 (dk_at dksX2_isP_2 13 rfl rfl)
theorem dX2_isP_64 : decode cX2_isP 64 = .ok (.iconst 1, 1) := dk_4 (dk_at dksX2_isP_2 16 rfl rfl)
theorem dX2_isP_65 : decode cX2_isP 65 = .ok (.iadd, 1) := dk_96 (dk_at dksX2_isP_2 17 rfl rfl)
theorem dX2_isP_66 : decode cX2_isP 66 = .ok (.putfield 170, 3) := dk_181 0 170 (dk_at dksX2_isP_2 18 rfl rfl)
theorem dX2_isP_69 : decode cX2_isP 69 = .ok (.aload_n 0, 1) := dk_42 (dk_at dksX2_isP_2 21 rfl rfl)
theorem dX2_isP_70 : decode cX2_isP 70 = .ok (.invokevirtual 197, 3) := dk_182 0 197 (dk_at dksX2_isP_3 0 rfl rfl)
theorem dX2_isP_73 : decode cX2_isP 73 = .ok (.ifCond .ne 5, 3) := dk_154 0 5 (dk_at dksX2_isP_3 3 rfl rfl)
theorem dX2_isP_76 : decode cX2_isP 76 = .ok (.iconst 0, 1) := dk_3 (dk_at dksX2_isP_3 6 rfl rfl)
theorem dX2_isP_77 : decode cX2_isP 77 = .ok (.ireturn, 1) := dk_172 (dk_at dksX2_isP_3 7 rfl rfl)
theorem dX2_isP_78 : decode cX2_isP 78 = .ok (.aload_n 0, 1) := dk_42 (dk_at dksX2_isP_3 8 rfl rfl)
theorem dX2_isP_79 : decode cX2_isP 79 = .ok (.iload_n 1, 1) := dk_27 (dk_at dksX2_isP_3 9 rfl rfl)
theorem dX2_isP_80 : decode cX2_isP 80 = .ok (.invokevirtual 184, 3) := dk_182 0 184 (dk_at dksX2_isP_3 10 rfl rfl)
theorem dX2_isP_83 : decode cX2_isP 83 = .ok (.pop, 1) := dk_87 (dk_at dksX2_isP_3 13 rfl rfl)
theorem dX2_isP_84 : decode cX2_isP 84 = .ok (.goto (-75), 3) := dk_167 255 181 (dk_at dksX2_isP_3 14 rfl rfl)
abbrev cX2_isO : ByteArray := prog_31_method_23_code
def yX2_isO : MethodName := ⟨RX2, "isO", "()Z"⟩
def dkwX2_isO_9 : List UInt8 := [61, 42, 89, 180, 0, 191, 4, 100, 181, 0, 191, 28, 172]
abbrev dktX2_isO_9 : List UInt8 := dkwX2_isO_9 ++ []
def dkwX2_isO_8 : List UInt8 := [153, 0, 23, 42, 182, 0, 200, 153, 0, 16, 42, 16, 41, 182, 0, 194, 153, 0, 7, 4, 167, 0, 4, 3]
abbrev dktX2_isO_8 : List UInt8 := dkwX2_isO_8 ++ dktX2_isO_9
def dkwX2_isO_7 : List UInt8 := [42, 16, 17, 182, 0, 184, 153, 0, 7, 4, 167, 0, 4, 3, 61, 167, 0, 34, 42, 16, 40, 182, 0, 194]
abbrev dktX2_isO_7 : List UInt8 := dkwX2_isO_7 ++ dktX2_isO_8
def dkwX2_isO_6 : List UInt8 := [167, 0, 4, 3, 61, 167, 0, 68, 42, 16, 45, 182, 0, 194, 153, 0, 28, 42, 182, 0, 197, 153, 0, 16]
abbrev dktX2_isO_6 : List UInt8 := dkwX2_isO_6 ++ dktX2_isO_7
def dkwX2_isO_5 : List UInt8 := [182, 0, 194, 153, 0, 28, 42, 182, 0, 197, 153, 0, 16, 42, 16, 16, 182, 0, 184, 153, 0, 7, 4]
abbrev dktX2_isO_5 : List UInt8 := dkwX2_isO_5 ++ dktX2_isO_6
def dkwX2_isO_4 : List UInt8 := [42, 180, 0, 191, 16, 6, 160, 0, 5, 3, 172, 42, 89, 180, 0, 191, 4, 96, 181, 0, 191, 42, 16, 33]
abbrev dktX2_isO_4 : List UInt8 := dkwX2_isO_4 ++ dktX2_isO_5
def dkwX2_isO_3 : List UInt8 := [184, 0, 187, 60, 27, 155, 0, 19, 42, 89, 180, 0, 170, 4, 96, 181, 0, 170, 42, 27, 182, 0, 184, 172]
abbrev dktX2_isO_3 : List UInt8 := dkwX2_isO_3 ++ dktX2_isO_4
def dkwX2_isO_2 : List UInt8 := [96, 181, 0, 170, 132, 2, 1, 167, 255, 213, 42, 16, 18, 27, 96, 182, 0, 184, 172, 42, 182, 0, 173]
abbrev dktX2_isO_2 : List UInt8 := dkwX2_isO_2 ++ dktX2_isO_3
def dkwX2_isO_1 : List UInt8 := [16, 10, 27, 104, 42, 180, 0, 39, 42, 180, 0, 170, 46, 96, 16, 48, 100, 60, 42, 89, 180, 0, 170, 4]
abbrev dktX2_isO_1 : List UInt8 := dkwX2_isO_1 ++ dktX2_isO_2
def dkwX2_isO_0 : List UInt8 := [42, 182, 0, 180, 153, 0, 62, 3, 60, 3, 61, 28, 7, 162, 0, 44, 42, 182, 0, 180, 153, 0, 37]
abbrev dktX2_isO_0 : List UInt8 := dkwX2_isO_0 ++ dktX2_isO_1
theorem dksX2_isO_0 : cX2_isO.data.toList.drop 0 = dktX2_isO_0 := by decide +kernel
theorem dksX2_isO_1 : cX2_isO.data.toList.drop 23 = dktX2_isO_1 := dk_seg dksX2_isO_0 23 rfl rfl
theorem dksX2_isO_2 : cX2_isO.data.toList.drop 47 = dktX2_isO_2 := dk_seg dksX2_isO_1 24 rfl rfl
theorem dksX2_isO_3 : cX2_isO.data.toList.drop 70 = dktX2_isO_3 := dk_seg dksX2_isO_2 23 rfl rfl
theorem dksX2_isO_4 : cX2_isO.data.toList.drop 94 = dktX2_isO_4 := dk_seg dksX2_isO_3 24 rfl rfl
theorem dksX2_isO_5 : cX2_isO.data.toList.drop 118 = dktX2_isO_5 := dk_seg dksX2_isO_4 24 rfl rfl
theorem dksX2_isO_6 : cX2_isO.data.toList.drop 141 = dktX2_isO_6 := dk_seg dksX2_isO_5 23 rfl rfl
theorem dksX2_isO_7 : cX2_isO.data.toList.drop 165 = dktX2_isO_7 := dk_seg dksX2_isO_6 24 rfl rfl
theorem dksX2_isO_8 : cX2_isO.data.toList.drop 189 = dktX2_isO_8 := dk_seg dksX2_isO_7 24 rfl rfl
theorem dksX2_isO_9 : cX2_isO.data.toList.drop 213 = dktX2_isO_9 := dk_seg dksX2_isO_8 24 rfl rfl
theorem dX2_isO_0 : decode cX2_isO 0 = .ok (.aload_n 0, 1) := dk_42 (dk_at dksX2_isO_0 0 rfl rfl)
theorem dX2_isO_1 : decode cX2_isO 1 = .ok (.invokevirtual 180, 3) := dk_182 0 180 (dk_at dksX2_isO_0 1 rfl rfl)
theorem dX2_isO_4 : decode cX2_isO 4 = .ok (.ifCond .eq 62, 3) := dk_153 0 62 (dk_at dksX2_isO_0 4 rfl rfl)
theorem dX2_isO_7 : decode cX2_isO 7 = .ok (.iconst 0, 1) := dk_3 (dk_at dksX2_isO_0 7 rfl rfl)
theorem dX2_isO_8 : decode cX2_isO 8 = .ok (.istore_n 1, 1) := dk_60 (dk_at dksX2_isO_0 8 rfl rfl)
theorem dX2_isO_9 : decode cX2_isO 9 = .ok (.iconst 0, 1) := dk_3 (dk_at dksX2_isO_0 9 rfl rfl)
theorem dX2_isO_10 : decode cX2_isO 10 = .ok (.istore_n 2, 1) := dk_61 (dk_at dksX2_isO_0 10 rfl rfl)
theorem dX2_isO_11 : decode cX2_isO 11 = .ok (.iload_n 2, 1) := dk_28 (dk_at dksX2_isO_0 11 rfl rfl)
theorem dX2_isO_12 : decode cX2_isO 12 = .ok (.iconst 4, 1) := dk_7 (dk_at dksX2_isO_0 12 rfl rfl)
theorem dX2_isO_13 : decode cX2_isO 13 = .ok (.if_icmp .ge 44, 3) := dk_162 0 44 (dk_at dksX2_isO_0 13 rfl rfl)
theorem dX2_isO_16 : decode cX2_isO 16 = .ok (.aload_n 0, 1) := dk_42 (dk_at dksX2_isO_0 16 rfl rfl)
theorem dX2_isO_17 : decode cX2_isO 17 = .ok (.invokevirtual 180, 3) := dk_182 0 180 (dk_at dksX2_isO_0 17 rfl rfl)
theorem dX2_isO_20 : decode cX2_isO 20 = .ok (.ifCond .eq 37, 3) := dk_153 0 37 (dk_at dksX2_isO_0 20 rfl rfl)
theorem dX2_isO_23 : decode cX2_isO 23 = .ok (.bipush 10, 2) := dk_16 10 (dk_at dksX2_isO_1 0 rfl rfl)
theorem dX2_isO_25 : decode cX2_isO 25 = .ok (.iload_n 1, 1) := dk_27 (dk_at dksX2_isO_1 2 rfl rfl)
theorem dX2_isO_26 : decode cX2_isO 26 = .ok (.imul, 1) := dk_104 (dk_at dksX2_isO_1 3 rfl rfl)
theorem dX2_isO_27 : decode cX2_isO 27 = .ok (.aload_n 0, 1) := dk_42 (dk_at dksX2_isO_1 4 rfl rfl)
theorem dX2_isO_28 : decode cX2_isO 28 = .ok (.getfield 39, 3) := dk_180 0 39 (dk_at dksX2_isO_1 5 rfl rfl)
theorem dX2_isO_31 : decode cX2_isO 31 = .ok (.aload_n 0, 1) := dk_42 (dk_at dksX2_isO_1 8 rfl rfl)
theorem dX2_isO_32 : decode cX2_isO 32 = .ok (.getfield 170, 3) := dk_180 0 170 (dk_at dksX2_isO_1 9 rfl rfl)
theorem dX2_isO_35 : decode cX2_isO 35 = .ok (.iaload, 1) := dk_46 (dk_at dksX2_isO_1 12 rfl rfl)
theorem dX2_isO_36 : decode cX2_isO 36 = .ok (.iadd, 1) := dk_96 (dk_at dksX2_isO_1 13 rfl rfl)
theorem dX2_isO_37 : decode cX2_isO 37 = .ok (.bipush 48, 2) := dk_16 48 (dk_at dksX2_isO_1 14 rfl rfl)
theorem dX2_isO_39 : decode cX2_isO 39 = .ok (.isub, 1) := dk_100 (dk_at dksX2_isO_1 16 rfl rfl)
theorem dX2_isO_40 : decode cX2_isO 40 = .ok (.istore_n 1, 1) := dk_60 (dk_at dksX2_isO_1 17 rfl rfl)
theorem dX2_isO_41 : decode cX2_isO 41 = .ok (.aload_n 0, 1) := dk_42 (dk_at dksX2_isO_1 18 rfl rfl)
theorem dX2_isO_42 : decode cX2_isO 42 = .ok (.dup, 1) := dk_89 (dk_at dksX2_isO_1 19 rfl rfl)
theorem dX2_isO_43 : decode cX2_isO 43 = .ok (.getfield 170, 3) := dk_180 0 170 (dk_at dksX2_isO_1 20 rfl rfl)
theorem dX2_isO_46 : decode cX2_isO 46 = .ok (.iconst 1, 1) := dk_4 (dk_at dksX2_isO_1 23 rfl rfl)
theorem dX2_isO_47 : decode cX2_isO 47 = .ok (.iadd, 1) := dk_96 (dk_at dksX2_isO_2 0 rfl rfl)
theorem dX2_isO_48 : decode cX2_isO 48 = .ok (.putfield 170, 3) := dk_181 0 170 (dk_at dksX2_isO_2 1 rfl rfl)
theorem dX2_isO_51 : decode cX2_isO 51 = .ok (.iinc 2 1, 3) := dk_132 2 1 (dk_at dksX2_isO_2 4 rfl rfl)
theorem dX2_isO_54 : decode cX2_isO 54 = .ok (.goto (-43), 3) := dk_167 255 213 (dk_at dksX2_isO_2 7 rfl rfl)
theorem dX2_isO_57 : decode cX2_isO 57 = .ok (.aload_n 0, 1) := dk_42 (dk_at dksX2_isO_2 10 rfl rfl)
theorem dX2_isO_58 : decode cX2_isO 58 = .ok (.bipush 18, 2) := dk_16 18 (dk_at dksX2_isO_2 11 rfl rfl)
theorem dX2_isO_60 : decode cX2_isO 60 = .ok (.iload_n 1, 1) := dk_27 (dk_at dksX2_isO_2 13 rfl rfl)
theorem dX2_isO_61 : decode cX2_isO 61 = .ok (.iadd, 1) := dk_96 (dk_at dksX2_isO_2 14 rfl rfl)
theorem dX2_isO_62 : decode cX2_isO 62 = .ok (.invokevirtual 184, 3) := dk_182 0 184 (dk_at dksX2_isO_2 15 rfl rfl)
theorem dX2_isO_65 : decode cX2_isO 65 = .ok (.ireturn, 1) := dk_172 (dk_at dksX2_isO_2 18 rfl rfl)
theorem dX2_isO_66 : decode cX2_isO 66 = .ok (.aload_n 0, 1) := dk_42 (dk_at dksX2_isO_2 19 rfl rfl)
theorem dX2_isO_67 : decode cX2_isO 67 = .ok (.invokevirtual 173, 3) := dk_182 0 173 (dk_at dksX2_isO_2 20 rfl rfl)
theorem dX2_isO_70 : decode cX2_isO 70 = .ok (.invokestatic 187, 3) := dk_184 0 187 (dk_at dksX2_isO_3 0 rfl rfl)
theorem dX2_isO_73 : decode cX2_isO 73 = .ok (.istore_n 1, 1) := dk_60 (dk_at dksX2_isO_3 3 rfl rfl)
theorem dX2_isO_74 : decode cX2_isO 74 = .ok (.iload_n 1, 1) := dk_27 (dk_at dksX2_isO_3 4 rfl rfl)
theorem dX2_isO_75 : decode cX2_isO 75 = .ok (.ifCond .lt 19, 3) := dk_155 0 19 (dk_at dksX2_isO_3 5 rfl rfl)
theorem dX2_isO_78 : decode cX2_isO 78 = .ok (.aload_n 0, 1) := dk_42 (dk_at dksX2_isO_3 8 rfl rfl)
theorem dX2_isO_79 : decode cX2_isO 79 = .ok (.dup, 1) := dk_89 (dk_at dksX2_isO_3 9 rfl rfl)
theorem dX2_isO_80 : decode cX2_isO 80 = .ok (.getfield 170, 3) := dk_180 0 170 (dk_at dksX2_isO_3 10 rfl rfl)
theorem dX2_isO_83 : decode cX2_isO 83 = .ok (.iconst 1, 1) := dk_4 (dk_at dksX2_isO_3 13 rfl rfl)
theorem dX2_isO_84 : decode cX2_isO 84 = .ok (.iadd, 1) := dk_96 (dk_at dksX2_isO_3 14 rfl rfl)
theorem dX2_isO_85 : decode cX2_isO 85 = .ok (.putfield 170, 3) := dk_181 0 170 (dk_at dksX2_isO_3 15 rfl rfl)
theorem dX2_isO_88 : decode cX2_isO 88 = .ok (.aload_n 0, 1) := dk_42 (dk_at dksX2_isO_3 18 rfl rfl)
theorem dX2_isO_89 : decode cX2_isO 89 = .ok (.iload_n 1, 1) := dk_27 (dk_at dksX2_isO_3 19 rfl rfl)
theorem dX2_isO_90 : decode cX2_isO 90 = .ok (.invokevirtual 184, 3) := dk_182 0 184 (dk_at dksX2_isO_3 20 rfl rfl)
theorem dX2_isO_93 : decode cX2_isO 93 = .ok (.ireturn, 1) := dk_172 (dk_at dksX2_isO_3 23 rfl rfl)
theorem dX2_isO_94 : decode cX2_isO 94 = .ok (.aload_n 0, 1) := dk_42 (dk_at dksX2_isO_4 0 rfl rfl)
theorem dX2_isO_95 : decode cX2_isO 95 = .ok (.getfield 191, 3) := dk_180 0 191 (dk_at dksX2_isO_4 1 rfl rfl)
theorem dX2_isO_98 : decode cX2_isO 98 = .ok (.bipush 6, 2) := dk_16 6 (dk_at dksX2_isO_4 4 rfl rfl)
theorem dX2_isO_100 : decode cX2_isO 100 = .ok (.if_icmp .ne 5, 3) := dk_160 0 5 (dk_at dksX2_isO_4 6 rfl rfl)
theorem dX2_isO_103 : decode cX2_isO 103 = .ok (.iconst 0, 1) := dk_3 (dk_at dksX2_isO_4 9 rfl rfl)
theorem dX2_isO_104 : decode cX2_isO 104 = .ok (.ireturn, 1) := dk_172 (dk_at dksX2_isO_4 10 rfl rfl)
theorem dX2_isO_105 : decode cX2_isO 105 = .ok (.aload_n 0, 1) := dk_42 (dk_at dksX2_isO_4 11 rfl rfl)
theorem dX2_isO_106 : decode cX2_isO 106 = .ok (.dup, 1) := dk_89 (dk_at dksX2_isO_4 12 rfl rfl)
theorem dX2_isO_107 : decode cX2_isO 107 = .ok (.getfield 191, 3) := dk_180 0 191 (dk_at dksX2_isO_4 13 rfl rfl)
theorem dX2_isO_110 : decode cX2_isO 110 = .ok (.iconst 1, 1) := dk_4 (dk_at dksX2_isO_4 16 rfl rfl)
theorem dX2_isO_111 : decode cX2_isO 111 = .ok (.iadd, 1) := dk_96 (dk_at dksX2_isO_4 17 rfl rfl)
theorem dX2_isO_112 : decode cX2_isO 112 = .ok (.putfield 191, 3) := dk_181 0 191 (dk_at dksX2_isO_4 18 rfl rfl)
theorem dX2_isO_115 : decode cX2_isO 115 = .ok (.aload_n 0, 1) := dk_42 (dk_at dksX2_isO_4 21 rfl rfl)
theorem dX2_isO_116 : decode cX2_isO 116 = .ok (.bipush 33, 2) := dk_16 33 (dk_at dksX2_isO_4 22 rfl rfl)
theorem dX2_isO_118 : decode cX2_isO 118 = .ok (.invokevirtual 194, 3) := dk_182 0 194 (dk_at dksX2_isO_5 0 rfl rfl)
theorem dX2_isO_121 : decode cX2_isO 121 = .ok (.ifCond .eq 28, 3) := dk_153 0 28 (dk_at dksX2_isO_5 3 rfl rfl)
theorem dX2_isO_124 : decode cX2_isO 124 = .ok (.aload_n 0, 1) := dk_42 (dk_at dksX2_isO_5 6 rfl rfl)
theorem dX2_isO_125 : decode cX2_isO 125 = .ok (.invokevirtual 197, 3) := dk_182 0 197 (dk_at dksX2_isO_5 7 rfl rfl)
theorem dX2_isO_128 : decode cX2_isO 128 = .ok (.ifCond .eq 16, 3) := dk_153 0 16 (dk_at dksX2_isO_5 10 rfl rfl)
theorem dX2_isO_131 : decode cX2_isO 131 = .ok (.aload_n 0, 1) := dk_42 (dk_at dksX2_isO_5 13 rfl rfl)
theorem dX2_isO_132 : decode cX2_isO 132 = .ok (.bipush 16, 2) := dk_16 16 (dk_at dksX2_isO_5 14 rfl rfl)
theorem dX2_isO_134 : decode cX2_isO 134 = .ok (.invokevirtual 184, 3) := dk_182 0 184 (dk_at dksX2_isO_5 16 rfl rfl)
theorem dX2_isO_137 : decode cX2_isO 137 = .ok (.ifCond .eq 7, 3) := dk_153 0 7 (dk_at dksX2_isO_5 19 rfl rfl)
theorem dX2_isO_140 : decode cX2_isO 140 = .ok (.iconst 1, 1) := dk_4 (dk_at dksX2_isO_5 22 rfl rfl)
theorem dX2_isO_141 : decode cX2_isO 141 = .ok (.goto 4, 3) := dk_167 0 4 (dk_at dksX2_isO_6 0 rfl rfl)
theorem dX2_isO_144 : decode cX2_isO 144 = .ok (.iconst 0, 1) := dk_3 (dk_at dksX2_isO_6 3 rfl rfl)
theorem dX2_isO_145 : decode cX2_isO 145 = .ok (.istore_n 2, 1) := dk_61 (dk_at dksX2_isO_6 4 rfl rfl)
theorem dX2_isO_146 : decode cX2_isO 146 = .ok (.goto 68, 3) := dk_167 0 68 (dk_at dksX2_isO_6 5 rfl rfl)
theorem dX2_isO_149 : decode cX2_isO 149 = .ok (.aload_n 0, 1) := dk_42 (dk_at dksX2_isO_6 8 rfl rfl)
theorem dX2_isO_150 : decode cX2_isO 150 = .ok (.bipush 45, 2) := dk_16 45 (dk_at dksX2_isO_6 9 rfl rfl)
theorem dX2_isO_152 : decode cX2_isO 152 = .ok (.invokevirtual 194, 3) := dk_182 0 194 (dk_at dksX2_isO_6 11 rfl rfl)
theorem dX2_isO_155 : decode cX2_isO 155 = .ok (.ifCond .eq 28, 3) := dk_153 0 28 (dk_at dksX2_isO_6 14 rfl rfl)
theorem dX2_isO_158 : decode cX2_isO 158 = .ok (.aload_n 0, 1) := dk_42 (dk_at dksX2_isO_6 17 rfl rfl)
theorem dX2_isO_159 : decode cX2_isO 159 = .ok (.invokevirtual 197, 3) := dk_182 0 197 (dk_at dksX2_isO_6 18 rfl rfl)
theorem dX2_isO_162 : decode cX2_isO 162 = .ok (.ifCond .eq 16, 3) := dk_153 0 16 (dk_at dksX2_isO_6 21 rfl rfl)
theorem dX2_isO_165 : decode cX2_isO 165 = .ok (.aload_n 0, 1) := dk_42 (dk_at dksX2_isO_7 0 rfl rfl)
theorem dX2_isO_166 : decode cX2_isO 166 = .ok (.bipush 17, 2) := dk_16 17 (dk_at dksX2_isO_7 1 rfl rfl)
theorem dX2_isO_168 : decode cX2_isO 168 = .ok (.invokevirtual 184, 3) := dk_182 0 184 (dk_at dksX2_isO_7 3 rfl rfl)
theorem dX2_isO_171 : decode cX2_isO 171 = .ok (.ifCond .eq 7, 3) := dk_153 0 7 (dk_at dksX2_isO_7 6 rfl rfl)
theorem dX2_isO_174 : decode cX2_isO 174 = .ok (.iconst 1, 1) := dk_4 (dk_at dksX2_isO_7 9 rfl rfl)
theorem dX2_isO_175 : decode cX2_isO 175 = .ok (.goto 4, 3) := dk_167 0 4 (dk_at dksX2_isO_7 10 rfl rfl)
theorem dX2_isO_178 : decode cX2_isO 178 = .ok (.iconst 0, 1) := dk_3 (dk_at dksX2_isO_7 13 rfl rfl)
theorem dX2_isO_179 : decode cX2_isO 179 = .ok (.istore_n 2, 1) := dk_61 (dk_at dksX2_isO_7 14 rfl rfl)
theorem dX2_isO_180 : decode cX2_isO 180 = .ok (.goto 34, 3) := dk_167 0 34 (dk_at dksX2_isO_7 15 rfl rfl)
theorem dX2_isO_183 : decode cX2_isO 183 = .ok (.aload_n 0, 1) := dk_42 (dk_at dksX2_isO_7 18 rfl rfl)
theorem dX2_isO_184 : decode cX2_isO 184 = .ok (.bipush 40, 2) := dk_16 40 (dk_at dksX2_isO_7 19 rfl rfl)
theorem dX2_isO_186 : decode cX2_isO 186 = .ok (.invokevirtual 194, 3) := dk_182 0 194 (dk_at dksX2_isO_7 21 rfl rfl)
theorem dX2_isO_189 : decode cX2_isO 189 = .ok (.ifCond .eq 23, 3) := dk_153 0 23 (dk_at dksX2_isO_8 0 rfl rfl)
theorem dX2_isO_192 : decode cX2_isO 192 = .ok (.aload_n 0, 1) := dk_42 (dk_at dksX2_isO_8 3 rfl rfl)
theorem dX2_isO_193 : decode cX2_isO 193 = .ok (.invokevirtual 200, 3) := dk_182 0 200 (dk_at dksX2_isO_8 4 rfl rfl)
theorem dX2_isO_196 : decode cX2_isO 196 = .ok (.ifCond .eq 16, 3) := dk_153 0 16 (dk_at dksX2_isO_8 7 rfl rfl)
theorem dX2_isO_199 : decode cX2_isO 199 = .ok (.aload_n 0, 1) := dk_42 (dk_at dksX2_isO_8 10 rfl rfl)
theorem dX2_isO_200 : decode cX2_isO 200 = .ok (.bipush 41, 2) := dk_16 41 (dk_at dksX2_isO_8 11 rfl rfl)
theorem dX2_isO_202 : decode cX2_isO 202 = .ok (.invokevirtual 194, 3) := dk_182 0 194 (dk_at dksX2_isO_8 13 rfl rfl)
theorem dX2_isO_205 : decode cX2_isO 205 = .ok (.ifCond .eq 7, 3) := dk_153 0 7 (dk_at dksX2_isO_8 16 rfl rfl)
theorem dX2_isO_208 : decode cX2_isO 208 = .ok (.iconst 1, 1) := dk_4 (dk_at dksX2_isO_8 19 rfl rfl)
theorem dX2_isO_209 : decode cX2_isO 209 = .ok (.goto 4, 3) := dk_167 0 4 (dk_at dksX2_isO_8 20 rfl rfl)
theorem dX2_isO_212 : decode cX2_isO 212 = .ok (.iconst 0, 1) := dk_3 (dk_at dksX2_isO_8 23 rfl rfl)
theorem dX2_isO_213 : decode cX2_isO 213 = .ok (.istore_n 2, 1) := dk_61 (dk_at dksX2_isO_9 0 rfl rfl)
theorem dX2_isO_214 : decode cX2_isO 214 = .ok (.aload_n 0, 1) := dk_42 (dk_at dksX2_isO_9 1 rfl rfl)
theorem dX2_isO_215 : decode cX2_isO 215 = .ok (.dup, 1) := dk_89 (dk_at dksX2_isO_9 2 rfl rfl)
theorem dX2_isO_216 : decode cX2_isO 216 = .ok (.getfield 191, 3) := dk_180 0 191 (dk_at dksX2_isO_9 3 rfl rfl)
theorem dX2_isO_219 : decode cX2_isO 219 = .ok (.iconst 1, 1) := dk_4 (dk_at dksX2_isO_9 6 rfl rfl)
theorem dX2_isO_220 : decode cX2_isO 220 = .ok (.isub, 1) := dk_100 (dk_at dksX2_isO_9 7 rfl rfl)
theorem dX2_isO_221 : decode cX2_isO 221 = .ok (.putfield 191, 3) := dk_181 0 191 (dk_at dksX2_isO_9 8 rfl rfl)
theorem dX2_isO_224 : decode cX2_isO 224 = .ok (.iload_n 2, 1) := dk_28 (dk_at dksX2_isO_9 11 rfl rfl)
theorem dX2_isO_225 : decode cX2_isO 225 = .ok (.ireturn, 1) := dk_172 (dk_at dksX2_isO_9 12 rfl rfl)
abbrev cX2_isDigit : ByteArray := prog_31_method_21_code
def yX2_isDigit : MethodName := ⟨RX2, "isDigit", "()Z"⟩
def dkwX2_isDigit_0 : List UInt8 := [42, 182, 0, 173, 16, 48, 161, 0, 16, 42, 182, 0, 173, 16, 57, 163, 0, 7, 4, 167, 0, 4, 3, 172]
abbrev dktX2_isDigit_0 : List UInt8 := dkwX2_isDigit_0 ++ []
theorem dksX2_isDigit_0 : cX2_isDigit.data.toList.drop 0 = dktX2_isDigit_0 := by decide +kernel
theorem dX2_isDigit_0 : decode cX2_isDigit 0 = .ok (.aload_n 0, 1) := dk_42 (dk_at dksX2_isDigit_0 0 rfl rfl)
theorem dX2_isDigit_1 : decode cX2_isDigit 1 = .ok (.invokevirtual 173, 3) := dk_182 0 173 (dk_at dksX2_isDigit_0 1 rfl rfl)
theorem dX2_isDigit_4 : decode cX2_isDigit 4 = .ok (.bipush 48, 2) := dk_16 48 (dk_at dksX2_isDigit_0 4 rfl rfl)
theorem dX2_isDigit_6 : decode cX2_isDigit 6 = .ok (.if_icmp .lt 16, 3) := dk_161 0 16 (dk_at dksX2_isDigit_0 6 rfl rfl)
theorem dX2_isDigit_9 : decode cX2_isDigit 9 = .ok (.aload_n 0, 1) := dk_42 (dk_at dksX2_isDigit_0 9 rfl rfl)
theorem dX2_isDigit_10 : decode cX2_isDigit 10 = .ok (.invokevirtual 173, 3) := dk_182 0 173 (dk_at dksX2_isDigit_0 10 rfl rfl)
theorem dX2_isDigit_13 : decode cX2_isDigit 13 = .ok (.bipush 57, 2) := dk_16 57 (dk_at dksX2_isDigit_0 13 rfl rfl)
theorem dX2_isDigit_15 : decode cX2_isDigit 15 = .ok (.if_icmp .gt 7, 3) := dk_163 0 7 (dk_at dksX2_isDigit_0 15 rfl rfl)
theorem dX2_isDigit_18 : decode cX2_isDigit 18 = .ok (.iconst 1, 1) := dk_4 (dk_at dksX2_isDigit_0 18 rfl rfl)
theorem dX2_isDigit_19 : decode cX2_isDigit 19 = .ok (.goto 4, 3) := dk_167 0 4 (dk_at dksX2_isDigit_0 19 rfl rfl)
theorem dX2_isDigit_22 : decode cX2_isDigit 22 = .ok (.iconst 0, 1) := dk_3 (dk_at dksX2_isDigit_0 22 rfl rfl)
theorem dX2_isDigit_23 : decode cX2_isDigit 23 = .ok (.ireturn, 1) := dk_172 (dk_at dksX2_isDigit_0 23 rfl rfl)
abbrev cX2_sign : ByteArray := prog_31_method_18_code
def yX2_sign : MethodName := ⟨RX2, "sign", "()I"⟩
def dkwX2_sign_1 : List UInt8 := [172]
abbrev dktX2_sign_1 : List UInt8 := dkwX2_sign_1 ++ []
def dkwX2_sign_0 : List UInt8 := [42, 180, 0, 170, 42, 180, 0, 167, 162, 0, 15, 42, 180, 0, 39, 42, 180, 0, 170, 46, 167, 0, 4, 2]
abbrev dktX2_sign_0 : List UInt8 := dkwX2_sign_0 ++ dktX2_sign_1
theorem dksX2_sign_0 : cX2_sign.data.toList.drop 0 = dktX2_sign_0 := by decide +kernel
theorem dksX2_sign_1 : cX2_sign.data.toList.drop 24 = dktX2_sign_1 := dk_seg dksX2_sign_0 24 rfl rfl
theorem dX2_sign_0 : decode cX2_sign 0 = .ok (.aload_n 0, 1) := dk_42 (dk_at dksX2_sign_0 0 rfl rfl)
theorem dX2_sign_1 : decode cX2_sign 1 = .ok (.getfield 170, 3) := dk_180 0 170 (dk_at dksX2_sign_0 1 rfl rfl)
theorem dX2_sign_4 : decode cX2_sign 4 = .ok (.aload_n 0, 1) := dk_42 (dk_at dksX2_sign_0 4 rfl rfl)
theorem dX2_sign_5 : decode cX2_sign 5 = .ok (.getfield 167, 3) := dk_180 0 167 (dk_at dksX2_sign_0 5 rfl rfl)
theorem dX2_sign_8 : decode cX2_sign 8 = .ok (.if_icmp .ge 15, 3) := dk_162 0 15 (dk_at dksX2_sign_0 8 rfl rfl)
theorem dX2_sign_11 : decode cX2_sign 11 = .ok (.aload_n 0, 1) := dk_42 (dk_at dksX2_sign_0 11 rfl rfl)
theorem dX2_sign_12 : decode cX2_sign 12 = .ok (.getfield 39, 3) := dk_180 0 39 (dk_at dksX2_sign_0 12 rfl rfl)
theorem dX2_sign_15 : decode cX2_sign 15 = .ok (.aload_n 0, 1) := dk_42 (dk_at dksX2_sign_0 15 rfl rfl)
theorem dX2_sign_16 : decode cX2_sign 16 = .ok (.getfield 170, 3) := dk_180 0 170 (dk_at dksX2_sign_0 16 rfl rfl)
theorem dX2_sign_19 : decode cX2_sign 19 = .ok (.iaload, 1) := dk_46 (dk_at dksX2_sign_0 19 rfl rfl)
theorem dX2_sign_20 : decode cX2_sign 20 = .ok (.goto 4, 3) := dk_167 0 4 (dk_at dksX2_sign_0 20 rfl rfl)
theorem dX2_sign_23 : decode cX2_sign 23 = .ok (.iconst (-1), 1) := dk_2 (dk_at dksX2_sign_0 23 rfl rfl)
theorem dX2_sign_24 : decode cX2_sign 24 = .ok (.ireturn, 1) := dk_172 (dk_at dksX2_sign_1 0 rfl rfl)
abbrev cX2_codes : ByteArray := prog_31_method_20_code
def yX2_codes : MethodName := ⟨RX2, "codes", "(I)Z"⟩
def dkwX2_codes_0 : List UInt8 := [42, 180, 0, 63, 42, 89, 180, 0, 177, 90, 4, 96, 181, 0, 177, 27, 79, 4, 172]
abbrev dktX2_codes_0 : List UInt8 := dkwX2_codes_0 ++ []
theorem dksX2_codes_0 : cX2_codes.data.toList.drop 0 = dktX2_codes_0 := by decide +kernel
theorem dX2_codes_0 : decode cX2_codes 0 = .ok (.aload_n 0, 1) := dk_42 (dk_at dksX2_codes_0 0 rfl rfl)
theorem dX2_codes_1 : decode cX2_codes 1 = .ok (.getfield 63, 3) := dk_180 0 63 (dk_at dksX2_codes_0 1 rfl rfl)
theorem dX2_codes_4 : decode cX2_codes 4 = .ok (.aload_n 0, 1) := dk_42 (dk_at dksX2_codes_0 4 rfl rfl)
theorem dX2_codes_5 : decode cX2_codes 5 = .ok (.dup, 1) := dk_89 (dk_at dksX2_codes_0 5 rfl rfl)
theorem dX2_codes_6 : decode cX2_codes 6 = .ok (.getfield 177, 3) := dk_180 0 177 (dk_at dksX2_codes_0 6 rfl rfl)
theorem dX2_codes_9 : decode cX2_codes 9 = .ok (.dup_x1, 1) := dk_90 (dk_at dksX2_codes_0 9 rfl rfl)
theorem dX2_codes_10 : decode cX2_codes 10 = .ok (.iconst 1, 1) := dk_4 (dk_at dksX2_codes_0 10 rfl rfl)
theorem dX2_codes_11 : decode cX2_codes 11 = .ok (.iadd, 1) := dk_96 (dk_at dksX2_codes_0 11 rfl rfl)
theorem dX2_codes_12 : decode cX2_codes 12 = .ok (.putfield 177, 3) := dk_181 0 177 (dk_at dksX2_codes_0 12 rfl rfl)
theorem dX2_codes_15 : decode cX2_codes 15 = .ok (.iload_n 1, 1) := dk_27 (dk_at dksX2_codes_0 15 rfl rfl)
theorem dX2_codes_16 : decode cX2_codes 16 = .ok (.iastore, 1) := dk_79 (dk_at dksX2_codes_0 16 rfl rfl)
theorem dX2_codes_17 : decode cX2_codes 17 = .ok (.iconst 1, 1) := dk_4 (dk_at dksX2_codes_0 17 rfl rfl)
theorem dX2_codes_18 : decode cX2_codes 18 = .ok (.ireturn, 1) := dk_172 (dk_at dksX2_codes_0 18 rfl rfl)
abbrev cX2_nameOf : ByteArray := prog_31_method_22_code
def yX2_nameOf : MethodName := ⟨RX2, "nameOf", "(I)I"⟩
def dkwX2_nameOf_2 : List UInt8 := [3, 172, 4, 172, 5, 172, 6, 172, 7, 172, 8, 172, 2, 172]
abbrev dktX2_nameOf_2 : List UInt8 := dkwX2_nameOf_2 ++ []
def dkwX2_nameOf_1 : List UInt8 := [170, 0, 0, 0, 0, 0, 95, 0, 0, 0, 100, 0, 0, 0, 116, 0, 0, 0, 87, 0, 0, 0, 85, 0, 0, 0, 95, 0, 0, 0, 95, 0, 0, 0, 95, 0, 0, 0, 95, 0, 0, 0, 95, 0, 0, 0, 91, 0, 0, 0, 95, 0, 0, 0, 95, 0, 0, 0, 95, 0, 0, 0, 83, 0, 0, 0, 95, 0, 0, 0, 95, 0, 0, 0, 95, 0, 0, 0, 93, 0, 0, 0, 89]
abbrev dktX2_nameOf_1 : List UInt8 := dkwX2_nameOf_1 ++ dktX2_nameOf_2
def dkwX2_nameOf_0 : List UInt8 := [26]
abbrev dktX2_nameOf_0 : List UInt8 := dkwX2_nameOf_0 ++ dktX2_nameOf_1
theorem dksX2_nameOf_0 : cX2_nameOf.data.toList.drop 0 = dktX2_nameOf_0 := by decide +kernel
theorem dksX2_nameOf_1 : cX2_nameOf.data.toList.drop 1 = dktX2_nameOf_1 := dk_seg dksX2_nameOf_0 1 rfl rfl
theorem dksX2_nameOf_2 : cX2_nameOf.data.toList.drop 84 = dktX2_nameOf_2 := dk_seg dksX2_nameOf_1 83 rfl rfl
theorem dX2_nameOf_0 : decode cX2_nameOf 0 = .ok (.iload_n 0, 1) := dk_26 (dk_at dksX2_nameOf_0 0 rfl rfl)
theorem dX2_nameOf_1 : decode cX2_nameOf 1 = .ok (.tableswitch 95 100 116 #[87, 85, 95, 95, 95, 95, 95, 91, 95, 95, 95, 83, 95, 95, 95, 93, 89], 83) := by decide +kernel
theorem dX2_nameOf_84 : decode cX2_nameOf 84 = .ok (.iconst 0, 1) := dk_3 (dk_at dksX2_nameOf_2 0 rfl rfl)
theorem dX2_nameOf_85 : decode cX2_nameOf 85 = .ok (.ireturn, 1) := dk_172 (dk_at dksX2_nameOf_2 1 rfl rfl)
theorem dX2_nameOf_86 : decode cX2_nameOf 86 = .ok (.iconst 1, 1) := dk_4 (dk_at dksX2_nameOf_2 2 rfl rfl)
theorem dX2_nameOf_87 : decode cX2_nameOf 87 = .ok (.ireturn, 1) := dk_172 (dk_at dksX2_nameOf_2 3 rfl rfl)
theorem dX2_nameOf_88 : decode cX2_nameOf 88 = .ok (.iconst 2, 1) := dk_5 (dk_at dksX2_nameOf_2 4 rfl rfl)
theorem dX2_nameOf_89 : decode cX2_nameOf 89 = .ok (.ireturn, 1) := dk_172 (dk_at dksX2_nameOf_2 5 rfl rfl)
theorem dX2_nameOf_90 : decode cX2_nameOf 90 = .ok (.iconst 3, 1) := dk_6 (dk_at dksX2_nameOf_2 6 rfl rfl)
theorem dX2_nameOf_91 : decode cX2_nameOf 91 = .ok (.ireturn, 1) := dk_172 (dk_at dksX2_nameOf_2 7 rfl rfl)
theorem dX2_nameOf_92 : decode cX2_nameOf 92 = .ok (.iconst 4, 1) := dk_7 (dk_at dksX2_nameOf_2 8 rfl rfl)
theorem dX2_nameOf_93 : decode cX2_nameOf 93 = .ok (.ireturn, 1) := dk_172 (dk_at dksX2_nameOf_2 9 rfl rfl)
theorem dX2_nameOf_94 : decode cX2_nameOf 94 = .ok (.iconst 5, 1) := dk_8 (dk_at dksX2_nameOf_2 10 rfl rfl)
theorem dX2_nameOf_95 : decode cX2_nameOf 95 = .ok (.ireturn, 1) := dk_172 (dk_at dksX2_nameOf_2 11 rfl rfl)
theorem dX2_nameOf_96 : decode cX2_nameOf 96 = .ok (.iconst (-1), 1) := dk_2 (dk_at dksX2_nameOf_2 12 rfl rfl)
theorem dX2_nameOf_97 : decode cX2_nameOf 97 = .ok (.ireturn, 1) := dk_172 (dk_at dksX2_nameOf_2 13 rfl rfl)
abbrev cX2_is : ByteArray := prog_31_method_19_code
def yX2_is : MethodName := ⟨RX2, "is", "(I)Z"⟩
def dkwX2_is_0 : List UInt8 := [42, 182, 0, 173, 27, 159, 0, 5, 3, 172, 42, 89, 180, 0, 170, 4, 96, 181, 0, 170, 4, 172]
abbrev dktX2_is_0 : List UInt8 := dkwX2_is_0 ++ []
theorem dksX2_is_0 : cX2_is.data.toList.drop 0 = dktX2_is_0 := by decide +kernel
theorem dX2_is_0 : decode cX2_is 0 = .ok (.aload_n 0, 1) := dk_42 (dk_at dksX2_is_0 0 rfl rfl)
theorem dX2_is_1 : decode cX2_is 1 = .ok (.invokevirtual 173, 3) := dk_182 0 173 (dk_at dksX2_is_0 1 rfl rfl)
theorem dX2_is_4 : decode cX2_is 4 = .ok (.iload_n 1, 1) := dk_27 (dk_at dksX2_is_0 4 rfl rfl)
theorem dX2_is_5 : decode cX2_is 5 = .ok (.if_icmp .eq 5, 3) := dk_159 0 5 (dk_at dksX2_is_0 5 rfl rfl)
theorem dX2_is_8 : decode cX2_is 8 = .ok (.iconst 0, 1) := dk_3 (dk_at dksX2_is_0 8 rfl rfl)
theorem dX2_is_9 : decode cX2_is 9 = .ok (.ireturn, 1) := dk_172 (dk_at dksX2_is_0 9 rfl rfl)
theorem dX2_is_10 : decode cX2_is 10 = .ok (.aload_n 0, 1) := dk_42 (dk_at dksX2_is_0 10 rfl rfl)
theorem dX2_is_11 : decode cX2_is 11 = .ok (.dup, 1) := dk_89 (dk_at dksX2_is_0 11 rfl rfl)
theorem dX2_is_12 : decode cX2_is 12 = .ok (.getfield 170, 3) := dk_180 0 170 (dk_at dksX2_is_0 12 rfl rfl)
theorem dX2_is_15 : decode cX2_is 15 = .ok (.iconst 1, 1) := dk_4 (dk_at dksX2_is_0 15 rfl rfl)
theorem dX2_is_16 : decode cX2_is 16 = .ok (.iadd, 1) := dk_96 (dk_at dksX2_is_0 16 rfl rfl)
theorem dX2_is_17 : decode cX2_is 17 = .ok (.putfield 170, 3) := dk_181 0 170 (dk_at dksX2_is_0 17 rfl rfl)
theorem dX2_is_20 : decode cX2_is 20 = .ok (.iconst 1, 1) := dk_4 (dk_at dksX2_is_0 20 rfl rfl)
theorem dX2_is_21 : decode cX2_is 21 = .ok (.ireturn, 1) := dk_172 (dk_at dksX2_is_0 21 rfl rfl)
abbrev cX2_loses : ByteArray := prog_31_method_34_code
def yX2_loses : MethodName := ⟨RX2, "loses", "(III)I"⟩
def dkwX2_loses_2 : List UInt8 := [16, 10, 112, 28, 29, 16, 100, 108, 29, 16, 100, 112, 182, 0, 249, 172]
abbrev dktX2_loses_2 : List UInt8 := dkwX2_loses_2 ++ []
def dkwX2_loses_1 : List UInt8 := [16, 100, 108, 7, 163, 0, 12, 29, 16, 100, 112, 16, 59, 164, 0, 5, 2, 172, 42, 27, 16, 10, 108, 27]
abbrev dktX2_loses_1 : List UInt8 := dkwX2_loses_1 ++ dktX2_loses_2
def dkwX2_loses_0 : List UInt8 := [42, 27, 182, 0, 246, 153, 0, 35, 28, 3, 17, 39, 15, 184, 0, 128, 153, 0, 24, 29, 155, 0, 20, 29]
abbrev dktX2_loses_0 : List UInt8 := dkwX2_loses_0 ++ dktX2_loses_1
theorem dksX2_loses_0 : cX2_loses.data.toList.drop 0 = dktX2_loses_0 := by decide +kernel
theorem dksX2_loses_1 : cX2_loses.data.toList.drop 24 = dktX2_loses_1 := dk_seg dksX2_loses_0 24 rfl rfl
theorem dksX2_loses_2 : cX2_loses.data.toList.drop 48 = dktX2_loses_2 := dk_seg dksX2_loses_1 24 rfl rfl
theorem dX2_loses_0 : decode cX2_loses 0 = .ok (.aload_n 0, 1) := dk_42 (dk_at dksX2_loses_0 0 rfl rfl)
theorem dX2_loses_1 : decode cX2_loses 1 = .ok (.iload_n 1, 1) := dk_27 (dk_at dksX2_loses_0 1 rfl rfl)
theorem dX2_loses_2 : decode cX2_loses 2 = .ok (.invokevirtual 246, 3) := dk_182 0 246 (dk_at dksX2_loses_0 2 rfl rfl)
theorem dX2_loses_5 : decode cX2_loses 5 = .ok (.ifCond .eq 35, 3) := dk_153 0 35 (dk_at dksX2_loses_0 5 rfl rfl)
theorem dX2_loses_8 : decode cX2_loses 8 = .ok (.iload_n 2, 1) := dk_28 (dk_at dksX2_loses_0 8 rfl rfl)
theorem dX2_loses_9 : decode cX2_loses 9 = .ok (.iconst 0, 1) := dk_3 (dk_at dksX2_loses_0 9 rfl rfl)
theorem dX2_loses_10 : decode cX2_loses 10 = .ok (.sipush 9999, 3) := dk_17 39 15 (dk_at dksX2_loses_0 10 rfl rfl)
theorem dX2_loses_13 : decode cX2_loses 13 = .ok (.invokestatic 128, 3) := dk_184 0 128 (dk_at dksX2_loses_0 13 rfl rfl)
theorem dX2_loses_16 : decode cX2_loses 16 = .ok (.ifCond .eq 24, 3) := dk_153 0 24 (dk_at dksX2_loses_0 16 rfl rfl)
theorem dX2_loses_19 : decode cX2_loses 19 = .ok (.iload_n 3, 1) := dk_29 (dk_at dksX2_loses_0 19 rfl rfl)
theorem dX2_loses_20 : decode cX2_loses 20 = .ok (.ifCond .lt 20, 3) := dk_155 0 20 (dk_at dksX2_loses_0 20 rfl rfl)
theorem dX2_loses_23 : decode cX2_loses 23 = .ok (.iload_n 3, 1) := dk_29 (dk_at dksX2_loses_0 23 rfl rfl)
theorem dX2_loses_24 : decode cX2_loses 24 = .ok (.bipush 100, 2) := dk_16 100 (dk_at dksX2_loses_1 0 rfl rfl)
theorem dX2_loses_26 : decode cX2_loses 26 = .ok (.idiv, 1) := dk_108 (dk_at dksX2_loses_1 2 rfl rfl)
theorem dX2_loses_27 : decode cX2_loses 27 = .ok (.iconst 4, 1) := dk_7 (dk_at dksX2_loses_1 3 rfl rfl)
theorem dX2_loses_28 : decode cX2_loses 28 = .ok (.if_icmp .gt 12, 3) := dk_163 0 12 (dk_at dksX2_loses_1 4 rfl rfl)
theorem dX2_loses_31 : decode cX2_loses 31 = .ok (.iload_n 3, 1) := dk_29 (dk_at dksX2_loses_1 7 rfl rfl)
theorem dX2_loses_32 : decode cX2_loses 32 = .ok (.bipush 100, 2) := dk_16 100 (dk_at dksX2_loses_1 8 rfl rfl)
theorem dX2_loses_34 : decode cX2_loses 34 = .ok (.irem, 1) := dk_112 (dk_at dksX2_loses_1 10 rfl rfl)
theorem dX2_loses_35 : decode cX2_loses 35 = .ok (.bipush 59, 2) := dk_16 59 (dk_at dksX2_loses_1 11 rfl rfl)
theorem dX2_loses_37 : decode cX2_loses 37 = .ok (.if_icmp .le 5, 3) := dk_164 0 5 (dk_at dksX2_loses_1 13 rfl rfl)
theorem dX2_loses_40 : decode cX2_loses 40 = .ok (.iconst (-1), 1) := dk_2 (dk_at dksX2_loses_1 16 rfl rfl)
theorem dX2_loses_41 : decode cX2_loses 41 = .ok (.ireturn, 1) := dk_172 (dk_at dksX2_loses_1 17 rfl rfl)
theorem dX2_loses_42 : decode cX2_loses 42 = .ok (.aload_n 0, 1) := dk_42 (dk_at dksX2_loses_1 18 rfl rfl)
theorem dX2_loses_43 : decode cX2_loses 43 = .ok (.iload_n 1, 1) := dk_27 (dk_at dksX2_loses_1 19 rfl rfl)
theorem dX2_loses_44 : decode cX2_loses 44 = .ok (.bipush 10, 2) := dk_16 10 (dk_at dksX2_loses_1 20 rfl rfl)
theorem dX2_loses_46 : decode cX2_loses 46 = .ok (.idiv, 1) := dk_108 (dk_at dksX2_loses_1 22 rfl rfl)
theorem dX2_loses_47 : decode cX2_loses 47 = .ok (.iload_n 1, 1) := dk_27 (dk_at dksX2_loses_1 23 rfl rfl)
theorem dX2_loses_48 : decode cX2_loses 48 = .ok (.bipush 10, 2) := dk_16 10 (dk_at dksX2_loses_2 0 rfl rfl)
theorem dX2_loses_50 : decode cX2_loses 50 = .ok (.irem, 1) := dk_112 (dk_at dksX2_loses_2 2 rfl rfl)
theorem dX2_loses_51 : decode cX2_loses 51 = .ok (.iload_n 2, 1) := dk_28 (dk_at dksX2_loses_2 3 rfl rfl)
theorem dX2_loses_52 : decode cX2_loses 52 = .ok (.iload_n 3, 1) := dk_29 (dk_at dksX2_loses_2 4 rfl rfl)
theorem dX2_loses_53 : decode cX2_loses 53 = .ok (.bipush 100, 2) := dk_16 100 (dk_at dksX2_loses_2 5 rfl rfl)
theorem dX2_loses_55 : decode cX2_loses 55 = .ok (.idiv, 1) := dk_108 (dk_at dksX2_loses_2 7 rfl rfl)
theorem dX2_loses_56 : decode cX2_loses 56 = .ok (.iload_n 3, 1) := dk_29 (dk_at dksX2_loses_2 8 rfl rfl)
theorem dX2_loses_57 : decode cX2_loses 57 = .ok (.bipush 100, 2) := dk_16 100 (dk_at dksX2_loses_2 9 rfl rfl)
theorem dX2_loses_59 : decode cX2_loses 59 = .ok (.irem, 1) := dk_112 (dk_at dksX2_loses_2 11 rfl rfl)
theorem dX2_loses_60 : decode cX2_loses 60 = .ok (.invokevirtual 249, 3) := dk_182 0 249 (dk_at dksX2_loses_2 12 rfl rfl)
theorem dX2_loses_63 : decode cX2_loses 63 = .ok (.ireturn, 1) := dk_172 (dk_at dksX2_loses_2 15 rfl rfl)
abbrev cX2_areTwo : ByteArray := prog_31_method_4_code
def yX2_areTwo : MethodName := ⟨RX2, "areTwo", "(I)Z"⟩
def dkwX2_areTwo_1 : List UInt8 := [153, 0, 18, 27, 16, 10, 108, 27, 16, 10, 112, 159, 0, 7, 4, 167, 0, 4, 3, 172]
abbrev dktX2_areTwo_1 : List UInt8 := dkwX2_areTwo_1 ++ []
def dkwX2_areTwo_0 : List UInt8 := [27, 155, 0, 40, 42, 27, 16, 10, 108, 182, 0, 132, 153, 0, 29, 42, 27, 16, 10, 112, 182, 0, 132]
abbrev dktX2_areTwo_0 : List UInt8 := dkwX2_areTwo_0 ++ dktX2_areTwo_1
theorem dksX2_areTwo_0 : cX2_areTwo.data.toList.drop 0 = dktX2_areTwo_0 := by decide +kernel
theorem dksX2_areTwo_1 : cX2_areTwo.data.toList.drop 23 = dktX2_areTwo_1 := dk_seg dksX2_areTwo_0 23 rfl rfl
theorem dX2_areTwo_0 : decode cX2_areTwo 0 = .ok (.iload_n 1, 1) := dk_27 (dk_at dksX2_areTwo_0 0 rfl rfl)
theorem dX2_areTwo_1 : decode cX2_areTwo 1 = .ok (.ifCond .lt 40, 3) := dk_155 0 40 (dk_at dksX2_areTwo_0 1 rfl rfl)
theorem dX2_areTwo_4 : decode cX2_areTwo 4 = .ok (.aload_n 0, 1) := dk_42 (dk_at dksX2_areTwo_0 4 rfl rfl)
theorem dX2_areTwo_5 : decode cX2_areTwo 5 = .ok (.iload_n 1, 1) := dk_27 (dk_at dksX2_areTwo_0 5 rfl rfl)
theorem dX2_areTwo_6 : decode cX2_areTwo 6 = .ok (.bipush 10, 2) := dk_16 10 (dk_at dksX2_areTwo_0 6 rfl rfl)
theorem dX2_areTwo_8 : decode cX2_areTwo 8 = .ok (.idiv, 1) := dk_108 (dk_at dksX2_areTwo_0 8 rfl rfl)
theorem dX2_areTwo_9 : decode cX2_areTwo 9 = .ok (.invokevirtual 132, 3) := dk_182 0 132 (dk_at dksX2_areTwo_0 9 rfl rfl)
theorem dX2_areTwo_12 : decode cX2_areTwo 12 = .ok (.ifCond .eq 29, 3) := dk_153 0 29 (dk_at dksX2_areTwo_0 12 rfl rfl)
theorem dX2_areTwo_15 : decode cX2_areTwo 15 = .ok (.aload_n 0, 1) := dk_42 (dk_at dksX2_areTwo_0 15 rfl rfl)
theorem dX2_areTwo_16 : decode cX2_areTwo 16 = .ok (.iload_n 1, 1) := dk_27 (dk_at dksX2_areTwo_0 16 rfl rfl)
theorem dX2_areTwo_17 : decode cX2_areTwo 17 = .ok (.bipush 10, 2) := dk_16 10 (dk_at dksX2_areTwo_0 17 rfl rfl)
theorem dX2_areTwo_19 : decode cX2_areTwo 19 = .ok (.irem, 1) := dk_112 (dk_at dksX2_areTwo_0 19 rfl rfl)
theorem dX2_areTwo_20 : decode cX2_areTwo 20 = .ok (.invokevirtual 132, 3) := dk_182 0 132 (dk_at dksX2_areTwo_0 20 rfl rfl)
theorem dX2_areTwo_23 : decode cX2_areTwo 23 = .ok (.ifCond .eq 18, 3) := dk_153 0 18 (dk_at dksX2_areTwo_1 0 rfl rfl)
theorem dX2_areTwo_26 : decode cX2_areTwo 26 = .ok (.iload_n 1, 1) := dk_27 (dk_at dksX2_areTwo_1 3 rfl rfl)
theorem dX2_areTwo_27 : decode cX2_areTwo 27 = .ok (.bipush 10, 2) := dk_16 10 (dk_at dksX2_areTwo_1 4 rfl rfl)
theorem dX2_areTwo_29 : decode cX2_areTwo 29 = .ok (.idiv, 1) := dk_108 (dk_at dksX2_areTwo_1 6 rfl rfl)
theorem dX2_areTwo_30 : decode cX2_areTwo 30 = .ok (.iload_n 1, 1) := dk_27 (dk_at dksX2_areTwo_1 7 rfl rfl)
theorem dX2_areTwo_31 : decode cX2_areTwo 31 = .ok (.bipush 10, 2) := dk_16 10 (dk_at dksX2_areTwo_1 8 rfl rfl)
theorem dX2_areTwo_33 : decode cX2_areTwo 33 = .ok (.irem, 1) := dk_112 (dk_at dksX2_areTwo_1 10 rfl rfl)
theorem dX2_areTwo_34 : decode cX2_areTwo 34 = .ok (.if_icmp .eq 7, 3) := dk_159 0 7 (dk_at dksX2_areTwo_1 11 rfl rfl)
theorem dX2_areTwo_37 : decode cX2_areTwo 37 = .ok (.iconst 1, 1) := dk_4 (dk_at dksX2_areTwo_1 14 rfl rfl)
theorem dX2_areTwo_38 : decode cX2_areTwo 38 = .ok (.goto 4, 3) := dk_167 0 4 (dk_at dksX2_areTwo_1 15 rfl rfl)
theorem dX2_areTwo_41 : decode cX2_areTwo 41 = .ok (.iconst 0, 1) := dk_3 (dk_at dksX2_areTwo_1 18 rfl rfl)
theorem dX2_areTwo_42 : decode cX2_areTwo 42 = .ok (.ireturn, 1) := dk_172 (dk_at dksX2_areTwo_1 19 rfl rfl)
abbrev cX2_loss : ByteArray := prog_31_method_33_code
def yX2_loss : MethodName := ⟨RX2, "loss", "(IIIII)I"⟩
def dkwX2_loss_9 : List UInt8 := [132, 6, 1, 167, 255, 175, 3, 172]
abbrev dktX2_loss_9 : List UInt8 := dkwX2_loss_9 ++ []
def dkwX2_loss_8 : List UInt8 := [180, 0, 45, 21, 6, 46, 42, 180, 0, 48, 21, 6, 46, 182, 0, 240, 184, 0, 232, 184, 0, 243, 172]
abbrev dktX2_loss_8 : List UInt8 := dkwX2_loss_8 ++ dktX2_loss_9
def dkwX2_loss_7 : List UInt8 := [46, 42, 180, 0, 45, 21, 6, 46, 182, 0, 240, 154, 0, 6, 167, 0, 31, 3, 16, 99, 42, 42]
abbrev dktX2_loss_7 : List UInt8 := dkwX2_loss_7 ++ dktX2_loss_8
def dkwX2_loss_6 : List UInt8 := [42, 180, 0, 45, 21, 6, 46, 42, 180, 0, 42, 21, 6, 46, 164, 0, 27, 42, 42, 180, 0, 42, 21, 6]
abbrev dktX2_loss_6 : List UInt8 := dkwX2_loss_6 ++ dktX2_loss_7
def dkwX2_loss_5 : List UInt8 := [42, 180, 0, 69, 8, 42, 180, 0, 30, 4, 46, 79, 3, 54, 6, 21, 6, 42, 180, 0, 225, 162, 0, 78]
abbrev dktX2_loss_5 : List UInt8 := dkwX2_loss_5 ++ dktX2_loss_6
def dkwX2_loss_4 : List UInt8 := [180, 0, 18, 27, 46, 42, 180, 0, 18, 28, 46, 100, 184, 0, 237, 79, 42, 180, 0, 69, 7, 21, 5, 79]
abbrev dktX2_loss_4 : List UInt8 := dkwX2_loss_4 ++ dktX2_loss_5
def dkwX2_loss_3 : List UInt8 := [180, 0, 15, 27, 46, 42, 180, 0, 15, 28, 46, 100, 184, 0, 237, 96, 79, 42, 180, 0, 69, 6, 42]
abbrev dktX2_loss_3 : List UInt8 := dkwX2_loss_3 ++ dktX2_loss_4
def dkwX2_loss_2 : List UInt8 := [42, 180, 0, 69, 5, 42, 180, 0, 9, 27, 46, 42, 180, 0, 9, 28, 46, 100, 184, 0, 237, 42]
abbrev dktX2_loss_2 : List UInt8 := dkwX2_loss_2 ++ dktX2_loss_3
def dkwX2_loss_1 : List UInt8 := [167, 0, 4, 4, 104, 184, 0, 232, 172, 42, 180, 0, 69, 3, 29, 79, 42, 180, 0, 69, 4, 21, 4, 79]
abbrev dktX2_loss_1 : List UInt8 := dkwX2_loss_1 ++ dktX2_loss_2
def dkwX2_loss_0 : List UInt8 := [42, 180, 0, 221, 154, 0, 29, 16, 99, 29, 42, 180, 0, 30, 4, 46, 108, 21, 4, 5, 160, 0, 7, 5]
abbrev dktX2_loss_0 : List UInt8 := dkwX2_loss_0 ++ dktX2_loss_1
theorem dksX2_loss_0 : cX2_loss.data.toList.drop 0 = dktX2_loss_0 := by decide +kernel
theorem dksX2_loss_1 : cX2_loss.data.toList.drop 24 = dktX2_loss_1 := dk_seg dksX2_loss_0 24 rfl rfl
theorem dksX2_loss_2 : cX2_loss.data.toList.drop 48 = dktX2_loss_2 := dk_seg dksX2_loss_1 24 rfl rfl
theorem dksX2_loss_3 : cX2_loss.data.toList.drop 70 = dktX2_loss_3 := dk_seg dksX2_loss_2 22 rfl rfl
theorem dksX2_loss_4 : cX2_loss.data.toList.drop 93 = dktX2_loss_4 := dk_seg dksX2_loss_3 23 rfl rfl
theorem dksX2_loss_5 : cX2_loss.data.toList.drop 117 = dktX2_loss_5 := dk_seg dksX2_loss_4 24 rfl rfl
theorem dksX2_loss_6 : cX2_loss.data.toList.drop 141 = dktX2_loss_6 := dk_seg dksX2_loss_5 24 rfl rfl
theorem dksX2_loss_7 : cX2_loss.data.toList.drop 165 = dktX2_loss_7 := dk_seg dksX2_loss_6 24 rfl rfl
theorem dksX2_loss_8 : cX2_loss.data.toList.drop 187 = dktX2_loss_8 := dk_seg dksX2_loss_7 22 rfl rfl
theorem dksX2_loss_9 : cX2_loss.data.toList.drop 210 = dktX2_loss_9 := dk_seg dksX2_loss_8 23 rfl rfl
theorem dX2_loss_0 : decode cX2_loss 0 = .ok (.aload_n 0, 1) := dk_42 (dk_at dksX2_loss_0 0 rfl rfl)
theorem dX2_loss_1 : decode cX2_loss 1 = .ok (.getfield 221, 3) := dk_180 0 221 (dk_at dksX2_loss_0 1 rfl rfl)
theorem dX2_loss_4 : decode cX2_loss 4 = .ok (.ifCond .ne 29, 3) := dk_154 0 29 (dk_at dksX2_loss_0 4 rfl rfl)
theorem dX2_loss_7 : decode cX2_loss 7 = .ok (.bipush 99, 2) := dk_16 99 (dk_at dksX2_loss_0 7 rfl rfl)
theorem dX2_loss_9 : decode cX2_loss 9 = .ok (.iload_n 3, 1) := dk_29 (dk_at dksX2_loss_0 9 rfl rfl)
theorem dX2_loss_10 : decode cX2_loss 10 = .ok (.aload_n 0, 1) := dk_42 (dk_at dksX2_loss_0 10 rfl rfl)
theorem dX2_loss_11 : decode cX2_loss 11 = .ok (.getfield 30, 3) := dk_180 0 30 (dk_at dksX2_loss_0 11 rfl rfl)
theorem dX2_loss_14 : decode cX2_loss 14 = .ok (.iconst 1, 1) := dk_4 (dk_at dksX2_loss_0 14 rfl rfl)
theorem dX2_loss_15 : decode cX2_loss 15 = .ok (.iaload, 1) := dk_46 (dk_at dksX2_loss_0 15 rfl rfl)
theorem dX2_loss_16 : decode cX2_loss 16 = .ok (.idiv, 1) := dk_108 (dk_at dksX2_loss_0 16 rfl rfl)
theorem dX2_loss_17 : decode cX2_loss 17 = .ok (.iload 4, 2) := dk_21 4 (dk_at dksX2_loss_0 17 rfl rfl)
theorem dX2_loss_19 : decode cX2_loss 19 = .ok (.iconst 2, 1) := dk_5 (dk_at dksX2_loss_0 19 rfl rfl)
theorem dX2_loss_20 : decode cX2_loss 20 = .ok (.if_icmp .ne 7, 3) := dk_160 0 7 (dk_at dksX2_loss_0 20 rfl rfl)
theorem dX2_loss_23 : decode cX2_loss 23 = .ok (.iconst 2, 1) := dk_5 (dk_at dksX2_loss_0 23 rfl rfl)
theorem dX2_loss_24 : decode cX2_loss 24 = .ok (.goto 4, 3) := dk_167 0 4 (dk_at dksX2_loss_1 0 rfl rfl)
theorem dX2_loss_27 : decode cX2_loss 27 = .ok (.iconst 1, 1) := dk_4 (dk_at dksX2_loss_1 3 rfl rfl)
theorem dX2_loss_28 : decode cX2_loss 28 = .ok (.imul, 1) := dk_104 (dk_at dksX2_loss_1 4 rfl rfl)
theorem dX2_loss_29 : decode cX2_loss 29 = .ok (.invokestatic 232, 3) := dk_184 0 232 (dk_at dksX2_loss_1 5 rfl rfl)
theorem dX2_loss_32 : decode cX2_loss 32 = .ok (.ireturn, 1) := dk_172 (dk_at dksX2_loss_1 8 rfl rfl)
theorem dX2_loss_33 : decode cX2_loss 33 = .ok (.aload_n 0, 1) := dk_42 (dk_at dksX2_loss_1 9 rfl rfl)
theorem dX2_loss_34 : decode cX2_loss 34 = .ok (.getfield 69, 3) := dk_180 0 69 (dk_at dksX2_loss_1 10 rfl rfl)
theorem dX2_loss_37 : decode cX2_loss 37 = .ok (.iconst 0, 1) := dk_3 (dk_at dksX2_loss_1 13 rfl rfl)
theorem dX2_loss_38 : decode cX2_loss 38 = .ok (.iload_n 3, 1) := dk_29 (dk_at dksX2_loss_1 14 rfl rfl)
theorem dX2_loss_39 : decode cX2_loss 39 = .ok (.iastore, 1) := dk_79 (dk_at dksX2_loss_1 15 rfl rfl)
theorem dX2_loss_40 : decode cX2_loss 40 = .ok (.aload_n 0, 1) := dk_42 (dk_at dksX2_loss_1 16 rfl rfl)
theorem dX2_loss_41 : decode cX2_loss 41 = .ok (.getfield 69, 3) := dk_180 0 69 (dk_at dksX2_loss_1 17 rfl rfl)
theorem dX2_loss_44 : decode cX2_loss 44 = .ok (.iconst 1, 1) := dk_4 (dk_at dksX2_loss_1 20 rfl rfl)
theorem dX2_loss_45 : decode cX2_loss 45 = .ok (.iload 4, 2) := dk_21 4 (dk_at dksX2_loss_1 21 rfl rfl)
theorem dX2_loss_47 : decode cX2_loss 47 = .ok (.iastore, 1) := dk_79 (dk_at dksX2_loss_1 23 rfl rfl)
theorem dX2_loss_48 : decode cX2_loss 48 = .ok (.aload_n 0, 1) := dk_42 (dk_at dksX2_loss_2 0 rfl rfl)
theorem dX2_loss_49 : decode cX2_loss 49 = .ok (.getfield 69, 3) := dk_180 0 69 (dk_at dksX2_loss_2 1 rfl rfl)
theorem dX2_loss_52 : decode cX2_loss 52 = .ok (.iconst 2, 1) := dk_5 (dk_at dksX2_loss_2 4 rfl rfl)
theorem dX2_loss_53 : decode cX2_loss 53 = .ok (.aload_n 0, 1) := dk_42 (dk_at dksX2_loss_2 5 rfl rfl)
theorem dX2_loss_54 : decode cX2_loss 54 = .ok (.getfield 9, 3) := dk_180 0 9 (dk_at dksX2_loss_2 6 rfl rfl)
theorem dX2_loss_57 : decode cX2_loss 57 = .ok (.iload_n 1, 1) := dk_27 (dk_at dksX2_loss_2 9 rfl rfl)
theorem dX2_loss_58 : decode cX2_loss 58 = .ok (.iaload, 1) := dk_46 (dk_at dksX2_loss_2 10 rfl rfl)
theorem dX2_loss_59 : decode cX2_loss 59 = .ok (.aload_n 0, 1) := dk_42 (dk_at dksX2_loss_2 11 rfl rfl)
theorem dX2_loss_60 : decode cX2_loss 60 = .ok (.getfield 9, 3) := dk_180 0 9 (dk_at dksX2_loss_2 12 rfl rfl)
theorem dX2_loss_63 : decode cX2_loss 63 = .ok (.iload_n 2, 1) := dk_28 (dk_at dksX2_loss_2 15 rfl rfl)
theorem dX2_loss_64 : decode cX2_loss 64 = .ok (.iaload, 1) := dk_46 (dk_at dksX2_loss_2 16 rfl rfl)
theorem dX2_loss_65 : decode cX2_loss 65 = .ok (.isub, 1) := dk_100 (dk_at dksX2_loss_2 17 rfl rfl)
theorem dX2_loss_66 : decode cX2_loss 66 = .ok (.invokestatic 237, 3) := dk_184 0 237 (dk_at dksX2_loss_2 18 rfl rfl)
theorem dX2_loss_69 : decode cX2_loss 69 = .ok (.aload_n 0, 1) := dk_42 (dk_at dksX2_loss_2 21 rfl rfl)
theorem dX2_loss_70 : decode cX2_loss 70 = .ok (.getfield 15, 3) := dk_180 0 15 (dk_at dksX2_loss_3 0 rfl rfl)
theorem dX2_loss_73 : decode cX2_loss 73 = .ok (.iload_n 1, 1) := dk_27 (dk_at dksX2_loss_3 3 rfl rfl)
theorem dX2_loss_74 : decode cX2_loss 74 = .ok (.iaload, 1) := dk_46 (dk_at dksX2_loss_3 4 rfl rfl)
theorem dX2_loss_75 : decode cX2_loss 75 = .ok (.aload_n 0, 1) := dk_42 (dk_at dksX2_loss_3 5 rfl rfl)
theorem dX2_loss_76 : decode cX2_loss 76 = .ok (.getfield 15, 3) := dk_180 0 15 (dk_at dksX2_loss_3 6 rfl rfl)
theorem dX2_loss_79 : decode cX2_loss 79 = .ok (.iload_n 2, 1) := dk_28 (dk_at dksX2_loss_3 9 rfl rfl)
theorem dX2_loss_80 : decode cX2_loss 80 = .ok (.iaload, 1) := dk_46 (dk_at dksX2_loss_3 10 rfl rfl)
theorem dX2_loss_81 : decode cX2_loss 81 = .ok (.isub, 1) := dk_100 (dk_at dksX2_loss_3 11 rfl rfl)
theorem dX2_loss_82 : decode cX2_loss 82 = .ok (.invokestatic 237, 3) := dk_184 0 237 (dk_at dksX2_loss_3 12 rfl rfl)
theorem dX2_loss_85 : decode cX2_loss 85 = .ok (.iadd, 1) := dk_96 (dk_at dksX2_loss_3 15 rfl rfl)
theorem dX2_loss_86 : decode cX2_loss 86 = .ok (.iastore, 1) := dk_79 (dk_at dksX2_loss_3 16 rfl rfl)
theorem dX2_loss_87 : decode cX2_loss 87 = .ok (.aload_n 0, 1) := dk_42 (dk_at dksX2_loss_3 17 rfl rfl)
theorem dX2_loss_88 : decode cX2_loss 88 = .ok (.getfield 69, 3) := dk_180 0 69 (dk_at dksX2_loss_3 18 rfl rfl)
theorem dX2_loss_91 : decode cX2_loss 91 = .ok (.iconst 3, 1) := dk_6 (dk_at dksX2_loss_3 21 rfl rfl)
theorem dX2_loss_92 : decode cX2_loss 92 = .ok (.aload_n 0, 1) := dk_42 (dk_at dksX2_loss_3 22 rfl rfl)
theorem dX2_loss_93 : decode cX2_loss 93 = .ok (.getfield 18, 3) := dk_180 0 18 (dk_at dksX2_loss_4 0 rfl rfl)
theorem dX2_loss_96 : decode cX2_loss 96 = .ok (.iload_n 1, 1) := dk_27 (dk_at dksX2_loss_4 3 rfl rfl)
theorem dX2_loss_97 : decode cX2_loss 97 = .ok (.iaload, 1) := dk_46 (dk_at dksX2_loss_4 4 rfl rfl)
theorem dX2_loss_98 : decode cX2_loss 98 = .ok (.aload_n 0, 1) := dk_42 (dk_at dksX2_loss_4 5 rfl rfl)
theorem dX2_loss_99 : decode cX2_loss 99 = .ok (.getfield 18, 3) := dk_180 0 18 (dk_at dksX2_loss_4 6 rfl rfl)
theorem dX2_loss_102 : decode cX2_loss 102 = .ok (.iload_n 2, 1) := dk_28 (dk_at dksX2_loss_4 9 rfl rfl)
theorem dX2_loss_103 : decode cX2_loss 103 = .ok (.iaload, 1) := dk_46 (dk_at dksX2_loss_4 10 rfl rfl)
theorem dX2_loss_104 : decode cX2_loss 104 = .ok (.isub, 1) := dk_100 (dk_at dksX2_loss_4 11 rfl rfl)
theorem dX2_loss_105 : decode cX2_loss 105 = .ok (.invokestatic 237, 3) := dk_184 0 237 (dk_at dksX2_loss_4 12 rfl rfl)
theorem dX2_loss_108 : decode cX2_loss 108 = .ok (.iastore, 1) := dk_79 (dk_at dksX2_loss_4 15 rfl rfl)
theorem dX2_loss_109 : decode cX2_loss 109 = .ok (.aload_n 0, 1) := dk_42 (dk_at dksX2_loss_4 16 rfl rfl)
theorem dX2_loss_110 : decode cX2_loss 110 = .ok (.getfield 69, 3) := dk_180 0 69 (dk_at dksX2_loss_4 17 rfl rfl)
theorem dX2_loss_113 : decode cX2_loss 113 = .ok (.iconst 4, 1) := dk_7 (dk_at dksX2_loss_4 20 rfl rfl)
theorem dX2_loss_114 : decode cX2_loss 114 = .ok (.iload 5, 2) := dk_21 5 (dk_at dksX2_loss_4 21 rfl rfl)
theorem dX2_loss_116 : decode cX2_loss 116 = .ok (.iastore, 1) := dk_79 (dk_at dksX2_loss_4 23 rfl rfl)
theorem dX2_loss_117 : decode cX2_loss 117 = .ok (.aload_n 0, 1) := dk_42 (dk_at dksX2_loss_5 0 rfl rfl)
theorem dX2_loss_118 : decode cX2_loss 118 = .ok (.getfield 69, 3) := dk_180 0 69 (dk_at dksX2_loss_5 1 rfl rfl)
theorem dX2_loss_121 : decode cX2_loss 121 = .ok (.iconst 5, 1) := dk_8 (dk_at dksX2_loss_5 4 rfl rfl)
theorem dX2_loss_122 : decode cX2_loss 122 = .ok (.aload_n 0, 1) := dk_42 (dk_at dksX2_loss_5 5 rfl rfl)
theorem dX2_loss_123 : decode cX2_loss 123 = .ok (.getfield 30, 3) := dk_180 0 30 (dk_at dksX2_loss_5 6 rfl rfl)
theorem dX2_loss_126 : decode cX2_loss 126 = .ok (.iconst 1, 1) := dk_4 (dk_at dksX2_loss_5 9 rfl rfl)
theorem dX2_loss_127 : decode cX2_loss 127 = .ok (.iaload, 1) := dk_46 (dk_at dksX2_loss_5 10 rfl rfl)
theorem dX2_loss_128 : decode cX2_loss 128 = .ok (.iastore, 1) := dk_79 (dk_at dksX2_loss_5 11 rfl rfl)
theorem dX2_loss_129 : decode cX2_loss 129 = .ok (.iconst 0, 1) := dk_3 (dk_at dksX2_loss_5 12 rfl rfl)
theorem dX2_loss_130 : decode cX2_loss 130 = .ok (.istore 6, 2) := dk_54 6 (dk_at dksX2_loss_5 13 rfl rfl)
theorem dX2_loss_132 : decode cX2_loss 132 = .ok (.iload 6, 2) := dk_21 6 (dk_at dksX2_loss_5 15 rfl rfl)
theorem dX2_loss_134 : decode cX2_loss 134 = .ok (.aload_n 0, 1) := dk_42 (dk_at dksX2_loss_5 17 rfl rfl)
theorem dX2_loss_135 : decode cX2_loss 135 = .ok (.getfield 225, 3) := dk_180 0 225 (dk_at dksX2_loss_5 18 rfl rfl)
theorem dX2_loss_138 : decode cX2_loss 138 = .ok (.if_icmp .ge 78, 3) := dk_162 0 78 (dk_at dksX2_loss_5 21 rfl rfl)
theorem dX2_loss_141 : decode cX2_loss 141 = .ok (.aload_n 0, 1) := dk_42 (dk_at dksX2_loss_6 0 rfl rfl)
theorem dX2_loss_142 : decode cX2_loss 142 = .ok (.getfield 45, 3) := dk_180 0 45 (dk_at dksX2_loss_6 1 rfl rfl)
theorem dX2_loss_145 : decode cX2_loss 145 = .ok (.iload 6, 2) := dk_21 6 (dk_at dksX2_loss_6 4 rfl rfl)
theorem dX2_loss_147 : decode cX2_loss 147 = .ok (.iaload, 1) := dk_46 (dk_at dksX2_loss_6 6 rfl rfl)
theorem dX2_loss_148 : decode cX2_loss 148 = .ok (.aload_n 0, 1) := dk_42 (dk_at dksX2_loss_6 7 rfl rfl)
theorem dX2_loss_149 : decode cX2_loss 149 = .ok (.getfield 42, 3) := dk_180 0 42 (dk_at dksX2_loss_6 8 rfl rfl)
theorem dX2_loss_152 : decode cX2_loss 152 = .ok (.iload 6, 2) := dk_21 6 (dk_at dksX2_loss_6 11 rfl rfl)
theorem dX2_loss_154 : decode cX2_loss 154 = .ok (.iaload, 1) := dk_46 (dk_at dksX2_loss_6 13 rfl rfl)
theorem dX2_loss_155 : decode cX2_loss 155 = .ok (.if_icmp .le 27, 3) := dk_164 0 27 (dk_at dksX2_loss_6 14 rfl rfl)
theorem dX2_loss_158 : decode cX2_loss 158 = .ok (.aload_n 0, 1) := dk_42 (dk_at dksX2_loss_6 17 rfl rfl)
theorem dX2_loss_159 : decode cX2_loss 159 = .ok (.aload_n 0, 1) := dk_42 (dk_at dksX2_loss_6 18 rfl rfl)
theorem dX2_loss_160 : decode cX2_loss 160 = .ok (.getfield 42, 3) := dk_180 0 42 (dk_at dksX2_loss_6 19 rfl rfl)
theorem dX2_loss_163 : decode cX2_loss 163 = .ok (.iload 6, 2) := dk_21 6 (dk_at dksX2_loss_6 22 rfl rfl)
theorem dX2_loss_165 : decode cX2_loss 165 = .ok (.iaload, 1) := dk_46 (dk_at dksX2_loss_7 0 rfl rfl)
theorem dX2_loss_166 : decode cX2_loss 166 = .ok (.aload_n 0, 1) := dk_42 (dk_at dksX2_loss_7 1 rfl rfl)
theorem dX2_loss_167 : decode cX2_loss 167 = .ok (.getfield 45, 3) := dk_180 0 45 (dk_at dksX2_loss_7 2 rfl rfl)
theorem dX2_loss_170 : decode cX2_loss 170 = .ok (.iload 6, 2) := dk_21 6 (dk_at dksX2_loss_7 5 rfl rfl)
theorem dX2_loss_172 : decode cX2_loss 172 = .ok (.iaload, 1) := dk_46 (dk_at dksX2_loss_7 7 rfl rfl)
theorem dX2_loss_173 : decode cX2_loss 173 = .ok (.invokevirtual 240, 3) := dk_182 0 240 (dk_at dksX2_loss_7 8 rfl rfl)
theorem dX2_loss_176 : decode cX2_loss 176 = .ok (.ifCond .ne 6, 3) := dk_154 0 6 (dk_at dksX2_loss_7 11 rfl rfl)
theorem dX2_loss_179 : decode cX2_loss 179 = .ok (.goto 31, 3) := dk_167 0 31 (dk_at dksX2_loss_7 14 rfl rfl)
theorem dX2_loss_182 : decode cX2_loss 182 = .ok (.iconst 0, 1) := dk_3 (dk_at dksX2_loss_7 17 rfl rfl)
theorem dX2_loss_183 : decode cX2_loss 183 = .ok (.bipush 99, 2) := dk_16 99 (dk_at dksX2_loss_7 18 rfl rfl)
theorem dX2_loss_185 : decode cX2_loss 185 = .ok (.aload_n 0, 1) := dk_42 (dk_at dksX2_loss_7 20 rfl rfl)
theorem dX2_loss_186 : decode cX2_loss 186 = .ok (.aload_n 0, 1) := dk_42 (dk_at dksX2_loss_7 21 rfl rfl)
theorem dX2_loss_187 : decode cX2_loss 187 = .ok (.getfield 45, 3) := dk_180 0 45 (dk_at dksX2_loss_8 0 rfl rfl)
theorem dX2_loss_190 : decode cX2_loss 190 = .ok (.iload 6, 2) := dk_21 6 (dk_at dksX2_loss_8 3 rfl rfl)
theorem dX2_loss_192 : decode cX2_loss 192 = .ok (.iaload, 1) := dk_46 (dk_at dksX2_loss_8 5 rfl rfl)
theorem dX2_loss_193 : decode cX2_loss 193 = .ok (.aload_n 0, 1) := dk_42 (dk_at dksX2_loss_8 6 rfl rfl)
theorem dX2_loss_194 : decode cX2_loss 194 = .ok (.getfield 48, 3) := dk_180 0 48 (dk_at dksX2_loss_8 7 rfl rfl)
theorem dX2_loss_197 : decode cX2_loss 197 = .ok (.iload 6, 2) := dk_21 6 (dk_at dksX2_loss_8 10 rfl rfl)
theorem dX2_loss_199 : decode cX2_loss 199 = .ok (.iaload, 1) := dk_46 (dk_at dksX2_loss_8 12 rfl rfl)
theorem dX2_loss_200 : decode cX2_loss 200 = .ok (.invokevirtual 240, 3) := dk_182 0 240 (dk_at dksX2_loss_8 13 rfl rfl)
theorem dX2_loss_203 : decode cX2_loss 203 = .ok (.invokestatic 232, 3) := dk_184 0 232 (dk_at dksX2_loss_8 16 rfl rfl)
theorem dX2_loss_206 : decode cX2_loss 206 = .ok (.invokestatic 243, 3) := dk_184 0 243 (dk_at dksX2_loss_8 19 rfl rfl)
theorem dX2_loss_209 : decode cX2_loss 209 = .ok (.ireturn, 1) := dk_172 (dk_at dksX2_loss_8 22 rfl rfl)
theorem dX2_loss_210 : decode cX2_loss 210 = .ok (.iinc 6 1, 3) := dk_132 6 1 (dk_at dksX2_loss_9 0 rfl rfl)
theorem dX2_loss_213 : decode cX2_loss 213 = .ok (.goto (-81), 3) := dk_167 255 175 (dk_at dksX2_loss_9 3 rfl rfl)
theorem dX2_loss_216 : decode cX2_loss 216 = .ok (.iconst 0, 1) := dk_3 (dk_at dksX2_loss_9 6 rfl rfl)
theorem dX2_loss_217 : decode cX2_loss 217 = .ok (.ireturn, 1) := dk_172 (dk_at dksX2_loss_9 7 rfl rfl)
abbrev cX2_worked : ByteArray := prog_31_method_32_code
def yX2_worked : MethodName := ⟨RX2, "worked", "(II)I"⟩
def dkwX2_worked_7 : List UInt8 := [3, 46, 172]
abbrev dktX2_worked_7 : List UInt8 := dkwX2_worked_7 ++ []
def dkwX2_worked_6 : List UInt8 := [29, 4, 100, 46, 42, 180, 0, 66, 29, 46, 184, 0, 228, 79, 132, 4, 1, 167, 255, 101, 42, 180, 0, 66]
abbrev dktX2_worked_6 : List UInt8 := dkwX2_worked_6 ++ dktX2_worked_7
def dkwX2_worked_5 : List UInt8 := [167, 0, 4, 3, 79, 167, 0, 33, 132, 3, 255, 42, 180, 0, 66, 29, 4, 100, 21, 5, 42, 180, 0, 66]
abbrev dktX2_worked_5 : List UInt8 := dkwX2_worked_5 ++ dktX2_worked_6
def dkwX2_worked_4 : List UInt8 := [42, 180, 0, 66, 29, 4, 100, 46, 116, 167, 0, 19, 42, 180, 0, 66, 29, 4, 100, 46, 154, 0, 7, 4]
abbrev dktX2_worked_4 : List UInt8 := dkwX2_worked_4 ++ dktX2_worked_5
def dkwX2_worked_3 : List UInt8 := [159, 0, 10, 21, 5, 16, 17, 160, 0, 49, 42, 180, 0, 66, 29, 4, 100, 21, 5, 16, 17, 160, 0, 15]
abbrev dktX2_worked_3 : List UInt8 := dkwX2_worked_3 ++ dktX2_worked_4
def dkwX2_worked_2 : List UInt8 := [21, 5, 16, 18, 100, 167, 0, 10, 42, 180, 0, 69, 21, 5, 46, 79, 167, 0, 93, 21, 5, 16, 16]
abbrev dktX2_worked_2 : List UInt8 := dkwX2_worked_2 ++ dktX2_worked_3
def dkwX2_worked_1 : List UInt8 := [162, 0, 9, 21, 5, 8, 163, 0, 37, 42, 180, 0, 66, 29, 132, 3, 1, 21, 5, 16, 18, 161, 0, 11]
abbrev dktX2_worked_1 : List UInt8 := dkwX2_worked_1 ++ dktX2_worked_2
def dkwX2_worked_0 : List UInt8 := [3, 62, 27, 54, 4, 21, 4, 28, 162, 0, 155, 42, 180, 0, 51, 21, 4, 46, 54, 5, 21, 5, 16, 18]
abbrev dktX2_worked_0 : List UInt8 := dkwX2_worked_0 ++ dktX2_worked_1
theorem dksX2_worked_0 : cX2_worked.data.toList.drop 0 = dktX2_worked_0 := by decide +kernel
theorem dksX2_worked_1 : cX2_worked.data.toList.drop 24 = dktX2_worked_1 := dk_seg dksX2_worked_0 24 rfl rfl
theorem dksX2_worked_2 : cX2_worked.data.toList.drop 48 = dktX2_worked_2 := dk_seg dksX2_worked_1 24 rfl rfl
theorem dksX2_worked_3 : cX2_worked.data.toList.drop 71 = dktX2_worked_3 := dk_seg dksX2_worked_2 23 rfl rfl
theorem dksX2_worked_4 : cX2_worked.data.toList.drop 95 = dktX2_worked_4 := dk_seg dksX2_worked_3 24 rfl rfl
theorem dksX2_worked_5 : cX2_worked.data.toList.drop 119 = dktX2_worked_5 := dk_seg dksX2_worked_4 24 rfl rfl
theorem dksX2_worked_6 : cX2_worked.data.toList.drop 143 = dktX2_worked_6 := dk_seg dksX2_worked_5 24 rfl rfl
theorem dksX2_worked_7 : cX2_worked.data.toList.drop 167 = dktX2_worked_7 := dk_seg dksX2_worked_6 24 rfl rfl
theorem dX2_worked_0 : decode cX2_worked 0 = .ok (.iconst 0, 1) := dk_3 (dk_at dksX2_worked_0 0 rfl rfl)
theorem dX2_worked_1 : decode cX2_worked 1 = .ok (.istore_n 3, 1) := dk_62 (dk_at dksX2_worked_0 1 rfl rfl)
theorem dX2_worked_2 : decode cX2_worked 2 = .ok (.iload_n 1, 1) := dk_27 (dk_at dksX2_worked_0 2 rfl rfl)
theorem dX2_worked_3 : decode cX2_worked 3 = .ok (.istore 4, 2) := dk_54 4 (dk_at dksX2_worked_0 3 rfl rfl)
theorem dX2_worked_5 : decode cX2_worked 5 = .ok (.iload 4, 2) := dk_21 4 (dk_at dksX2_worked_0 5 rfl rfl)
theorem dX2_worked_7 : decode cX2_worked 7 = .ok (.iload_n 2, 1) := dk_28 (dk_at dksX2_worked_0 7 rfl rfl)
theorem dX2_worked_8 : decode cX2_worked 8 = .ok (.if_icmp .ge 155, 3) := dk_162 0 155 (dk_at dksX2_worked_0 8 rfl rfl)
theorem dX2_worked_11 : decode cX2_worked 11 = .ok (.aload_n 0, 1) := dk_42 (dk_at dksX2_worked_0 11 rfl rfl)
theorem dX2_worked_12 : decode cX2_worked 12 = .ok (.getfield 51, 3) := dk_180 0 51 (dk_at dksX2_worked_0 12 rfl rfl)
theorem dX2_worked_15 : decode cX2_worked 15 = .ok (.iload 4, 2) := dk_21 4 (dk_at dksX2_worked_0 15 rfl rfl)
theorem dX2_worked_17 : decode cX2_worked 17 = .ok (.iaload, 1) := dk_46 (dk_at dksX2_worked_0 17 rfl rfl)
theorem dX2_worked_18 : decode cX2_worked 18 = .ok (.istore 5, 2) := dk_54 5 (dk_at dksX2_worked_0 18 rfl rfl)
theorem dX2_worked_20 : decode cX2_worked 20 = .ok (.iload 5, 2) := dk_21 5 (dk_at dksX2_worked_0 20 rfl rfl)
theorem dX2_worked_22 : decode cX2_worked 22 = .ok (.bipush 18, 2) := dk_16 18 (dk_at dksX2_worked_0 22 rfl rfl)
theorem dX2_worked_24 : decode cX2_worked 24 = .ok (.if_icmp .ge 9, 3) := dk_162 0 9 (dk_at dksX2_worked_1 0 rfl rfl)
theorem dX2_worked_27 : decode cX2_worked 27 = .ok (.iload 5, 2) := dk_21 5 (dk_at dksX2_worked_1 3 rfl rfl)
theorem dX2_worked_29 : decode cX2_worked 29 = .ok (.iconst 5, 1) := dk_8 (dk_at dksX2_worked_1 5 rfl rfl)
theorem dX2_worked_30 : decode cX2_worked 30 = .ok (.if_icmp .gt 37, 3) := dk_163 0 37 (dk_at dksX2_worked_1 6 rfl rfl)
theorem dX2_worked_33 : decode cX2_worked 33 = .ok (.aload_n 0, 1) := dk_42 (dk_at dksX2_worked_1 9 rfl rfl)
theorem dX2_worked_34 : decode cX2_worked 34 = .ok (.getfield 66, 3) := dk_180 0 66 (dk_at dksX2_worked_1 10 rfl rfl)
theorem dX2_worked_37 : decode cX2_worked 37 = .ok (.iload_n 3, 1) := dk_29 (dk_at dksX2_worked_1 13 rfl rfl)
theorem dX2_worked_38 : decode cX2_worked 38 = .ok (.iinc 3 1, 3) := dk_132 3 1 (dk_at dksX2_worked_1 14 rfl rfl)
theorem dX2_worked_41 : decode cX2_worked 41 = .ok (.iload 5, 2) := dk_21 5 (dk_at dksX2_worked_1 17 rfl rfl)
theorem dX2_worked_43 : decode cX2_worked 43 = .ok (.bipush 18, 2) := dk_16 18 (dk_at dksX2_worked_1 19 rfl rfl)
theorem dX2_worked_45 : decode cX2_worked 45 = .ok (.if_icmp .lt 11, 3) := dk_161 0 11 (dk_at dksX2_worked_1 21 rfl rfl)
theorem dX2_worked_48 : decode cX2_worked 48 = .ok (.iload 5, 2) := dk_21 5 (dk_at dksX2_worked_2 0 rfl rfl)
theorem dX2_worked_50 : decode cX2_worked 50 = .ok (.bipush 18, 2) := dk_16 18 (dk_at dksX2_worked_2 2 rfl rfl)
theorem dX2_worked_52 : decode cX2_worked 52 = .ok (.isub, 1) := dk_100 (dk_at dksX2_worked_2 4 rfl rfl)
theorem dX2_worked_53 : decode cX2_worked 53 = .ok (.goto 10, 3) := dk_167 0 10 (dk_at dksX2_worked_2 5 rfl rfl)
theorem dX2_worked_56 : decode cX2_worked 56 = .ok (.aload_n 0, 1) := dk_42 (dk_at dksX2_worked_2 8 rfl rfl)
theorem dX2_worked_57 : decode cX2_worked 57 = .ok (.getfield 69, 3) := dk_180 0 69 (dk_at dksX2_worked_2 9 rfl rfl)
theorem dX2_worked_60 : decode cX2_worked 60 = .ok (.iload 5, 2) := dk_21 5 (dk_at dksX2_worked_2 12 rfl rfl)
theorem dX2_worked_62 : decode cX2_worked 62 = .ok (.iaload, 1) := dk_46 (dk_at dksX2_worked_2 14 rfl rfl)
theorem dX2_worked_63 : decode cX2_worked 63 = .ok (.iastore, 1) := dk_79 (dk_at dksX2_worked_2 15 rfl rfl)
theorem dX2_worked_64 : decode cX2_worked 64 = .ok (.goto 93, 3) := dk_167 0 93 (dk_at dksX2_worked_2 16 rfl rfl)
theorem dX2_worked_67 : decode cX2_worked 67 = .ok (.iload 5, 2) := dk_21 5 (dk_at dksX2_worked_2 19 rfl rfl)
theorem dX2_worked_69 : decode cX2_worked 69 = .ok (.bipush 16, 2) := dk_16 16 (dk_at dksX2_worked_2 21 rfl rfl)
theorem dX2_worked_71 : decode cX2_worked 71 = .ok (.if_icmp .eq 10, 3) := dk_159 0 10 (dk_at dksX2_worked_3 0 rfl rfl)
theorem dX2_worked_74 : decode cX2_worked 74 = .ok (.iload 5, 2) := dk_21 5 (dk_at dksX2_worked_3 3 rfl rfl)
theorem dX2_worked_76 : decode cX2_worked 76 = .ok (.bipush 17, 2) := dk_16 17 (dk_at dksX2_worked_3 5 rfl rfl)
theorem dX2_worked_78 : decode cX2_worked 78 = .ok (.if_icmp .ne 49, 3) := dk_160 0 49 (dk_at dksX2_worked_3 7 rfl rfl)
theorem dX2_worked_81 : decode cX2_worked 81 = .ok (.aload_n 0, 1) := dk_42 (dk_at dksX2_worked_3 10 rfl rfl)
theorem dX2_worked_82 : decode cX2_worked 82 = .ok (.getfield 66, 3) := dk_180 0 66 (dk_at dksX2_worked_3 11 rfl rfl)
theorem dX2_worked_85 : decode cX2_worked 85 = .ok (.iload_n 3, 1) := dk_29 (dk_at dksX2_worked_3 14 rfl rfl)
theorem dX2_worked_86 : decode cX2_worked 86 = .ok (.iconst 1, 1) := dk_4 (dk_at dksX2_worked_3 15 rfl rfl)
theorem dX2_worked_87 : decode cX2_worked 87 = .ok (.isub, 1) := dk_100 (dk_at dksX2_worked_3 16 rfl rfl)
theorem dX2_worked_88 : decode cX2_worked 88 = .ok (.iload 5, 2) := dk_21 5 (dk_at dksX2_worked_3 17 rfl rfl)
theorem dX2_worked_90 : decode cX2_worked 90 = .ok (.bipush 17, 2) := dk_16 17 (dk_at dksX2_worked_3 19 rfl rfl)
theorem dX2_worked_92 : decode cX2_worked 92 = .ok (.if_icmp .ne 15, 3) := dk_160 0 15 (dk_at dksX2_worked_3 21 rfl rfl)
theorem dX2_worked_95 : decode cX2_worked 95 = .ok (.aload_n 0, 1) := dk_42 (dk_at dksX2_worked_4 0 rfl rfl)
theorem dX2_worked_96 : decode cX2_worked 96 = .ok (.getfield 66, 3) := dk_180 0 66 (dk_at dksX2_worked_4 1 rfl rfl)
theorem dX2_worked_99 : decode cX2_worked 99 = .ok (.iload_n 3, 1) := dk_29 (dk_at dksX2_worked_4 4 rfl rfl)
theorem dX2_worked_100 : decode cX2_worked 100 = .ok (.iconst 1, 1) := dk_4 (dk_at dksX2_worked_4 5 rfl rfl)
theorem dX2_worked_101 : decode cX2_worked 101 = .ok (.isub, 1) := dk_100 (dk_at dksX2_worked_4 6 rfl rfl)
theorem dX2_worked_102 : decode cX2_worked 102 = .ok (.iaload, 1) := dk_46 (dk_at dksX2_worked_4 7 rfl rfl)
theorem dX2_worked_103 : decode cX2_worked 103 = .ok (.ineg, 1) := dk_116 (dk_at dksX2_worked_4 8 rfl rfl)
theorem dX2_worked_104 : decode cX2_worked 104 = .ok (.goto 19, 3) := dk_167 0 19 (dk_at dksX2_worked_4 9 rfl rfl)
theorem dX2_worked_107 : decode cX2_worked 107 = .ok (.aload_n 0, 1) := dk_42 (dk_at dksX2_worked_4 12 rfl rfl)
theorem dX2_worked_108 : decode cX2_worked 108 = .ok (.getfield 66, 3) := dk_180 0 66 (dk_at dksX2_worked_4 13 rfl rfl)
theorem dX2_worked_111 : decode cX2_worked 111 = .ok (.iload_n 3, 1) := dk_29 (dk_at dksX2_worked_4 16 rfl rfl)
theorem dX2_worked_112 : decode cX2_worked 112 = .ok (.iconst 1, 1) := dk_4 (dk_at dksX2_worked_4 17 rfl rfl)
theorem dX2_worked_113 : decode cX2_worked 113 = .ok (.isub, 1) := dk_100 (dk_at dksX2_worked_4 18 rfl rfl)
theorem dX2_worked_114 : decode cX2_worked 114 = .ok (.iaload, 1) := dk_46 (dk_at dksX2_worked_4 19 rfl rfl)
theorem dX2_worked_115 : decode cX2_worked 115 = .ok (.ifCond .ne 7, 3) := dk_154 0 7 (dk_at dksX2_worked_4 20 rfl rfl)
theorem dX2_worked_118 : decode cX2_worked 118 = .ok (.iconst 1, 1) := dk_4 (dk_at dksX2_worked_4 23 rfl rfl)
theorem dX2_worked_119 : decode cX2_worked 119 = .ok (.goto 4, 3) := dk_167 0 4 (dk_at dksX2_worked_5 0 rfl rfl)
theorem dX2_worked_122 : decode cX2_worked 122 = .ok (.iconst 0, 1) := dk_3 (dk_at dksX2_worked_5 3 rfl rfl)
theorem dX2_worked_123 : decode cX2_worked 123 = .ok (.iastore, 1) := dk_79 (dk_at dksX2_worked_5 4 rfl rfl)
theorem dX2_worked_124 : decode cX2_worked 124 = .ok (.goto 33, 3) := dk_167 0 33 (dk_at dksX2_worked_5 5 rfl rfl)
theorem dX2_worked_127 : decode cX2_worked 127 = .ok (.iinc 3 (-1), 3) := dk_132 3 255 (dk_at dksX2_worked_5 8 rfl rfl)
theorem dX2_worked_130 : decode cX2_worked 130 = .ok (.aload_n 0, 1) := dk_42 (dk_at dksX2_worked_5 11 rfl rfl)
theorem dX2_worked_131 : decode cX2_worked 131 = .ok (.getfield 66, 3) := dk_180 0 66 (dk_at dksX2_worked_5 12 rfl rfl)
theorem dX2_worked_134 : decode cX2_worked 134 = .ok (.iload_n 3, 1) := dk_29 (dk_at dksX2_worked_5 15 rfl rfl)
theorem dX2_worked_135 : decode cX2_worked 135 = .ok (.iconst 1, 1) := dk_4 (dk_at dksX2_worked_5 16 rfl rfl)
theorem dX2_worked_136 : decode cX2_worked 136 = .ok (.isub, 1) := dk_100 (dk_at dksX2_worked_5 17 rfl rfl)
theorem dX2_worked_137 : decode cX2_worked 137 = .ok (.iload 5, 2) := dk_21 5 (dk_at dksX2_worked_5 18 rfl rfl)
theorem dX2_worked_139 : decode cX2_worked 139 = .ok (.aload_n 0, 1) := dk_42 (dk_at dksX2_worked_5 20 rfl rfl)
theorem dX2_worked_140 : decode cX2_worked 140 = .ok (.getfield 66, 3) := dk_180 0 66 (dk_at dksX2_worked_5 21 rfl rfl)
theorem dX2_worked_143 : decode cX2_worked 143 = .ok (.iload_n 3, 1) := dk_29 (dk_at dksX2_worked_6 0 rfl rfl)
theorem dX2_worked_144 : decode cX2_worked 144 = .ok (.iconst 1, 1) := dk_4 (dk_at dksX2_worked_6 1 rfl rfl)
theorem dX2_worked_145 : decode cX2_worked 145 = .ok (.isub, 1) := dk_100 (dk_at dksX2_worked_6 2 rfl rfl)
theorem dX2_worked_146 : decode cX2_worked 146 = .ok (.iaload, 1) := dk_46 (dk_at dksX2_worked_6 3 rfl rfl)
theorem dX2_worked_147 : decode cX2_worked 147 = .ok (.aload_n 0, 1) := dk_42 (dk_at dksX2_worked_6 4 rfl rfl)
theorem dX2_worked_148 : decode cX2_worked 148 = .ok (.getfield 66, 3) := dk_180 0 66 (dk_at dksX2_worked_6 5 rfl rfl)
theorem dX2_worked_151 : decode cX2_worked 151 = .ok (.iload_n 3, 1) := dk_29 (dk_at dksX2_worked_6 8 rfl rfl)
theorem dX2_worked_152 : decode cX2_worked 152 = .ok (.iaload, 1) := dk_46 (dk_at dksX2_worked_6 9 rfl rfl)
theorem dX2_worked_153 : decode cX2_worked 153 = .ok (.invokestatic 228, 3) := dk_184 0 228 (dk_at dksX2_worked_6 10 rfl rfl)
theorem dX2_worked_156 : decode cX2_worked 156 = .ok (.iastore, 1) := dk_79 (dk_at dksX2_worked_6 13 rfl rfl)
theorem dX2_worked_157 : decode cX2_worked 157 = .ok (.iinc 4 1, 3) := dk_132 4 1 (dk_at dksX2_worked_6 14 rfl rfl)
theorem dX2_worked_160 : decode cX2_worked 160 = .ok (.goto (-155), 3) := dk_167 255 101 (dk_at dksX2_worked_6 17 rfl rfl)
theorem dX2_worked_163 : decode cX2_worked 163 = .ok (.aload_n 0, 1) := dk_42 (dk_at dksX2_worked_6 20 rfl rfl)
theorem dX2_worked_164 : decode cX2_worked 164 = .ok (.getfield 66, 3) := dk_180 0 66 (dk_at dksX2_worked_6 21 rfl rfl)
theorem dX2_worked_167 : decode cX2_worked 167 = .ok (.iconst 0, 1) := dk_3 (dk_at dksX2_worked_7 0 rfl rfl)
theorem dX2_worked_168 : decode cX2_worked 168 = .ok (.iaload, 1) := dk_46 (dk_at dksX2_worked_7 1 rfl rfl)
theorem dX2_worked_169 : decode cX2_worked 169 = .ok (.ireturn, 1) := dk_172 (dk_at dksX2_worked_7 2 rfl rfl)
abbrev cX2_both : ByteArray := prog_31_method_31_code
def yX2_both : MethodName := ⟨RX2, "both", "(III)I"⟩
def dkwX2_both_6 : List UInt8 := [27, 28, 112, 172]
abbrev dktX2_both_6 : List UInt8 := dkwX2_both_6 ++ []
def dkwX2_both_5 : List UInt8 := [27, 28, 104, 172, 28, 154, 0, 7, 3, 167, 0, 6, 27, 28, 108, 172, 28, 154, 0, 7, 3, 167, 0, 6]
abbrev dktX2_both_5 : List UInt8 := dkwX2_both_5 ++ dktX2_both_6
def dkwX2_both_4 : List UInt8 := [167, 0, 4, 3, 172, 27, 28, 164, 0, 7, 4, 167, 0, 4, 3, 172, 27, 28, 96, 172, 27, 28, 100, 172]
abbrev dktX2_both_4 : List UInt8 := dkwX2_both_4 ++ dktX2_both_5
def dkwX2_both_3 : List UInt8 := [167, 0, 4, 3, 172, 27, 28, 162, 0, 7, 4, 167, 0, 4, 3, 172, 27, 28, 160, 0, 7, 4]
abbrev dktX2_both_3 : List UInt8 := dkwX2_both_3 ++ dktX2_both_4
def dkwX2_both_2 : List UInt8 := [27, 154, 0, 7, 28, 153, 0, 7, 4, 167, 0, 4, 3, 172, 27, 153, 0, 11, 28, 153, 0, 7, 4]
abbrev dktX2_both_2 : List UInt8 := dkwX2_both_2 ++ dktX2_both_3
def dkwX2_both_1 : List UInt8 := [170, 0, 0, 0, 0, 0, 136, 0, 0, 0, 6, 0, 0, 0, 14, 0, 0, 0, 51, 0, 0, 0, 65, 0, 0, 0, 79, 0, 0, 0, 90, 0, 0, 0, 101, 0, 0, 0, 112, 0, 0, 0, 116, 0, 0, 0, 120, 0, 0, 0, 124]
abbrev dktX2_both_1 : List UInt8 := dkwX2_both_1 ++ dktX2_both_2
def dkwX2_both_0 : List UInt8 := [26]
abbrev dktX2_both_0 : List UInt8 := dkwX2_both_0 ++ dktX2_both_1
theorem dksX2_both_0 : cX2_both.data.toList.drop 0 = dktX2_both_0 := by decide +kernel
theorem dksX2_both_1 : cX2_both.data.toList.drop 1 = dktX2_both_1 := dk_seg dksX2_both_0 1 rfl rfl
theorem dksX2_both_2 : cX2_both.data.toList.drop 52 = dktX2_both_2 := dk_seg dksX2_both_1 51 rfl rfl
theorem dksX2_both_3 : cX2_both.data.toList.drop 75 = dktX2_both_3 := dk_seg dksX2_both_2 23 rfl rfl
theorem dksX2_both_4 : cX2_both.data.toList.drop 97 = dktX2_both_4 := dk_seg dksX2_both_3 22 rfl rfl
theorem dksX2_both_5 : cX2_both.data.toList.drop 121 = dktX2_both_5 := dk_seg dksX2_both_4 24 rfl rfl
theorem dksX2_both_6 : cX2_both.data.toList.drop 145 = dktX2_both_6 := dk_seg dksX2_both_5 24 rfl rfl
theorem dX2_both_0 : decode cX2_both 0 = .ok (.iload_n 0, 1) := dk_26 (dk_at dksX2_both_0 0 rfl rfl)
theorem dX2_both_1 : decode cX2_both 1 = .ok (.tableswitch 136 6 14 #[51, 65, 79, 90, 101, 112, 116, 120, 124], 51) := by decide +kernel
theorem dX2_both_52 : decode cX2_both 52 = .ok (.iload_n 1, 1) := dk_27 (dk_at dksX2_both_2 0 rfl rfl)
theorem dX2_both_53 : decode cX2_both 53 = .ok (.ifCond .ne 7, 3) := dk_154 0 7 (dk_at dksX2_both_2 1 rfl rfl)
theorem dX2_both_56 : decode cX2_both 56 = .ok (.iload_n 2, 1) := dk_28 (dk_at dksX2_both_2 4 rfl rfl)
theorem dX2_both_57 : decode cX2_both 57 = .ok (.ifCond .eq 7, 3) := dk_153 0 7 (dk_at dksX2_both_2 5 rfl rfl)
theorem dX2_both_60 : decode cX2_both 60 = .ok (.iconst 1, 1) := dk_4 (dk_at dksX2_both_2 8 rfl rfl)
theorem dX2_both_61 : decode cX2_both 61 = .ok (.goto 4, 3) := dk_167 0 4 (dk_at dksX2_both_2 9 rfl rfl)
theorem dX2_both_64 : decode cX2_both 64 = .ok (.iconst 0, 1) := dk_3 (dk_at dksX2_both_2 12 rfl rfl)
theorem dX2_both_65 : decode cX2_both 65 = .ok (.ireturn, 1) := dk_172 (dk_at dksX2_both_2 13 rfl rfl)
theorem dX2_both_66 : decode cX2_both 66 = .ok (.iload_n 1, 1) := dk_27 (dk_at dksX2_both_2 14 rfl rfl)
theorem dX2_both_67 : decode cX2_both 67 = .ok (.ifCond .eq 11, 3) := dk_153 0 11 (dk_at dksX2_both_2 15 rfl rfl)
theorem dX2_both_70 : decode cX2_both 70 = .ok (.iload_n 2, 1) := dk_28 (dk_at dksX2_both_2 18 rfl rfl)
theorem dX2_both_71 : decode cX2_both 71 = .ok (.ifCond .eq 7, 3) := dk_153 0 7 (dk_at dksX2_both_2 19 rfl rfl)
theorem dX2_both_74 : decode cX2_both 74 = .ok (.iconst 1, 1) := dk_4 (dk_at dksX2_both_2 22 rfl rfl)
theorem dX2_both_75 : decode cX2_both 75 = .ok (.goto 4, 3) := dk_167 0 4 (dk_at dksX2_both_3 0 rfl rfl)
theorem dX2_both_78 : decode cX2_both 78 = .ok (.iconst 0, 1) := dk_3 (dk_at dksX2_both_3 3 rfl rfl)
theorem dX2_both_79 : decode cX2_both 79 = .ok (.ireturn, 1) := dk_172 (dk_at dksX2_both_3 4 rfl rfl)
theorem dX2_both_80 : decode cX2_both 80 = .ok (.iload_n 1, 1) := dk_27 (dk_at dksX2_both_3 5 rfl rfl)
theorem dX2_both_81 : decode cX2_both 81 = .ok (.iload_n 2, 1) := dk_28 (dk_at dksX2_both_3 6 rfl rfl)
theorem dX2_both_82 : decode cX2_both 82 = .ok (.if_icmp .ge 7, 3) := dk_162 0 7 (dk_at dksX2_both_3 7 rfl rfl)
theorem dX2_both_85 : decode cX2_both 85 = .ok (.iconst 1, 1) := dk_4 (dk_at dksX2_both_3 10 rfl rfl)
theorem dX2_both_86 : decode cX2_both 86 = .ok (.goto 4, 3) := dk_167 0 4 (dk_at dksX2_both_3 11 rfl rfl)
theorem dX2_both_89 : decode cX2_both 89 = .ok (.iconst 0, 1) := dk_3 (dk_at dksX2_both_3 14 rfl rfl)
theorem dX2_both_90 : decode cX2_both 90 = .ok (.ireturn, 1) := dk_172 (dk_at dksX2_both_3 15 rfl rfl)
theorem dX2_both_91 : decode cX2_both 91 = .ok (.iload_n 1, 1) := dk_27 (dk_at dksX2_both_3 16 rfl rfl)
theorem dX2_both_92 : decode cX2_both 92 = .ok (.iload_n 2, 1) := dk_28 (dk_at dksX2_both_3 17 rfl rfl)
theorem dX2_both_93 : decode cX2_both 93 = .ok (.if_icmp .ne 7, 3) := dk_160 0 7 (dk_at dksX2_both_3 18 rfl rfl)
theorem dX2_both_96 : decode cX2_both 96 = .ok (.iconst 1, 1) := dk_4 (dk_at dksX2_both_3 21 rfl rfl)
theorem dX2_both_97 : decode cX2_both 97 = .ok (.goto 4, 3) := dk_167 0 4 (dk_at dksX2_both_4 0 rfl rfl)
theorem dX2_both_100 : decode cX2_both 100 = .ok (.iconst 0, 1) := dk_3 (dk_at dksX2_both_4 3 rfl rfl)
theorem dX2_both_101 : decode cX2_both 101 = .ok (.ireturn, 1) := dk_172 (dk_at dksX2_both_4 4 rfl rfl)
theorem dX2_both_102 : decode cX2_both 102 = .ok (.iload_n 1, 1) := dk_27 (dk_at dksX2_both_4 5 rfl rfl)
theorem dX2_both_103 : decode cX2_both 103 = .ok (.iload_n 2, 1) := dk_28 (dk_at dksX2_both_4 6 rfl rfl)
theorem dX2_both_104 : decode cX2_both 104 = .ok (.if_icmp .le 7, 3) := dk_164 0 7 (dk_at dksX2_both_4 7 rfl rfl)
theorem dX2_both_107 : decode cX2_both 107 = .ok (.iconst 1, 1) := dk_4 (dk_at dksX2_both_4 10 rfl rfl)
theorem dX2_both_108 : decode cX2_both 108 = .ok (.goto 4, 3) := dk_167 0 4 (dk_at dksX2_both_4 11 rfl rfl)
theorem dX2_both_111 : decode cX2_both 111 = .ok (.iconst 0, 1) := dk_3 (dk_at dksX2_both_4 14 rfl rfl)
theorem dX2_both_112 : decode cX2_both 112 = .ok (.ireturn, 1) := dk_172 (dk_at dksX2_both_4 15 rfl rfl)
theorem dX2_both_113 : decode cX2_both 113 = .ok (.iload_n 1, 1) := dk_27 (dk_at dksX2_both_4 16 rfl rfl)
theorem dX2_both_114 : decode cX2_both 114 = .ok (.iload_n 2, 1) := dk_28 (dk_at dksX2_both_4 17 rfl rfl)
theorem dX2_both_115 : decode cX2_both 115 = .ok (.iadd, 1) := dk_96 (dk_at dksX2_both_4 18 rfl rfl)
theorem dX2_both_116 : decode cX2_both 116 = .ok (.ireturn, 1) := dk_172 (dk_at dksX2_both_4 19 rfl rfl)
theorem dX2_both_117 : decode cX2_both 117 = .ok (.iload_n 1, 1) := dk_27 (dk_at dksX2_both_4 20 rfl rfl)
theorem dX2_both_118 : decode cX2_both 118 = .ok (.iload_n 2, 1) := dk_28 (dk_at dksX2_both_4 21 rfl rfl)
theorem dX2_both_119 : decode cX2_both 119 = .ok (.isub, 1) := dk_100 (dk_at dksX2_both_4 22 rfl rfl)
theorem dX2_both_120 : decode cX2_both 120 = .ok (.ireturn, 1) := dk_172 (dk_at dksX2_both_4 23 rfl rfl)
theorem dX2_both_121 : decode cX2_both 121 = .ok (.iload_n 1, 1) := dk_27 (dk_at dksX2_both_5 0 rfl rfl)
theorem dX2_both_122 : decode cX2_both 122 = .ok (.iload_n 2, 1) := dk_28 (dk_at dksX2_both_5 1 rfl rfl)
theorem dX2_both_123 : decode cX2_both 123 = .ok (.imul, 1) := dk_104 (dk_at dksX2_both_5 2 rfl rfl)
theorem dX2_both_124 : decode cX2_both 124 = .ok (.ireturn, 1) := dk_172 (dk_at dksX2_both_5 3 rfl rfl)
theorem dX2_both_125 : decode cX2_both 125 = .ok (.iload_n 2, 1) := dk_28 (dk_at dksX2_both_5 4 rfl rfl)
theorem dX2_both_126 : decode cX2_both 126 = .ok (.ifCond .ne 7, 3) := dk_154 0 7 (dk_at dksX2_both_5 5 rfl rfl)
theorem dX2_both_129 : decode cX2_both 129 = .ok (.iconst 0, 1) := dk_3 (dk_at dksX2_both_5 8 rfl rfl)
theorem dX2_both_130 : decode cX2_both 130 = .ok (.goto 6, 3) := dk_167 0 6 (dk_at dksX2_both_5 9 rfl rfl)
theorem dX2_both_133 : decode cX2_both 133 = .ok (.iload_n 1, 1) := dk_27 (dk_at dksX2_both_5 12 rfl rfl)
theorem dX2_both_134 : decode cX2_both 134 = .ok (.iload_n 2, 1) := dk_28 (dk_at dksX2_both_5 13 rfl rfl)
theorem dX2_both_135 : decode cX2_both 135 = .ok (.idiv, 1) := dk_108 (dk_at dksX2_both_5 14 rfl rfl)
theorem dX2_both_136 : decode cX2_both 136 = .ok (.ireturn, 1) := dk_172 (dk_at dksX2_both_5 15 rfl rfl)
theorem dX2_both_137 : decode cX2_both 137 = .ok (.iload_n 2, 1) := dk_28 (dk_at dksX2_both_5 16 rfl rfl)
theorem dX2_both_138 : decode cX2_both 138 = .ok (.ifCond .ne 7, 3) := dk_154 0 7 (dk_at dksX2_both_5 17 rfl rfl)
theorem dX2_both_141 : decode cX2_both 141 = .ok (.iconst 0, 1) := dk_3 (dk_at dksX2_both_5 20 rfl rfl)
theorem dX2_both_142 : decode cX2_both 142 = .ok (.goto 6, 3) := dk_167 0 6 (dk_at dksX2_both_5 21 rfl rfl)
theorem dX2_both_145 : decode cX2_both 145 = .ok (.iload_n 1, 1) := dk_27 (dk_at dksX2_both_6 0 rfl rfl)
theorem dX2_both_146 : decode cX2_both 146 = .ok (.iload_n 2, 1) := dk_28 (dk_at dksX2_both_6 1 rfl rfl)
theorem dX2_both_147 : decode cX2_both 147 = .ok (.irem, 1) := dk_112 (dk_at dksX2_both_6 2 rfl rfl)
theorem dX2_both_148 : decode cX2_both 148 = .ok (.ireturn, 1) := dk_172 (dk_at dksX2_both_6 3 rfl rfl)
abbrev cX2_routine : ByteArray := prog_31_method_46_code
def yX2_routine : MethodName := ⟨RX2, "routine", "(II)I"⟩
def dkwX2_routine_3 : List UInt8 := [182, 1, 42, 167, 0, 7, 42, 182, 1, 45, 172]
abbrev dktX2_routine_3 : List UInt8 := dkwX2_routine_3 ++ []
def dkwX2_routine_2 : List UInt8 := [180, 0, 253, 167, 0, 29, 28, 4, 160, 0, 8, 21, 4, 167, 0, 19, 28, 5, 160, 0, 10, 42]
abbrev dktX2_routine_2 : List UInt8 := dkwX2_routine_2 ++ dktX2_routine_3
def dkwX2_routine_1 : List UInt8 := [62, 29, 156, 0, 5, 29, 172, 42, 27, 182, 1, 35, 42, 182, 1, 39, 54, 4, 28, 154, 0, 10, 42]
abbrev dktX2_routine_1 : List UInt8 := dkwX2_routine_1 ++ dktX2_routine_2
def dkwX2_routine_0 : List UInt8 := [27, 184, 0, 140, 153, 0, 12, 28, 3, 6, 184, 0, 128, 154, 0, 5, 2, 172, 42, 27, 3, 182, 1, 32]
abbrev dktX2_routine_0 : List UInt8 := dkwX2_routine_0 ++ dktX2_routine_1
theorem dksX2_routine_0 : cX2_routine.data.toList.drop 0 = dktX2_routine_0 := by decide +kernel
theorem dksX2_routine_1 : cX2_routine.data.toList.drop 24 = dktX2_routine_1 := dk_seg dksX2_routine_0 24 rfl rfl
theorem dksX2_routine_2 : cX2_routine.data.toList.drop 47 = dktX2_routine_2 := dk_seg dksX2_routine_1 23 rfl rfl
theorem dksX2_routine_3 : cX2_routine.data.toList.drop 69 = dktX2_routine_3 := dk_seg dksX2_routine_2 22 rfl rfl
theorem dX2_routine_0 : decode cX2_routine 0 = .ok (.iload_n 1, 1) := dk_27 (dk_at dksX2_routine_0 0 rfl rfl)
theorem dX2_routine_1 : decode cX2_routine 1 = .ok (.invokestatic 140, 3) := dk_184 0 140 (dk_at dksX2_routine_0 1 rfl rfl)
theorem dX2_routine_4 : decode cX2_routine 4 = .ok (.ifCond .eq 12, 3) := dk_153 0 12 (dk_at dksX2_routine_0 4 rfl rfl)
theorem dX2_routine_7 : decode cX2_routine 7 = .ok (.iload_n 2, 1) := dk_28 (dk_at dksX2_routine_0 7 rfl rfl)
theorem dX2_routine_8 : decode cX2_routine 8 = .ok (.iconst 0, 1) := dk_3 (dk_at dksX2_routine_0 8 rfl rfl)
theorem dX2_routine_9 : decode cX2_routine 9 = .ok (.iconst 3, 1) := dk_6 (dk_at dksX2_routine_0 9 rfl rfl)
theorem dX2_routine_10 : decode cX2_routine 10 = .ok (.invokestatic 128, 3) := dk_184 0 128 (dk_at dksX2_routine_0 10 rfl rfl)
theorem dX2_routine_13 : decode cX2_routine 13 = .ok (.ifCond .ne 5, 3) := dk_154 0 5 (dk_at dksX2_routine_0 13 rfl rfl)
theorem dX2_routine_16 : decode cX2_routine 16 = .ok (.iconst (-1), 1) := dk_2 (dk_at dksX2_routine_0 16 rfl rfl)
theorem dX2_routine_17 : decode cX2_routine 17 = .ok (.ireturn, 1) := dk_172 (dk_at dksX2_routine_0 17 rfl rfl)
theorem dX2_routine_18 : decode cX2_routine 18 = .ok (.aload_n 0, 1) := dk_42 (dk_at dksX2_routine_0 18 rfl rfl)
theorem dX2_routine_19 : decode cX2_routine 19 = .ok (.iload_n 1, 1) := dk_27 (dk_at dksX2_routine_0 19 rfl rfl)
theorem dX2_routine_20 : decode cX2_routine 20 = .ok (.iconst 0, 1) := dk_3 (dk_at dksX2_routine_0 20 rfl rfl)
theorem dX2_routine_21 : decode cX2_routine 21 = .ok (.invokevirtual 288, 3) := dk_182 1 32 (dk_at dksX2_routine_0 21 rfl rfl)
theorem dX2_routine_24 : decode cX2_routine 24 = .ok (.istore_n 3, 1) := dk_62 (dk_at dksX2_routine_1 0 rfl rfl)
theorem dX2_routine_25 : decode cX2_routine 25 = .ok (.iload_n 3, 1) := dk_29 (dk_at dksX2_routine_1 1 rfl rfl)
theorem dX2_routine_26 : decode cX2_routine 26 = .ok (.ifCond .ge 5, 3) := dk_156 0 5 (dk_at dksX2_routine_1 2 rfl rfl)
theorem dX2_routine_29 : decode cX2_routine 29 = .ok (.iload_n 3, 1) := dk_29 (dk_at dksX2_routine_1 5 rfl rfl)
theorem dX2_routine_30 : decode cX2_routine 30 = .ok (.ireturn, 1) := dk_172 (dk_at dksX2_routine_1 6 rfl rfl)
theorem dX2_routine_31 : decode cX2_routine 31 = .ok (.aload_n 0, 1) := dk_42 (dk_at dksX2_routine_1 7 rfl rfl)
theorem dX2_routine_32 : decode cX2_routine 32 = .ok (.iload_n 1, 1) := dk_27 (dk_at dksX2_routine_1 8 rfl rfl)
theorem dX2_routine_33 : decode cX2_routine 33 = .ok (.invokevirtual 291, 3) := dk_182 1 35 (dk_at dksX2_routine_1 9 rfl rfl)
theorem dX2_routine_36 : decode cX2_routine 36 = .ok (.aload_n 0, 1) := dk_42 (dk_at dksX2_routine_1 12 rfl rfl)
theorem dX2_routine_37 : decode cX2_routine 37 = .ok (.invokevirtual 295, 3) := dk_182 1 39 (dk_at dksX2_routine_1 13 rfl rfl)
theorem dX2_routine_40 : decode cX2_routine 40 = .ok (.istore 4, 2) := dk_54 4 (dk_at dksX2_routine_1 16 rfl rfl)
theorem dX2_routine_42 : decode cX2_routine 42 = .ok (.iload_n 2, 1) := dk_28 (dk_at dksX2_routine_1 18 rfl rfl)
theorem dX2_routine_43 : decode cX2_routine 43 = .ok (.ifCond .ne 10, 3) := dk_154 0 10 (dk_at dksX2_routine_1 19 rfl rfl)
theorem dX2_routine_46 : decode cX2_routine 46 = .ok (.aload_n 0, 1) := dk_42 (dk_at dksX2_routine_1 22 rfl rfl)
theorem dX2_routine_47 : decode cX2_routine 47 = .ok (.getfield 253, 3) := dk_180 0 253 (dk_at dksX2_routine_2 0 rfl rfl)
theorem dX2_routine_50 : decode cX2_routine 50 = .ok (.goto 29, 3) := dk_167 0 29 (dk_at dksX2_routine_2 3 rfl rfl)
theorem dX2_routine_53 : decode cX2_routine 53 = .ok (.iload_n 2, 1) := dk_28 (dk_at dksX2_routine_2 6 rfl rfl)
theorem dX2_routine_54 : decode cX2_routine 54 = .ok (.iconst 1, 1) := dk_4 (dk_at dksX2_routine_2 7 rfl rfl)
theorem dX2_routine_55 : decode cX2_routine 55 = .ok (.if_icmp .ne 8, 3) := dk_160 0 8 (dk_at dksX2_routine_2 8 rfl rfl)
theorem dX2_routine_58 : decode cX2_routine 58 = .ok (.iload 4, 2) := dk_21 4 (dk_at dksX2_routine_2 11 rfl rfl)
theorem dX2_routine_60 : decode cX2_routine 60 = .ok (.goto 19, 3) := dk_167 0 19 (dk_at dksX2_routine_2 13 rfl rfl)
theorem dX2_routine_63 : decode cX2_routine 63 = .ok (.iload_n 2, 1) := dk_28 (dk_at dksX2_routine_2 16 rfl rfl)
theorem dX2_routine_64 : decode cX2_routine 64 = .ok (.iconst 2, 1) := dk_5 (dk_at dksX2_routine_2 17 rfl rfl)
theorem dX2_routine_65 : decode cX2_routine 65 = .ok (.if_icmp .ne 10, 3) := dk_160 0 10 (dk_at dksX2_routine_2 18 rfl rfl)
theorem dX2_routine_68 : decode cX2_routine 68 = .ok (.aload_n 0, 1) := dk_42 (dk_at dksX2_routine_2 21 rfl rfl)
theorem dX2_routine_69 : decode cX2_routine 69 = .ok (.invokevirtual 298, 3) := dk_182 1 42 (dk_at dksX2_routine_3 0 rfl rfl)
theorem dX2_routine_72 : decode cX2_routine 72 = .ok (.goto 7, 3) := dk_167 0 7 (dk_at dksX2_routine_3 3 rfl rfl)
theorem dX2_routine_75 : decode cX2_routine 75 = .ok (.aload_n 0, 1) := dk_42 (dk_at dksX2_routine_3 6 rfl rfl)
theorem dX2_routine_76 : decode cX2_routine 76 = .ok (.invokevirtual 301, 3) := dk_182 1 45 (dk_at dksX2_routine_3 7 rfl rfl)
theorem dX2_routine_79 : decode cX2_routine 79 = .ok (.ireturn, 1) := dk_172 (dk_at dksX2_routine_3 10 rfl rfl)
abbrev cX2_noRow : ByteArray := prog_31_method_35_code
def yX2_noRow : MethodName := ⟨RX2, "noRow", "(II)I"⟩
def dkwX2_noRow_1 : List UInt8 := [159, 0, 8, 16, 244, 167, 0, 4, 3, 172]
abbrev dktX2_noRow_1 : List UInt8 := dkwX2_noRow_1 ++ []
def dkwX2_noRow_0 : List UInt8 := [42, 180, 0, 93, 27, 46, 2, 160, 0, 8, 16, 245, 167, 0, 19, 42, 180, 0, 93, 27, 46, 28]
abbrev dktX2_noRow_0 : List UInt8 := dkwX2_noRow_0 ++ dktX2_noRow_1
theorem dksX2_noRow_0 : cX2_noRow.data.toList.drop 0 = dktX2_noRow_0 := by decide +kernel
theorem dksX2_noRow_1 : cX2_noRow.data.toList.drop 22 = dktX2_noRow_1 := dk_seg dksX2_noRow_0 22 rfl rfl
theorem dX2_noRow_0 : decode cX2_noRow 0 = .ok (.aload_n 0, 1) := dk_42 (dk_at dksX2_noRow_0 0 rfl rfl)
theorem dX2_noRow_1 : decode cX2_noRow 1 = .ok (.getfield 93, 3) := dk_180 0 93 (dk_at dksX2_noRow_0 1 rfl rfl)
theorem dX2_noRow_4 : decode cX2_noRow 4 = .ok (.iload_n 1, 1) := dk_27 (dk_at dksX2_noRow_0 4 rfl rfl)
theorem dX2_noRow_5 : decode cX2_noRow 5 = .ok (.iaload, 1) := dk_46 (dk_at dksX2_noRow_0 5 rfl rfl)
theorem dX2_noRow_6 : decode cX2_noRow 6 = .ok (.iconst (-1), 1) := dk_2 (dk_at dksX2_noRow_0 6 rfl rfl)
theorem dX2_noRow_7 : decode cX2_noRow 7 = .ok (.if_icmp .ne 8, 3) := dk_160 0 8 (dk_at dksX2_noRow_0 7 rfl rfl)
theorem dX2_noRow_10 : decode cX2_noRow 10 = .ok (.bipush (-11), 2) := dk_16 245 (dk_at dksX2_noRow_0 10 rfl rfl)
theorem dX2_noRow_12 : decode cX2_noRow 12 = .ok (.goto 19, 3) := dk_167 0 19 (dk_at dksX2_noRow_0 12 rfl rfl)
theorem dX2_noRow_15 : decode cX2_noRow 15 = .ok (.aload_n 0, 1) := dk_42 (dk_at dksX2_noRow_0 15 rfl rfl)
theorem dX2_noRow_16 : decode cX2_noRow 16 = .ok (.getfield 93, 3) := dk_180 0 93 (dk_at dksX2_noRow_0 16 rfl rfl)
theorem dX2_noRow_19 : decode cX2_noRow 19 = .ok (.iload_n 1, 1) := dk_27 (dk_at dksX2_noRow_0 19 rfl rfl)
theorem dX2_noRow_20 : decode cX2_noRow 20 = .ok (.iaload, 1) := dk_46 (dk_at dksX2_noRow_0 20 rfl rfl)
theorem dX2_noRow_21 : decode cX2_noRow 21 = .ok (.iload_n 2, 1) := dk_28 (dk_at dksX2_noRow_0 21 rfl rfl)
theorem dX2_noRow_22 : decode cX2_noRow 22 = .ok (.if_icmp .eq 8, 3) := dk_159 0 8 (dk_at dksX2_noRow_1 0 rfl rfl)
theorem dX2_noRow_25 : decode cX2_noRow 25 = .ok (.bipush (-12), 2) := dk_16 244 (dk_at dksX2_noRow_1 3 rfl rfl)
theorem dX2_noRow_27 : decode cX2_noRow 27 = .ok (.goto 4, 3) := dk_167 0 4 (dk_at dksX2_noRow_1 5 rfl rfl)
theorem dX2_noRow_30 : decode cX2_noRow 30 = .ok (.iconst 0, 1) := dk_3 (dk_at dksX2_noRow_1 8 rfl rfl)
theorem dX2_noRow_31 : decode cX2_noRow 31 = .ok (.ireturn, 1) := dk_172 (dk_at dksX2_noRow_1 9 rfl rfl)
abbrev cX2_reads : ByteArray := prog_31_method_36_code
def yX2_reads : MethodName := ⟨RX2, "reads", "(I)V"⟩
def dkwX2_reads_4 : List UInt8 := [167, 255, 169, 177]
abbrev dktX2_reads_4 : List UInt8 := dkwX2_reads_4 ++ []
def dkwX2_reads_3 : List UInt8 := [16, 60, 27, 104, 42, 180, 0, 253, 96, 47, 136, 79, 42, 89, 180, 0, 253, 4, 96, 181, 0, 253]
abbrev dktX2_reads_3 : List UInt8 := dkwX2_reads_3 ++ dktX2_reads_4
def dkwX2_reads_2 : List UInt8 := [180, 0, 253, 96, 47, 20, 0, 143, 148, 157, 0, 40, 42, 180, 0, 103, 42, 180, 0, 253, 42, 180, 0, 99]
abbrev dktX2_reads_2 : List UInt8 := dkwX2_reads_2 ++ dktX2_reads_3
def dkwX2_reads_1 : List UInt8 := [27, 104, 42, 180, 0, 253, 96, 47, 9, 148, 155, 0, 61, 42, 180, 0, 99, 16, 60, 27, 104, 42]
abbrev dktX2_reads_1 : List UInt8 := dkwX2_reads_1 ++ dktX2_reads_2
def dkwX2_reads_0 : List UInt8 := [42, 3, 181, 0, 253, 42, 180, 0, 253, 42, 180, 0, 96, 27, 46, 162, 0, 80, 42, 180, 0, 99, 16, 60]
abbrev dktX2_reads_0 : List UInt8 := dkwX2_reads_0 ++ dktX2_reads_1
theorem dksX2_reads_0 : cX2_reads.data.toList.drop 0 = dktX2_reads_0 := by decide +kernel
theorem dksX2_reads_1 : cX2_reads.data.toList.drop 24 = dktX2_reads_1 := dk_seg dksX2_reads_0 24 rfl rfl
theorem dksX2_reads_2 : cX2_reads.data.toList.drop 46 = dktX2_reads_2 := dk_seg dksX2_reads_1 22 rfl rfl
theorem dksX2_reads_3 : cX2_reads.data.toList.drop 70 = dktX2_reads_3 := dk_seg dksX2_reads_2 24 rfl rfl
theorem dksX2_reads_4 : cX2_reads.data.toList.drop 92 = dktX2_reads_4 := dk_seg dksX2_reads_3 22 rfl rfl
theorem dX2_reads_0 : decode cX2_reads 0 = .ok (.aload_n 0, 1) := dk_42 (dk_at dksX2_reads_0 0 rfl rfl)
theorem dX2_reads_1 : decode cX2_reads 1 = .ok (.iconst 0, 1) := dk_3 (dk_at dksX2_reads_0 1 rfl rfl)
theorem dX2_reads_2 : decode cX2_reads 2 = .ok (.putfield 253, 3) := dk_181 0 253 (dk_at dksX2_reads_0 2 rfl rfl)
theorem dX2_reads_5 : decode cX2_reads 5 = .ok (.aload_n 0, 1) := dk_42 (dk_at dksX2_reads_0 5 rfl rfl)
theorem dX2_reads_6 : decode cX2_reads 6 = .ok (.getfield 253, 3) := dk_180 0 253 (dk_at dksX2_reads_0 6 rfl rfl)
theorem dX2_reads_9 : decode cX2_reads 9 = .ok (.aload_n 0, 1) := dk_42 (dk_at dksX2_reads_0 9 rfl rfl)
theorem dX2_reads_10 : decode cX2_reads 10 = .ok (.getfield 96, 3) := dk_180 0 96 (dk_at dksX2_reads_0 10 rfl rfl)
theorem dX2_reads_13 : decode cX2_reads 13 = .ok (.iload_n 1, 1) := dk_27 (dk_at dksX2_reads_0 13 rfl rfl)
theorem dX2_reads_14 : decode cX2_reads 14 = .ok (.iaload, 1) := dk_46 (dk_at dksX2_reads_0 14 rfl rfl)
theorem dX2_reads_15 : decode cX2_reads 15 = .ok (.if_icmp .ge 80, 3) := dk_162 0 80 (dk_at dksX2_reads_0 15 rfl rfl)
theorem dX2_reads_18 : decode cX2_reads 18 = .ok (.aload_n 0, 1) := dk_42 (dk_at dksX2_reads_0 18 rfl rfl)
theorem dX2_reads_19 : decode cX2_reads 19 = .ok (.getfield 99, 3) := dk_180 0 99 (dk_at dksX2_reads_0 19 rfl rfl)
theorem dX2_reads_22 : decode cX2_reads 22 = .ok (.bipush 60, 2) := dk_16 60 (dk_at dksX2_reads_0 22 rfl rfl)
theorem dX2_reads_24 : decode cX2_reads 24 = .ok (.iload_n 1, 1) := dk_27 (dk_at dksX2_reads_1 0 rfl rfl)
theorem dX2_reads_25 : decode cX2_reads 25 = .ok (.imul, 1) := dk_104 (dk_at dksX2_reads_1 1 rfl rfl)
theorem dX2_reads_26 : decode cX2_reads 26 = .ok (.aload_n 0, 1) := dk_42 (dk_at dksX2_reads_1 2 rfl rfl)
theorem dX2_reads_27 : decode cX2_reads 27 = .ok (.getfield 253, 3) := dk_180 0 253 (dk_at dksX2_reads_1 3 rfl rfl)
theorem dX2_reads_30 : decode cX2_reads 30 = .ok (.iadd, 1) := dk_96 (dk_at dksX2_reads_1 6 rfl rfl)
theorem dX2_reads_31 : decode cX2_reads 31 = .ok (.laload, 1) := dk_47 (dk_at dksX2_reads_1 7 rfl rfl)
theorem dX2_reads_32 : decode cX2_reads 32 = .ok (.lconst 0, 1) := dk_9 (dk_at dksX2_reads_1 8 rfl rfl)
theorem dX2_reads_33 : decode cX2_reads 33 = .ok (.lcmp, 1) := dk_148 (dk_at dksX2_reads_1 9 rfl rfl)
theorem dX2_reads_34 : decode cX2_reads 34 = .ok (.ifCond .lt 61, 3) := dk_155 0 61 (dk_at dksX2_reads_1 10 rfl rfl)
theorem dX2_reads_37 : decode cX2_reads 37 = .ok (.aload_n 0, 1) := dk_42 (dk_at dksX2_reads_1 13 rfl rfl)
theorem dX2_reads_38 : decode cX2_reads 38 = .ok (.getfield 99, 3) := dk_180 0 99 (dk_at dksX2_reads_1 14 rfl rfl)
theorem dX2_reads_41 : decode cX2_reads 41 = .ok (.bipush 60, 2) := dk_16 60 (dk_at dksX2_reads_1 17 rfl rfl)
theorem dX2_reads_43 : decode cX2_reads 43 = .ok (.iload_n 1, 1) := dk_27 (dk_at dksX2_reads_1 19 rfl rfl)
theorem dX2_reads_44 : decode cX2_reads 44 = .ok (.imul, 1) := dk_104 (dk_at dksX2_reads_1 20 rfl rfl)
theorem dX2_reads_45 : decode cX2_reads 45 = .ok (.aload_n 0, 1) := dk_42 (dk_at dksX2_reads_1 21 rfl rfl)
theorem dX2_reads_46 : decode cX2_reads 46 = .ok (.getfield 253, 3) := dk_180 0 253 (dk_at dksX2_reads_2 0 rfl rfl)
theorem dX2_reads_49 : decode cX2_reads 49 = .ok (.iadd, 1) := dk_96 (dk_at dksX2_reads_2 3 rfl rfl)
theorem dX2_reads_50 : decode cX2_reads 50 = .ok (.laload, 1) := dk_47 (dk_at dksX2_reads_2 4 rfl rfl)
theorem dX2_reads_51 : decode cX2_reads 51 = .ok (.ldc2_w 143, 3) := dk_20 0 143 (dk_at dksX2_reads_2 5 rfl rfl)
theorem dX2_reads_54 : decode cX2_reads 54 = .ok (.lcmp, 1) := dk_148 (dk_at dksX2_reads_2 8 rfl rfl)
theorem dX2_reads_55 : decode cX2_reads 55 = .ok (.ifCond .gt 40, 3) := dk_157 0 40 (dk_at dksX2_reads_2 9 rfl rfl)
theorem dX2_reads_58 : decode cX2_reads 58 = .ok (.aload_n 0, 1) := dk_42 (dk_at dksX2_reads_2 12 rfl rfl)
theorem dX2_reads_59 : decode cX2_reads 59 = .ok (.getfield 103, 3) := dk_180 0 103 (dk_at dksX2_reads_2 13 rfl rfl)
theorem dX2_reads_62 : decode cX2_reads 62 = .ok (.aload_n 0, 1) := dk_42 (dk_at dksX2_reads_2 16 rfl rfl)
theorem dX2_reads_63 : decode cX2_reads 63 = .ok (.getfield 253, 3) := dk_180 0 253 (dk_at dksX2_reads_2 17 rfl rfl)
theorem dX2_reads_66 : decode cX2_reads 66 = .ok (.aload_n 0, 1) := dk_42 (dk_at dksX2_reads_2 20 rfl rfl)
theorem dX2_reads_67 : decode cX2_reads 67 = .ok (.getfield 99, 3) := dk_180 0 99 (dk_at dksX2_reads_2 21 rfl rfl)
theorem dX2_reads_70 : decode cX2_reads 70 = .ok (.bipush 60, 2) := dk_16 60 (dk_at dksX2_reads_3 0 rfl rfl)
theorem dX2_reads_72 : decode cX2_reads 72 = .ok (.iload_n 1, 1) := dk_27 (dk_at dksX2_reads_3 2 rfl rfl)
theorem dX2_reads_73 : decode cX2_reads 73 = .ok (.imul, 1) := dk_104 (dk_at dksX2_reads_3 3 rfl rfl)
theorem dX2_reads_74 : decode cX2_reads 74 = .ok (.aload_n 0, 1) := dk_42 (dk_at dksX2_reads_3 4 rfl rfl)
theorem dX2_reads_75 : decode cX2_reads 75 = .ok (.getfield 253, 3) := dk_180 0 253 (dk_at dksX2_reads_3 5 rfl rfl)
theorem dX2_reads_78 : decode cX2_reads 78 = .ok (.iadd, 1) := dk_96 (dk_at dksX2_reads_3 8 rfl rfl)
theorem dX2_reads_79 : decode cX2_reads 79 = .ok (.laload, 1) := dk_47 (dk_at dksX2_reads_3 9 rfl rfl)
theorem dX2_reads_80 : decode cX2_reads 80 = .ok (.l2i, 1) := dk_136 (dk_at dksX2_reads_3 10 rfl rfl)
theorem dX2_reads_81 : decode cX2_reads 81 = .ok (.iastore, 1) := dk_79 (dk_at dksX2_reads_3 11 rfl rfl)
theorem dX2_reads_82 : decode cX2_reads 82 = .ok (.aload_n 0, 1) := dk_42 (dk_at dksX2_reads_3 12 rfl rfl)
theorem dX2_reads_83 : decode cX2_reads 83 = .ok (.dup, 1) := dk_89 (dk_at dksX2_reads_3 13 rfl rfl)
theorem dX2_reads_84 : decode cX2_reads 84 = .ok (.getfield 253, 3) := dk_180 0 253 (dk_at dksX2_reads_3 14 rfl rfl)
theorem dX2_reads_87 : decode cX2_reads 87 = .ok (.iconst 1, 1) := dk_4 (dk_at dksX2_reads_3 17 rfl rfl)
theorem dX2_reads_88 : decode cX2_reads 88 = .ok (.iadd, 1) := dk_96 (dk_at dksX2_reads_3 18 rfl rfl)
theorem dX2_reads_89 : decode cX2_reads 89 = .ok (.putfield 253, 3) := dk_181 0 253 (dk_at dksX2_reads_3 19 rfl rfl)
theorem dX2_reads_92 : decode cX2_reads 92 = .ok (.goto (-87), 3) := dk_167 255 169 (dk_at dksX2_reads_4 0 rfl rfl)
theorem dX2_reads_95 : decode cX2_reads 95 = .ok (.return_, 1) := dk_177 (dk_at dksX2_reads_4 3 rfl rfl)
abbrev cX2_marksNow : ByteArray := prog_31_method_43_code
def yX2_marksNow : MethodName := ⟨RX2, "marksNow", "()I"⟩
def dkwX2_marksNow_0 : List UInt8 := [42, 3, 182, 1, 22, 42, 182, 1, 26, 172]
abbrev dktX2_marksNow_0 : List UInt8 := dkwX2_marksNow_0 ++ []
theorem dksX2_marksNow_0 : cX2_marksNow.data.toList.drop 0 = dktX2_marksNow_0 := by decide +kernel
theorem dX2_marksNow_0 : decode cX2_marksNow 0 = .ok (.aload_n 0, 1) := dk_42 (dk_at dksX2_marksNow_0 0 rfl rfl)
theorem dX2_marksNow_1 : decode cX2_marksNow 1 = .ok (.iconst 0, 1) := dk_3 (dk_at dksX2_marksNow_0 1 rfl rfl)
theorem dX2_marksNow_2 : decode cX2_marksNow 2 = .ok (.invokevirtual 278, 3) := dk_182 1 22 (dk_at dksX2_marksNow_0 2 rfl rfl)
theorem dX2_marksNow_5 : decode cX2_marksNow 5 = .ok (.aload_n 0, 1) := dk_42 (dk_at dksX2_marksNow_0 5 rfl rfl)
theorem dX2_marksNow_6 : decode cX2_marksNow 6 = .ok (.invokevirtual 282, 3) := dk_182 1 26 (dk_at dksX2_marksNow_0 6 rfl rfl)
theorem dX2_marksNow_9 : decode cX2_marksNow 9 = .ok (.ireturn, 1) := dk_172 (dk_at dksX2_marksNow_0 9 rfl rfl)
abbrev cX2_drifts : ByteArray := prog_31_method_37_code
def yX2_drifts : MethodName := ⟨RX2, "drifts", "(Z)V"⟩
def dkwX2_drifts_10 : List UInt8 := [132, 2, 1, 167, 255, 40, 177]
abbrev dktX2_drifts_10 : List UInt8 := dkwX2_drifts_10 ++ []
def dkwX2_drifts_9 : List UInt8 := [42, 180, 0, 106, 16, 8, 28, 104, 16, 8, 96, 42, 180, 0, 121, 96, 92, 46, 42, 180, 1, 10, 96, 79]
abbrev dktX2_drifts_9 : List UInt8 := dkwX2_drifts_9 ++ dktX2_drifts_10
def dkwX2_drifts_8 : List UInt8 := [79, 132, 3, 1, 167, 255, 189, 42, 180, 0, 121, 16, 254, 159, 0, 35, 42, 180, 1, 7, 28, 160, 0, 27]
abbrev dktX2_drifts_8 : List UInt8 := dkwX2_drifts_8 ++ dktX2_drifts_9
def dkwX2_drifts_7 : List UInt8 := [16, 8, 96, 29, 96, 42, 180, 0, 106, 16, 8, 28, 104, 16, 8, 96, 42, 180, 0, 30, 3, 46, 96, 46]
abbrev dktX2_drifts_7 : List UInt8 := dkwX2_drifts_7 ++ dktX2_drifts_8
def dkwX2_drifts_6 : List UInt8 := [160, 0, 55, 42, 42, 180, 0, 30, 3, 46, 182, 0, 132, 153, 0, 42, 42, 180, 0, 106, 16, 8, 28, 104]
abbrev dktX2_drifts_6 : List UInt8 := dkwX2_drifts_6 ++ dktX2_drifts_7
def dkwX2_drifts_5 : List UInt8 := [132, 3, 1, 167, 255, 169, 3, 62, 29, 42, 180, 0, 125, 162, 0, 65, 42, 180, 0, 103, 28, 46, 7]
abbrev dktX2_drifts_5 : List UInt8 := dkwX2_drifts_5 ++ dktX2_drifts_6
def dkwX2_drifts_4 : List UInt8 := [16, 8, 28, 104, 16, 8, 96, 29, 96, 42, 180, 0, 106, 16, 8, 28, 104, 29, 96, 46, 21, 4, 96, 79]
abbrev dktX2_drifts_4 : List UInt8 := dkwX2_drifts_4 ++ dktX2_drifts_5
def dkwX2_drifts_3 : List UInt8 := [180, 1, 0, 16, 8, 124, 16, 12, 112, 42, 180, 1, 4, 162, 0, 6, 132, 4, 1, 42, 180, 0, 106]
abbrev dktX2_drifts_3 : List UInt8 := dkwX2_drifts_3 ++ dktX2_drifts_4
def dkwX2_drifts_2 : List UInt8 := [54, 4, 27, 153, 0, 39, 42, 42, 180, 1, 0, 19, 1, 3, 104, 17, 48, 57, 96, 181, 1, 0, 42]
abbrev dktX2_drifts_2 : List UInt8 := dkwX2_drifts_2 ++ dktX2_drifts_3
def dkwX2_drifts_1 : List UInt8 := [42, 180, 0, 253, 162, 0, 214, 3, 62, 29, 42, 180, 0, 125, 162, 0, 85, 42, 180, 0, 24, 29, 46]
abbrev dktX2_drifts_1 : List UInt8 := dkwX2_drifts_1 ++ dktX2_drifts_2
def dkwX2_drifts_0 : List UInt8 := [3, 61, 28, 16, 8, 162, 0, 16, 42, 180, 0, 106, 28, 3, 79, 132, 2, 1, 167, 255, 240, 3, 61, 28]
abbrev dktX2_drifts_0 : List UInt8 := dkwX2_drifts_0 ++ dktX2_drifts_1
theorem dksX2_drifts_0 : cX2_drifts.data.toList.drop 0 = dktX2_drifts_0 := by decide +kernel
theorem dksX2_drifts_1 : cX2_drifts.data.toList.drop 24 = dktX2_drifts_1 := dk_seg dksX2_drifts_0 24 rfl rfl
theorem dksX2_drifts_2 : cX2_drifts.data.toList.drop 47 = dktX2_drifts_2 := dk_seg dksX2_drifts_1 23 rfl rfl
theorem dksX2_drifts_3 : cX2_drifts.data.toList.drop 70 = dktX2_drifts_3 := dk_seg dksX2_drifts_2 23 rfl rfl
theorem dksX2_drifts_4 : cX2_drifts.data.toList.drop 93 = dktX2_drifts_4 := dk_seg dksX2_drifts_3 23 rfl rfl
theorem dksX2_drifts_5 : cX2_drifts.data.toList.drop 117 = dktX2_drifts_5 := dk_seg dksX2_drifts_4 24 rfl rfl
theorem dksX2_drifts_6 : cX2_drifts.data.toList.drop 140 = dktX2_drifts_6 := dk_seg dksX2_drifts_5 23 rfl rfl
theorem dksX2_drifts_7 : cX2_drifts.data.toList.drop 164 = dktX2_drifts_7 := dk_seg dksX2_drifts_6 24 rfl rfl
theorem dksX2_drifts_8 : cX2_drifts.data.toList.drop 188 = dktX2_drifts_8 := dk_seg dksX2_drifts_7 24 rfl rfl
theorem dksX2_drifts_9 : cX2_drifts.data.toList.drop 212 = dktX2_drifts_9 := dk_seg dksX2_drifts_8 24 rfl rfl
theorem dksX2_drifts_10 : cX2_drifts.data.toList.drop 236 = dktX2_drifts_10 := dk_seg dksX2_drifts_9 24 rfl rfl
theorem dX2_drifts_0 : decode cX2_drifts 0 = .ok (.iconst 0, 1) := dk_3 (dk_at dksX2_drifts_0 0 rfl rfl)
theorem dX2_drifts_1 : decode cX2_drifts 1 = .ok (.istore_n 2, 1) := dk_61 (dk_at dksX2_drifts_0 1 rfl rfl)
theorem dX2_drifts_2 : decode cX2_drifts 2 = .ok (.iload_n 2, 1) := dk_28 (dk_at dksX2_drifts_0 2 rfl rfl)
theorem dX2_drifts_3 : decode cX2_drifts 3 = .ok (.bipush 8, 2) := dk_16 8 (dk_at dksX2_drifts_0 3 rfl rfl)
theorem dX2_drifts_5 : decode cX2_drifts 5 = .ok (.if_icmp .ge 16, 3) := dk_162 0 16 (dk_at dksX2_drifts_0 5 rfl rfl)
theorem dX2_drifts_8 : decode cX2_drifts 8 = .ok (.aload_n 0, 1) := dk_42 (dk_at dksX2_drifts_0 8 rfl rfl)
theorem dX2_drifts_9 : decode cX2_drifts 9 = .ok (.getfield 106, 3) := dk_180 0 106 (dk_at dksX2_drifts_0 9 rfl rfl)
theorem dX2_drifts_12 : decode cX2_drifts 12 = .ok (.iload_n 2, 1) := dk_28 (dk_at dksX2_drifts_0 12 rfl rfl)
theorem dX2_drifts_13 : decode cX2_drifts 13 = .ok (.iconst 0, 1) := dk_3 (dk_at dksX2_drifts_0 13 rfl rfl)
theorem dX2_drifts_14 : decode cX2_drifts 14 = .ok (.iastore, 1) := dk_79 (dk_at dksX2_drifts_0 14 rfl rfl)
theorem dX2_drifts_15 : decode cX2_drifts 15 = .ok (.iinc 2 1, 3) := dk_132 2 1 (dk_at dksX2_drifts_0 15 rfl rfl)
theorem dX2_drifts_18 : decode cX2_drifts 18 = .ok (.goto (-16), 3) := dk_167 255 240 (dk_at dksX2_drifts_0 18 rfl rfl)
theorem dX2_drifts_21 : decode cX2_drifts 21 = .ok (.iconst 0, 1) := dk_3 (dk_at dksX2_drifts_0 21 rfl rfl)
theorem dX2_drifts_22 : decode cX2_drifts 22 = .ok (.istore_n 2, 1) := dk_61 (dk_at dksX2_drifts_0 22 rfl rfl)
theorem dX2_drifts_23 : decode cX2_drifts 23 = .ok (.iload_n 2, 1) := dk_28 (dk_at dksX2_drifts_0 23 rfl rfl)
theorem dX2_drifts_24 : decode cX2_drifts 24 = .ok (.aload_n 0, 1) := dk_42 (dk_at dksX2_drifts_1 0 rfl rfl)
theorem dX2_drifts_25 : decode cX2_drifts 25 = .ok (.getfield 253, 3) := dk_180 0 253 (dk_at dksX2_drifts_1 1 rfl rfl)
theorem dX2_drifts_28 : decode cX2_drifts 28 = .ok (.if_icmp .ge 214, 3) := dk_162 0 214 (dk_at dksX2_drifts_1 4 rfl rfl)
theorem dX2_drifts_31 : decode cX2_drifts 31 = .ok (.iconst 0, 1) := dk_3 (dk_at dksX2_drifts_1 7 rfl rfl)
theorem dX2_drifts_32 : decode cX2_drifts 32 = .ok (.istore_n 3, 1) := dk_62 (dk_at dksX2_drifts_1 8 rfl rfl)
theorem dX2_drifts_33 : decode cX2_drifts 33 = .ok (.iload_n 3, 1) := dk_29 (dk_at dksX2_drifts_1 9 rfl rfl)
theorem dX2_drifts_34 : decode cX2_drifts 34 = .ok (.aload_n 0, 1) := dk_42 (dk_at dksX2_drifts_1 10 rfl rfl)
theorem dX2_drifts_35 : decode cX2_drifts 35 = .ok (.getfield 125, 3) := dk_180 0 125 (dk_at dksX2_drifts_1 11 rfl rfl)
theorem dX2_drifts_38 : decode cX2_drifts 38 = .ok (.if_icmp .ge 85, 3) := dk_162 0 85 (dk_at dksX2_drifts_1 14 rfl rfl)
theorem dX2_drifts_41 : decode cX2_drifts 41 = .ok (.aload_n 0, 1) := dk_42 (dk_at dksX2_drifts_1 17 rfl rfl)
theorem dX2_drifts_42 : decode cX2_drifts 42 = .ok (.getfield 24, 3) := dk_180 0 24 (dk_at dksX2_drifts_1 18 rfl rfl)
theorem dX2_drifts_45 : decode cX2_drifts 45 = .ok (.iload_n 3, 1) := dk_29 (dk_at dksX2_drifts_1 21 rfl rfl)
theorem dX2_drifts_46 : decode cX2_drifts 46 = .ok (.iaload, 1) := dk_46 (dk_at dksX2_drifts_1 22 rfl rfl)
theorem dX2_drifts_47 : decode cX2_drifts 47 = .ok (.istore 4, 2) := dk_54 4 (dk_at dksX2_drifts_2 0 rfl rfl)
theorem dX2_drifts_49 : decode cX2_drifts 49 = .ok (.iload_n 1, 1) := dk_27 (dk_at dksX2_drifts_2 2 rfl rfl)
theorem dX2_drifts_50 : decode cX2_drifts 50 = .ok (.ifCond .eq 39, 3) := dk_153 0 39 (dk_at dksX2_drifts_2 3 rfl rfl)
theorem dX2_drifts_53 : decode cX2_drifts 53 = .ok (.aload_n 0, 1) := dk_42 (dk_at dksX2_drifts_2 6 rfl rfl)
theorem dX2_drifts_54 : decode cX2_drifts 54 = .ok (.aload_n 0, 1) := dk_42 (dk_at dksX2_drifts_2 7 rfl rfl)
theorem dX2_drifts_55 : decode cX2_drifts 55 = .ok (.getfield 256, 3) := dk_180 1 0 (dk_at dksX2_drifts_2 8 rfl rfl)
theorem dX2_drifts_58 : decode cX2_drifts 58 = .ok (.ldc_w 259, 3) := dk_19 1 3 (dk_at dksX2_drifts_2 11 rfl rfl)
theorem dX2_drifts_61 : decode cX2_drifts 61 = .ok (.imul, 1) := dk_104 (dk_at dksX2_drifts_2 14 rfl rfl)
theorem dX2_drifts_62 : decode cX2_drifts 62 = .ok (.sipush 12345, 3) := dk_17 48 57 (dk_at dksX2_drifts_2 15 rfl rfl)
theorem dX2_drifts_65 : decode cX2_drifts 65 = .ok (.iadd, 1) := dk_96 (dk_at dksX2_drifts_2 18 rfl rfl)
theorem dX2_drifts_66 : decode cX2_drifts 66 = .ok (.putfield 256, 3) := dk_181 1 0 (dk_at dksX2_drifts_2 19 rfl rfl)
theorem dX2_drifts_69 : decode cX2_drifts 69 = .ok (.aload_n 0, 1) := dk_42 (dk_at dksX2_drifts_2 22 rfl rfl)
theorem dX2_drifts_70 : decode cX2_drifts 70 = .ok (.getfield 256, 3) := dk_180 1 0 (dk_at dksX2_drifts_3 0 rfl rfl)
theorem dX2_drifts_73 : decode cX2_drifts 73 = .ok (.bipush 8, 2) := dk_16 8 (dk_at dksX2_drifts_3 3 rfl rfl)
theorem dX2_drifts_75 : decode cX2_drifts 75 = .ok (.iushr, 1) := dk_124 (dk_at dksX2_drifts_3 5 rfl rfl)
theorem dX2_drifts_76 : decode cX2_drifts 76 = .ok (.bipush 12, 2) := dk_16 12 (dk_at dksX2_drifts_3 6 rfl rfl)
theorem dX2_drifts_78 : decode cX2_drifts 78 = .ok (.irem, 1) := dk_112 (dk_at dksX2_drifts_3 8 rfl rfl)
theorem dX2_drifts_79 : decode cX2_drifts 79 = .ok (.aload_n 0, 1) := dk_42 (dk_at dksX2_drifts_3 9 rfl rfl)
theorem dX2_drifts_80 : decode cX2_drifts 80 = .ok (.getfield 260, 3) := dk_180 1 4 (dk_at dksX2_drifts_3 10 rfl rfl)
theorem dX2_drifts_83 : decode cX2_drifts 83 = .ok (.if_icmp .ge 6, 3) := dk_162 0 6 (dk_at dksX2_drifts_3 13 rfl rfl)
theorem dX2_drifts_86 : decode cX2_drifts 86 = .ok (.iinc 4 1, 3) := dk_132 4 1 (dk_at dksX2_drifts_3 16 rfl rfl)
theorem dX2_drifts_89 : decode cX2_drifts 89 = .ok (.aload_n 0, 1) := dk_42 (dk_at dksX2_drifts_3 19 rfl rfl)
theorem dX2_drifts_90 : decode cX2_drifts 90 = .ok (.getfield 106, 3) := dk_180 0 106 (dk_at dksX2_drifts_3 20 rfl rfl)
theorem dX2_drifts_93 : decode cX2_drifts 93 = .ok (.bipush 8, 2) := dk_16 8 (dk_at dksX2_drifts_4 0 rfl rfl)
theorem dX2_drifts_95 : decode cX2_drifts 95 = .ok (.iload_n 2, 1) := dk_28 (dk_at dksX2_drifts_4 2 rfl rfl)
theorem dX2_drifts_96 : decode cX2_drifts 96 = .ok (.imul, 1) := dk_104 (dk_at dksX2_drifts_4 3 rfl rfl)
theorem dX2_drifts_97 : decode cX2_drifts 97 = .ok (.bipush 8, 2) := dk_16 8 (dk_at dksX2_drifts_4 4 rfl rfl)
theorem dX2_drifts_99 : decode cX2_drifts 99 = .ok (.iadd, 1) := dk_96 (dk_at dksX2_drifts_4 6 rfl rfl)
theorem dX2_drifts_100 : decode cX2_drifts 100 = .ok (.iload_n 3, 1) := dk_29 (dk_at dksX2_drifts_4 7 rfl rfl)
theorem dX2_drifts_101 : decode cX2_drifts 101 = .ok (.iadd, 1) := dk_96 (dk_at dksX2_drifts_4 8 rfl rfl)
theorem dX2_drifts_102 : decode cX2_drifts 102 = .ok (.aload_n 0, 1) := dk_42 (dk_at dksX2_drifts_4 9 rfl rfl)
theorem dX2_drifts_103 : decode cX2_drifts 103 = .ok (.getfield 106, 3) := dk_180 0 106 (dk_at dksX2_drifts_4 10 rfl rfl)
theorem dX2_drifts_106 : decode cX2_drifts 106 = .ok (.bipush 8, 2) := dk_16 8 (dk_at dksX2_drifts_4 13 rfl rfl)
theorem dX2_drifts_108 : decode cX2_drifts 108 = .ok (.iload_n 2, 1) := dk_28 (dk_at dksX2_drifts_4 15 rfl rfl)
theorem dX2_drifts_109 : decode cX2_drifts 109 = .ok (.imul, 1) := dk_104 (dk_at dksX2_drifts_4 16 rfl rfl)
theorem dX2_drifts_110 : decode cX2_drifts 110 = .ok (.iload_n 3, 1) := dk_29 (dk_at dksX2_drifts_4 17 rfl rfl)
theorem dX2_drifts_111 : decode cX2_drifts 111 = .ok (.iadd, 1) := dk_96 (dk_at dksX2_drifts_4 18 rfl rfl)
theorem dX2_drifts_112 : decode cX2_drifts 112 = .ok (.iaload, 1) := dk_46 (dk_at dksX2_drifts_4 19 rfl rfl)
theorem dX2_drifts_113 : decode cX2_drifts 113 = .ok (.iload 4, 2) := dk_21 4 (dk_at dksX2_drifts_4 20 rfl rfl)
theorem dX2_drifts_115 : decode cX2_drifts 115 = .ok (.iadd, 1) := dk_96 (dk_at dksX2_drifts_4 22 rfl rfl)
theorem dX2_drifts_116 : decode cX2_drifts 116 = .ok (.iastore, 1) := dk_79 (dk_at dksX2_drifts_4 23 rfl rfl)
theorem dX2_drifts_117 : decode cX2_drifts 117 = .ok (.iinc 3 1, 3) := dk_132 3 1 (dk_at dksX2_drifts_5 0 rfl rfl)
theorem dX2_drifts_120 : decode cX2_drifts 120 = .ok (.goto (-87), 3) := dk_167 255 169 (dk_at dksX2_drifts_5 3 rfl rfl)
theorem dX2_drifts_123 : decode cX2_drifts 123 = .ok (.iconst 0, 1) := dk_3 (dk_at dksX2_drifts_5 6 rfl rfl)
theorem dX2_drifts_124 : decode cX2_drifts 124 = .ok (.istore_n 3, 1) := dk_62 (dk_at dksX2_drifts_5 7 rfl rfl)
theorem dX2_drifts_125 : decode cX2_drifts 125 = .ok (.iload_n 3, 1) := dk_29 (dk_at dksX2_drifts_5 8 rfl rfl)
theorem dX2_drifts_126 : decode cX2_drifts 126 = .ok (.aload_n 0, 1) := dk_42 (dk_at dksX2_drifts_5 9 rfl rfl)
theorem dX2_drifts_127 : decode cX2_drifts 127 = .ok (.getfield 125, 3) := dk_180 0 125 (dk_at dksX2_drifts_5 10 rfl rfl)
theorem dX2_drifts_130 : decode cX2_drifts 130 = .ok (.if_icmp .ge 65, 3) := dk_162 0 65 (dk_at dksX2_drifts_5 13 rfl rfl)
theorem dX2_drifts_133 : decode cX2_drifts 133 = .ok (.aload_n 0, 1) := dk_42 (dk_at dksX2_drifts_5 16 rfl rfl)
theorem dX2_drifts_134 : decode cX2_drifts 134 = .ok (.getfield 103, 3) := dk_180 0 103 (dk_at dksX2_drifts_5 17 rfl rfl)
theorem dX2_drifts_137 : decode cX2_drifts 137 = .ok (.iload_n 2, 1) := dk_28 (dk_at dksX2_drifts_5 20 rfl rfl)
theorem dX2_drifts_138 : decode cX2_drifts 138 = .ok (.iaload, 1) := dk_46 (dk_at dksX2_drifts_5 21 rfl rfl)
theorem dX2_drifts_139 : decode cX2_drifts 139 = .ok (.iconst 4, 1) := dk_7 (dk_at dksX2_drifts_5 22 rfl rfl)
theorem dX2_drifts_140 : decode cX2_drifts 140 = .ok (.if_icmp .ne 55, 3) := dk_160 0 55 (dk_at dksX2_drifts_6 0 rfl rfl)
theorem dX2_drifts_143 : decode cX2_drifts 143 = .ok (.aload_n 0, 1) := dk_42 (dk_at dksX2_drifts_6 3 rfl rfl)
theorem dX2_drifts_144 : decode cX2_drifts 144 = .ok (.aload_n 0, 1) := dk_42 (dk_at dksX2_drifts_6 4 rfl rfl)
theorem dX2_drifts_145 : decode cX2_drifts 145 = .ok (.getfield 30, 3) := dk_180 0 30 (dk_at dksX2_drifts_6 5 rfl rfl)
theorem dX2_drifts_148 : decode cX2_drifts 148 = .ok (.iconst 0, 1) := dk_3 (dk_at dksX2_drifts_6 8 rfl rfl)
theorem dX2_drifts_149 : decode cX2_drifts 149 = .ok (.iaload, 1) := dk_46 (dk_at dksX2_drifts_6 9 rfl rfl)
theorem dX2_drifts_150 : decode cX2_drifts 150 = .ok (.invokevirtual 132, 3) := dk_182 0 132 (dk_at dksX2_drifts_6 10 rfl rfl)
theorem dX2_drifts_153 : decode cX2_drifts 153 = .ok (.ifCond .eq 42, 3) := dk_153 0 42 (dk_at dksX2_drifts_6 13 rfl rfl)
theorem dX2_drifts_156 : decode cX2_drifts 156 = .ok (.aload_n 0, 1) := dk_42 (dk_at dksX2_drifts_6 16 rfl rfl)
theorem dX2_drifts_157 : decode cX2_drifts 157 = .ok (.getfield 106, 3) := dk_180 0 106 (dk_at dksX2_drifts_6 17 rfl rfl)
theorem dX2_drifts_160 : decode cX2_drifts 160 = .ok (.bipush 8, 2) := dk_16 8 (dk_at dksX2_drifts_6 20 rfl rfl)
theorem dX2_drifts_162 : decode cX2_drifts 162 = .ok (.iload_n 2, 1) := dk_28 (dk_at dksX2_drifts_6 22 rfl rfl)
theorem dX2_drifts_163 : decode cX2_drifts 163 = .ok (.imul, 1) := dk_104 (dk_at dksX2_drifts_6 23 rfl rfl)
theorem dX2_drifts_164 : decode cX2_drifts 164 = .ok (.bipush 8, 2) := dk_16 8 (dk_at dksX2_drifts_7 0 rfl rfl)
theorem dX2_drifts_166 : decode cX2_drifts 166 = .ok (.iadd, 1) := dk_96 (dk_at dksX2_drifts_7 2 rfl rfl)
theorem dX2_drifts_167 : decode cX2_drifts 167 = .ok (.iload_n 3, 1) := dk_29 (dk_at dksX2_drifts_7 3 rfl rfl)
theorem dX2_drifts_168 : decode cX2_drifts 168 = .ok (.iadd, 1) := dk_96 (dk_at dksX2_drifts_7 4 rfl rfl)
theorem dX2_drifts_169 : decode cX2_drifts 169 = .ok (.aload_n 0, 1) := dk_42 (dk_at dksX2_drifts_7 5 rfl rfl)
theorem dX2_drifts_170 : decode cX2_drifts 170 = .ok (.getfield 106, 3) := dk_180 0 106 (dk_at dksX2_drifts_7 6 rfl rfl)
theorem dX2_drifts_173 : decode cX2_drifts 173 = .ok (.bipush 8, 2) := dk_16 8 (dk_at dksX2_drifts_7 9 rfl rfl)
theorem dX2_drifts_175 : decode cX2_drifts 175 = .ok (.iload_n 2, 1) := dk_28 (dk_at dksX2_drifts_7 11 rfl rfl)
theorem dX2_drifts_176 : decode cX2_drifts 176 = .ok (.imul, 1) := dk_104 (dk_at dksX2_drifts_7 12 rfl rfl)
theorem dX2_drifts_177 : decode cX2_drifts 177 = .ok (.bipush 8, 2) := dk_16 8 (dk_at dksX2_drifts_7 13 rfl rfl)
theorem dX2_drifts_179 : decode cX2_drifts 179 = .ok (.iadd, 1) := dk_96 (dk_at dksX2_drifts_7 15 rfl rfl)
theorem dX2_drifts_180 : decode cX2_drifts 180 = .ok (.aload_n 0, 1) := dk_42 (dk_at dksX2_drifts_7 16 rfl rfl)
theorem dX2_drifts_181 : decode cX2_drifts 181 = .ok (.getfield 30, 3) := dk_180 0 30 (dk_at dksX2_drifts_7 17 rfl rfl)
theorem dX2_drifts_184 : decode cX2_drifts 184 = .ok (.iconst 0, 1) := dk_3 (dk_at dksX2_drifts_7 20 rfl rfl)
theorem dX2_drifts_185 : decode cX2_drifts 185 = .ok (.iaload, 1) := dk_46 (dk_at dksX2_drifts_7 21 rfl rfl)
theorem dX2_drifts_186 : decode cX2_drifts 186 = .ok (.iadd, 1) := dk_96 (dk_at dksX2_drifts_7 22 rfl rfl)
theorem dX2_drifts_187 : decode cX2_drifts 187 = .ok (.iaload, 1) := dk_46 (dk_at dksX2_drifts_7 23 rfl rfl)
theorem dX2_drifts_188 : decode cX2_drifts 188 = .ok (.iastore, 1) := dk_79 (dk_at dksX2_drifts_8 0 rfl rfl)
theorem dX2_drifts_189 : decode cX2_drifts 189 = .ok (.iinc 3 1, 3) := dk_132 3 1 (dk_at dksX2_drifts_8 1 rfl rfl)
theorem dX2_drifts_192 : decode cX2_drifts 192 = .ok (.goto (-67), 3) := dk_167 255 189 (dk_at dksX2_drifts_8 4 rfl rfl)
theorem dX2_drifts_195 : decode cX2_drifts 195 = .ok (.aload_n 0, 1) := dk_42 (dk_at dksX2_drifts_8 7 rfl rfl)
theorem dX2_drifts_196 : decode cX2_drifts 196 = .ok (.getfield 121, 3) := dk_180 0 121 (dk_at dksX2_drifts_8 8 rfl rfl)
theorem dX2_drifts_199 : decode cX2_drifts 199 = .ok (.bipush (-2), 2) := dk_16 254 (dk_at dksX2_drifts_8 11 rfl rfl)
theorem dX2_drifts_201 : decode cX2_drifts 201 = .ok (.if_icmp .eq 35, 3) := dk_159 0 35 (dk_at dksX2_drifts_8 13 rfl rfl)
theorem dX2_drifts_204 : decode cX2_drifts 204 = .ok (.aload_n 0, 1) := dk_42 (dk_at dksX2_drifts_8 16 rfl rfl)
theorem dX2_drifts_205 : decode cX2_drifts 205 = .ok (.getfield 263, 3) := dk_180 1 7 (dk_at dksX2_drifts_8 17 rfl rfl)
theorem dX2_drifts_208 : decode cX2_drifts 208 = .ok (.iload_n 2, 1) := dk_28 (dk_at dksX2_drifts_8 20 rfl rfl)
theorem dX2_drifts_209 : decode cX2_drifts 209 = .ok (.if_icmp .ne 27, 3) := dk_160 0 27 (dk_at dksX2_drifts_8 21 rfl rfl)
theorem dX2_drifts_212 : decode cX2_drifts 212 = .ok (.aload_n 0, 1) := dk_42 (dk_at dksX2_drifts_9 0 rfl rfl)
theorem dX2_drifts_213 : decode cX2_drifts 213 = .ok (.getfield 106, 3) := dk_180 0 106 (dk_at dksX2_drifts_9 1 rfl rfl)
theorem dX2_drifts_216 : decode cX2_drifts 216 = .ok (.bipush 8, 2) := dk_16 8 (dk_at dksX2_drifts_9 4 rfl rfl)
theorem dX2_drifts_218 : decode cX2_drifts 218 = .ok (.iload_n 2, 1) := dk_28 (dk_at dksX2_drifts_9 6 rfl rfl)
theorem dX2_drifts_219 : decode cX2_drifts 219 = .ok (.imul, 1) := dk_104 (dk_at dksX2_drifts_9 7 rfl rfl)
theorem dX2_drifts_220 : decode cX2_drifts 220 = .ok (.bipush 8, 2) := dk_16 8 (dk_at dksX2_drifts_9 8 rfl rfl)
theorem dX2_drifts_222 : decode cX2_drifts 222 = .ok (.iadd, 1) := dk_96 (dk_at dksX2_drifts_9 10 rfl rfl)
theorem dX2_drifts_223 : decode cX2_drifts 223 = .ok (.aload_n 0, 1) := dk_42 (dk_at dksX2_drifts_9 11 rfl rfl)
theorem dX2_drifts_224 : decode cX2_drifts 224 = .ok (.getfield 121, 3) := dk_180 0 121 (dk_at dksX2_drifts_9 12 rfl rfl)
theorem dX2_drifts_227 : decode cX2_drifts 227 = .ok (.iadd, 1) := dk_96 (dk_at dksX2_drifts_9 15 rfl rfl)
theorem dX2_drifts_228 : decode cX2_drifts 228 = .ok (.dup2, 1) := dk_92 (dk_at dksX2_drifts_9 16 rfl rfl)
theorem dX2_drifts_229 : decode cX2_drifts 229 = .ok (.iaload, 1) := dk_46 (dk_at dksX2_drifts_9 17 rfl rfl)
theorem dX2_drifts_230 : decode cX2_drifts 230 = .ok (.aload_n 0, 1) := dk_42 (dk_at dksX2_drifts_9 18 rfl rfl)
theorem dX2_drifts_231 : decode cX2_drifts 231 = .ok (.getfield 266, 3) := dk_180 1 10 (dk_at dksX2_drifts_9 19 rfl rfl)
theorem dX2_drifts_234 : decode cX2_drifts 234 = .ok (.iadd, 1) := dk_96 (dk_at dksX2_drifts_9 22 rfl rfl)
theorem dX2_drifts_235 : decode cX2_drifts 235 = .ok (.iastore, 1) := dk_79 (dk_at dksX2_drifts_9 23 rfl rfl)
theorem dX2_drifts_236 : decode cX2_drifts 236 = .ok (.iinc 2 1, 3) := dk_132 2 1 (dk_at dksX2_drifts_10 0 rfl rfl)
theorem dX2_drifts_239 : decode cX2_drifts 239 = .ok (.goto (-216), 3) := dk_167 255 40 (dk_at dksX2_drifts_10 3 rfl rfl)
theorem dX2_drifts_242 : decode cX2_drifts 242 = .ok (.return_, 1) := dk_177 (dk_at dksX2_drifts_10 6 rfl rfl)
abbrev cX2_marks : ByteArray := prog_31_method_42_code
def yX2_marks : MethodName := ⟨RX2, "marks", "()I"⟩
def dkwX2_marks_5 : List UInt8 := [167, 255, 144, 27, 172]
abbrev dktX2_marks_5 : List UInt8 := dkwX2_marks_5 ++ []
def dkwX2_marks_4 : List UInt8 := [42, 180, 0, 109, 16, 10, 28, 104, 29, 96, 46, 96, 60, 132, 3, 1, 167, 255, 162, 132, 2, 1]
abbrev dktX2_marks_4 : List UInt8 := dkwX2_marks_4 ++ dktX2_marks_5
def dkwX2_marks_3 : List UInt8 := [182, 1, 16, 42, 180, 0, 103, 21, 4, 46, 21, 4, 182, 0, 249, 96, 79, 132, 4, 1, 167, 255, 205, 27]
abbrev dktX2_marks_3 : List UInt8 := dkwX2_marks_3 ++ dktX2_marks_4
def dkwX2_marks_2 : List UInt8 := [42, 180, 0, 109, 16, 10, 28, 104, 29, 96, 92, 46, 42, 28, 29, 42, 28, 29, 21, 4, 4, 96]
abbrev dktX2_marks_2 : List UInt8 := dkwX2_marks_2 ++ dktX2_marks_3
def dkwX2_marks_1 : List UInt8 := [42, 180, 0, 109, 16, 10, 28, 104, 29, 96, 3, 79, 3, 54, 4, 21, 4, 42, 180, 0, 253, 162, 0, 48]
abbrev dktX2_marks_1 : List UInt8 := dkwX2_marks_1 ++ dktX2_marks_2
def dkwX2_marks_0 : List UInt8 := [3, 60, 3, 61, 28, 42, 180, 0, 125, 162, 0, 110, 28, 4, 96, 62, 29, 42, 180, 0, 125, 162, 0, 92]
abbrev dktX2_marks_0 : List UInt8 := dkwX2_marks_0 ++ dktX2_marks_1
theorem dksX2_marks_0 : cX2_marks.data.toList.drop 0 = dktX2_marks_0 := by decide +kernel
theorem dksX2_marks_1 : cX2_marks.data.toList.drop 24 = dktX2_marks_1 := dk_seg dksX2_marks_0 24 rfl rfl
theorem dksX2_marks_2 : cX2_marks.data.toList.drop 48 = dktX2_marks_2 := dk_seg dksX2_marks_1 24 rfl rfl
theorem dksX2_marks_3 : cX2_marks.data.toList.drop 70 = dktX2_marks_3 := dk_seg dksX2_marks_2 22 rfl rfl
theorem dksX2_marks_4 : cX2_marks.data.toList.drop 94 = dktX2_marks_4 := dk_seg dksX2_marks_3 24 rfl rfl
theorem dksX2_marks_5 : cX2_marks.data.toList.drop 116 = dktX2_marks_5 := dk_seg dksX2_marks_4 22 rfl rfl
theorem dX2_marks_0 : decode cX2_marks 0 = .ok (.iconst 0, 1) := dk_3 (dk_at dksX2_marks_0 0 rfl rfl)
theorem dX2_marks_1 : decode cX2_marks 1 = .ok (.istore_n 1, 1) := dk_60 (dk_at dksX2_marks_0 1 rfl rfl)
theorem dX2_marks_2 : decode cX2_marks 2 = .ok (.iconst 0, 1) := dk_3 (dk_at dksX2_marks_0 2 rfl rfl)
theorem dX2_marks_3 : decode cX2_marks 3 = .ok (.istore_n 2, 1) := dk_61 (dk_at dksX2_marks_0 3 rfl rfl)
theorem dX2_marks_4 : decode cX2_marks 4 = .ok (.iload_n 2, 1) := dk_28 (dk_at dksX2_marks_0 4 rfl rfl)
theorem dX2_marks_5 : decode cX2_marks 5 = .ok (.aload_n 0, 1) := dk_42 (dk_at dksX2_marks_0 5 rfl rfl)
theorem dX2_marks_6 : decode cX2_marks 6 = .ok (.getfield 125, 3) := dk_180 0 125 (dk_at dksX2_marks_0 6 rfl rfl)
theorem dX2_marks_9 : decode cX2_marks 9 = .ok (.if_icmp .ge 110, 3) := dk_162 0 110 (dk_at dksX2_marks_0 9 rfl rfl)
theorem dX2_marks_12 : decode cX2_marks 12 = .ok (.iload_n 2, 1) := dk_28 (dk_at dksX2_marks_0 12 rfl rfl)
theorem dX2_marks_13 : decode cX2_marks 13 = .ok (.iconst 1, 1) := dk_4 (dk_at dksX2_marks_0 13 rfl rfl)
theorem dX2_marks_14 : decode cX2_marks 14 = .ok (.iadd, 1) := dk_96 (dk_at dksX2_marks_0 14 rfl rfl)
theorem dX2_marks_15 : decode cX2_marks 15 = .ok (.istore_n 3, 1) := dk_62 (dk_at dksX2_marks_0 15 rfl rfl)
theorem dX2_marks_16 : decode cX2_marks 16 = .ok (.iload_n 3, 1) := dk_29 (dk_at dksX2_marks_0 16 rfl rfl)
theorem dX2_marks_17 : decode cX2_marks 17 = .ok (.aload_n 0, 1) := dk_42 (dk_at dksX2_marks_0 17 rfl rfl)
theorem dX2_marks_18 : decode cX2_marks 18 = .ok (.getfield 125, 3) := dk_180 0 125 (dk_at dksX2_marks_0 18 rfl rfl)
theorem dX2_marks_21 : decode cX2_marks 21 = .ok (.if_icmp .ge 92, 3) := dk_162 0 92 (dk_at dksX2_marks_0 21 rfl rfl)
theorem dX2_marks_24 : decode cX2_marks 24 = .ok (.aload_n 0, 1) := dk_42 (dk_at dksX2_marks_1 0 rfl rfl)
theorem dX2_marks_25 : decode cX2_marks 25 = .ok (.getfield 109, 3) := dk_180 0 109 (dk_at dksX2_marks_1 1 rfl rfl)
theorem dX2_marks_28 : decode cX2_marks 28 = .ok (.bipush 10, 2) := dk_16 10 (dk_at dksX2_marks_1 4 rfl rfl)
theorem dX2_marks_30 : decode cX2_marks 30 = .ok (.iload_n 2, 1) := dk_28 (dk_at dksX2_marks_1 6 rfl rfl)
theorem dX2_marks_31 : decode cX2_marks 31 = .ok (.imul, 1) := dk_104 (dk_at dksX2_marks_1 7 rfl rfl)
theorem dX2_marks_32 : decode cX2_marks 32 = .ok (.iload_n 3, 1) := dk_29 (dk_at dksX2_marks_1 8 rfl rfl)
theorem dX2_marks_33 : decode cX2_marks 33 = .ok (.iadd, 1) := dk_96 (dk_at dksX2_marks_1 9 rfl rfl)
theorem dX2_marks_34 : decode cX2_marks 34 = .ok (.iconst 0, 1) := dk_3 (dk_at dksX2_marks_1 10 rfl rfl)
theorem dX2_marks_35 : decode cX2_marks 35 = .ok (.iastore, 1) := dk_79 (dk_at dksX2_marks_1 11 rfl rfl)
theorem dX2_marks_36 : decode cX2_marks 36 = .ok (.iconst 0, 1) := dk_3 (dk_at dksX2_marks_1 12 rfl rfl)
theorem dX2_marks_37 : decode cX2_marks 37 = .ok (.istore 4, 2) := dk_54 4 (dk_at dksX2_marks_1 13 rfl rfl)
theorem dX2_marks_39 : decode cX2_marks 39 = .ok (.iload 4, 2) := dk_21 4 (dk_at dksX2_marks_1 15 rfl rfl)
theorem dX2_marks_41 : decode cX2_marks 41 = .ok (.aload_n 0, 1) := dk_42 (dk_at dksX2_marks_1 17 rfl rfl)
theorem dX2_marks_42 : decode cX2_marks 42 = .ok (.getfield 253, 3) := dk_180 0 253 (dk_at dksX2_marks_1 18 rfl rfl)
theorem dX2_marks_45 : decode cX2_marks 45 = .ok (.if_icmp .ge 48, 3) := dk_162 0 48 (dk_at dksX2_marks_1 21 rfl rfl)
theorem dX2_marks_48 : decode cX2_marks 48 = .ok (.aload_n 0, 1) := dk_42 (dk_at dksX2_marks_2 0 rfl rfl)
theorem dX2_marks_49 : decode cX2_marks 49 = .ok (.getfield 109, 3) := dk_180 0 109 (dk_at dksX2_marks_2 1 rfl rfl)
theorem dX2_marks_52 : decode cX2_marks 52 = .ok (.bipush 10, 2) := dk_16 10 (dk_at dksX2_marks_2 4 rfl rfl)
theorem dX2_marks_54 : decode cX2_marks 54 = .ok (.iload_n 2, 1) := dk_28 (dk_at dksX2_marks_2 6 rfl rfl)
theorem dX2_marks_55 : decode cX2_marks 55 = .ok (.imul, 1) := dk_104 (dk_at dksX2_marks_2 7 rfl rfl)
theorem dX2_marks_56 : decode cX2_marks 56 = .ok (.iload_n 3, 1) := dk_29 (dk_at dksX2_marks_2 8 rfl rfl)
theorem dX2_marks_57 : decode cX2_marks 57 = .ok (.iadd, 1) := dk_96 (dk_at dksX2_marks_2 9 rfl rfl)
theorem dX2_marks_58 : decode cX2_marks 58 = .ok (.dup2, 1) := dk_92 (dk_at dksX2_marks_2 10 rfl rfl)
theorem dX2_marks_59 : decode cX2_marks 59 = .ok (.iaload, 1) := dk_46 (dk_at dksX2_marks_2 11 rfl rfl)
theorem dX2_marks_60 : decode cX2_marks 60 = .ok (.aload_n 0, 1) := dk_42 (dk_at dksX2_marks_2 12 rfl rfl)
theorem dX2_marks_61 : decode cX2_marks 61 = .ok (.iload_n 2, 1) := dk_28 (dk_at dksX2_marks_2 13 rfl rfl)
theorem dX2_marks_62 : decode cX2_marks 62 = .ok (.iload_n 3, 1) := dk_29 (dk_at dksX2_marks_2 14 rfl rfl)
theorem dX2_marks_63 : decode cX2_marks 63 = .ok (.aload_n 0, 1) := dk_42 (dk_at dksX2_marks_2 15 rfl rfl)
theorem dX2_marks_64 : decode cX2_marks 64 = .ok (.iload_n 2, 1) := dk_28 (dk_at dksX2_marks_2 16 rfl rfl)
theorem dX2_marks_65 : decode cX2_marks 65 = .ok (.iload_n 3, 1) := dk_29 (dk_at dksX2_marks_2 17 rfl rfl)
theorem dX2_marks_66 : decode cX2_marks 66 = .ok (.iload 4, 2) := dk_21 4 (dk_at dksX2_marks_2 18 rfl rfl)
theorem dX2_marks_68 : decode cX2_marks 68 = .ok (.iconst 1, 1) := dk_4 (dk_at dksX2_marks_2 20 rfl rfl)
theorem dX2_marks_69 : decode cX2_marks 69 = .ok (.iadd, 1) := dk_96 (dk_at dksX2_marks_2 21 rfl rfl)
theorem dX2_marks_70 : decode cX2_marks 70 = .ok (.invokevirtual 272, 3) := dk_182 1 16 (dk_at dksX2_marks_3 0 rfl rfl)
theorem dX2_marks_73 : decode cX2_marks 73 = .ok (.aload_n 0, 1) := dk_42 (dk_at dksX2_marks_3 3 rfl rfl)
theorem dX2_marks_74 : decode cX2_marks 74 = .ok (.getfield 103, 3) := dk_180 0 103 (dk_at dksX2_marks_3 4 rfl rfl)
theorem dX2_marks_77 : decode cX2_marks 77 = .ok (.iload 4, 2) := dk_21 4 (dk_at dksX2_marks_3 7 rfl rfl)
theorem dX2_marks_79 : decode cX2_marks 79 = .ok (.iaload, 1) := dk_46 (dk_at dksX2_marks_3 9 rfl rfl)
theorem dX2_marks_80 : decode cX2_marks 80 = .ok (.iload 4, 2) := dk_21 4 (dk_at dksX2_marks_3 10 rfl rfl)
theorem dX2_marks_82 : decode cX2_marks 82 = .ok (.invokevirtual 249, 3) := dk_182 0 249 (dk_at dksX2_marks_3 12 rfl rfl)
theorem dX2_marks_85 : decode cX2_marks 85 = .ok (.iadd, 1) := dk_96 (dk_at dksX2_marks_3 15 rfl rfl)
theorem dX2_marks_86 : decode cX2_marks 86 = .ok (.iastore, 1) := dk_79 (dk_at dksX2_marks_3 16 rfl rfl)
theorem dX2_marks_87 : decode cX2_marks 87 = .ok (.iinc 4 1, 3) := dk_132 4 1 (dk_at dksX2_marks_3 17 rfl rfl)
theorem dX2_marks_90 : decode cX2_marks 90 = .ok (.goto (-51), 3) := dk_167 255 205 (dk_at dksX2_marks_3 20 rfl rfl)
theorem dX2_marks_93 : decode cX2_marks 93 = .ok (.iload_n 1, 1) := dk_27 (dk_at dksX2_marks_3 23 rfl rfl)
theorem dX2_marks_94 : decode cX2_marks 94 = .ok (.aload_n 0, 1) := dk_42 (dk_at dksX2_marks_4 0 rfl rfl)
theorem dX2_marks_95 : decode cX2_marks 95 = .ok (.getfield 109, 3) := dk_180 0 109 (dk_at dksX2_marks_4 1 rfl rfl)
theorem dX2_marks_98 : decode cX2_marks 98 = .ok (.bipush 10, 2) := dk_16 10 (dk_at dksX2_marks_4 4 rfl rfl)
theorem dX2_marks_100 : decode cX2_marks 100 = .ok (.iload_n 2, 1) := dk_28 (dk_at dksX2_marks_4 6 rfl rfl)
theorem dX2_marks_101 : decode cX2_marks 101 = .ok (.imul, 1) := dk_104 (dk_at dksX2_marks_4 7 rfl rfl)
theorem dX2_marks_102 : decode cX2_marks 102 = .ok (.iload_n 3, 1) := dk_29 (dk_at dksX2_marks_4 8 rfl rfl)
theorem dX2_marks_103 : decode cX2_marks 103 = .ok (.iadd, 1) := dk_96 (dk_at dksX2_marks_4 9 rfl rfl)
theorem dX2_marks_104 : decode cX2_marks 104 = .ok (.iaload, 1) := dk_46 (dk_at dksX2_marks_4 10 rfl rfl)
theorem dX2_marks_105 : decode cX2_marks 105 = .ok (.iadd, 1) := dk_96 (dk_at dksX2_marks_4 11 rfl rfl)
theorem dX2_marks_106 : decode cX2_marks 106 = .ok (.istore_n 1, 1) := dk_60 (dk_at dksX2_marks_4 12 rfl rfl)
theorem dX2_marks_107 : decode cX2_marks 107 = .ok (.iinc 3 1, 3) := dk_132 3 1 (dk_at dksX2_marks_4 13 rfl rfl)
theorem dX2_marks_110 : decode cX2_marks 110 = .ok (.goto (-94), 3) := dk_167 255 162 (dk_at dksX2_marks_4 16 rfl rfl)
theorem dX2_marks_113 : decode cX2_marks 113 = .ok (.iinc 2 1, 3) := dk_132 2 1 (dk_at dksX2_marks_4 19 rfl rfl)
theorem dX2_marks_116 : decode cX2_marks 116 = .ok (.goto (-112), 3) := dk_167 255 144 (dk_at dksX2_marks_5 0 rfl rfl)
theorem dX2_marks_119 : decode cX2_marks 119 = .ok (.iload_n 1, 1) := dk_27 (dk_at dksX2_marks_5 3 rfl rfl)
theorem dX2_marks_120 : decode cX2_marks 120 = .ok (.ireturn, 1) := dk_172 (dk_at dksX2_marks_5 4 rfl rfl)
abbrev cX2_apartOf : ByteArray := prog_31_method_39_code
def yX2_apartOf : MethodName := ⟨RX2, "apartOf", "(III)I"⟩
def dkwX2_apartOf_0 : List UInt8 := [42, 27, 29, 182, 1, 13, 42, 28, 29, 182, 1, 13, 100, 184, 0, 237, 172]
abbrev dktX2_apartOf_0 : List UInt8 := dkwX2_apartOf_0 ++ []
theorem dksX2_apartOf_0 : cX2_apartOf.data.toList.drop 0 = dktX2_apartOf_0 := by decide +kernel
theorem dX2_apartOf_0 : decode cX2_apartOf 0 = .ok (.aload_n 0, 1) := dk_42 (dk_at dksX2_apartOf_0 0 rfl rfl)
theorem dX2_apartOf_1 : decode cX2_apartOf 1 = .ok (.iload_n 1, 1) := dk_27 (dk_at dksX2_apartOf_0 1 rfl rfl)
theorem dX2_apartOf_2 : decode cX2_apartOf 2 = .ok (.iload_n 3, 1) := dk_29 (dk_at dksX2_apartOf_0 2 rfl rfl)
theorem dX2_apartOf_3 : decode cX2_apartOf 3 = .ok (.invokevirtual 269, 3) := dk_182 1 13 (dk_at dksX2_apartOf_0 3 rfl rfl)
theorem dX2_apartOf_6 : decode cX2_apartOf 6 = .ok (.aload_n 0, 1) := dk_42 (dk_at dksX2_apartOf_0 6 rfl rfl)
theorem dX2_apartOf_7 : decode cX2_apartOf 7 = .ok (.iload_n 2, 1) := dk_28 (dk_at dksX2_apartOf_0 7 rfl rfl)
theorem dX2_apartOf_8 : decode cX2_apartOf 8 = .ok (.iload_n 3, 1) := dk_29 (dk_at dksX2_apartOf_0 8 rfl rfl)
theorem dX2_apartOf_9 : decode cX2_apartOf 9 = .ok (.invokevirtual 269, 3) := dk_182 1 13 (dk_at dksX2_apartOf_0 9 rfl rfl)
theorem dX2_apartOf_12 : decode cX2_apartOf 12 = .ok (.isub, 1) := dk_100 (dk_at dksX2_apartOf_0 12 rfl rfl)
theorem dX2_apartOf_13 : decode cX2_apartOf 13 = .ok (.invokestatic 237, 3) := dk_184 0 237 (dk_at dksX2_apartOf_0 13 rfl rfl)
theorem dX2_apartOf_16 : decode cX2_apartOf 16 = .ok (.ireturn, 1) := dk_172 (dk_at dksX2_apartOf_0 16 rfl rfl)
abbrev cX2_offOf : ByteArray := prog_31_method_38_code
def yX2_offOf : MethodName := ⟨RX2, "offOf", "(II)I"⟩
def dkwX2_offOf_0 : List UInt8 := [42, 180, 0, 106, 16, 8, 28, 104, 27, 96, 46, 42, 180, 0, 27, 27, 46, 100, 172]
abbrev dktX2_offOf_0 : List UInt8 := dkwX2_offOf_0 ++ []
theorem dksX2_offOf_0 : cX2_offOf.data.toList.drop 0 = dktX2_offOf_0 := by decide +kernel
theorem dX2_offOf_0 : decode cX2_offOf 0 = .ok (.aload_n 0, 1) := dk_42 (dk_at dksX2_offOf_0 0 rfl rfl)
theorem dX2_offOf_1 : decode cX2_offOf 1 = .ok (.getfield 106, 3) := dk_180 0 106 (dk_at dksX2_offOf_0 1 rfl rfl)
theorem dX2_offOf_4 : decode cX2_offOf 4 = .ok (.bipush 8, 2) := dk_16 8 (dk_at dksX2_offOf_0 4 rfl rfl)
theorem dX2_offOf_6 : decode cX2_offOf 6 = .ok (.iload_n 2, 1) := dk_28 (dk_at dksX2_offOf_0 6 rfl rfl)
theorem dX2_offOf_7 : decode cX2_offOf 7 = .ok (.imul, 1) := dk_104 (dk_at dksX2_offOf_0 7 rfl rfl)
theorem dX2_offOf_8 : decode cX2_offOf 8 = .ok (.iload_n 1, 1) := dk_27 (dk_at dksX2_offOf_0 8 rfl rfl)
theorem dX2_offOf_9 : decode cX2_offOf 9 = .ok (.iadd, 1) := dk_96 (dk_at dksX2_offOf_0 9 rfl rfl)
theorem dX2_offOf_10 : decode cX2_offOf 10 = .ok (.iaload, 1) := dk_46 (dk_at dksX2_offOf_0 10 rfl rfl)
theorem dX2_offOf_11 : decode cX2_offOf 11 = .ok (.aload_n 0, 1) := dk_42 (dk_at dksX2_offOf_0 11 rfl rfl)
theorem dX2_offOf_12 : decode cX2_offOf 12 = .ok (.getfield 27, 3) := dk_180 0 27 (dk_at dksX2_offOf_0 12 rfl rfl)
theorem dX2_offOf_15 : decode cX2_offOf 15 = .ok (.iload_n 1, 1) := dk_27 (dk_at dksX2_offOf_0 15 rfl rfl)
theorem dX2_offOf_16 : decode cX2_offOf 16 = .ok (.iaload, 1) := dk_46 (dk_at dksX2_offOf_0 16 rfl rfl)
theorem dX2_offOf_17 : decode cX2_offOf 17 = .ok (.isub, 1) := dk_100 (dk_at dksX2_offOf_0 17 rfl rfl)
theorem dX2_offOf_18 : decode cX2_offOf 18 = .ok (.ireturn, 1) := dk_172 (dk_at dksX2_offOf_0 18 rfl rfl)
abbrev cX2_firstApart : ByteArray := prog_31_method_44_code
def yX2_firstApart : MethodName := ⟨RX2, "firstApart", "()I"⟩
def dkwX2_firstApart_1 : List UInt8 := [182, 1, 29, 42, 180, 0, 30, 4, 46, 161, 0, 5, 27, 172, 132, 1, 1, 167, 255, 219, 16, 254, 172]
abbrev dktX2_firstApart_1 : List UInt8 := dkwX2_firstApart_1 ++ []
def dkwX2_firstApart_0 : List UInt8 := [3, 60, 27, 42, 180, 0, 253, 162, 0, 35, 42, 180, 0, 125, 4, 164, 0, 21, 42, 27, 4, 96]
abbrev dktX2_firstApart_0 : List UInt8 := dkwX2_firstApart_0 ++ dktX2_firstApart_1
theorem dksX2_firstApart_0 : cX2_firstApart.data.toList.drop 0 = dktX2_firstApart_0 := by decide +kernel
theorem dksX2_firstApart_1 : cX2_firstApart.data.toList.drop 22 = dktX2_firstApart_1 := dk_seg dksX2_firstApart_0 22 rfl rfl
theorem dX2_firstApart_0 : decode cX2_firstApart 0 = .ok (.iconst 0, 1) := dk_3 (dk_at dksX2_firstApart_0 0 rfl rfl)
theorem dX2_firstApart_1 : decode cX2_firstApart 1 = .ok (.istore_n 1, 1) := dk_60 (dk_at dksX2_firstApart_0 1 rfl rfl)
theorem dX2_firstApart_2 : decode cX2_firstApart 2 = .ok (.iload_n 1, 1) := dk_27 (dk_at dksX2_firstApart_0 2 rfl rfl)
theorem dX2_firstApart_3 : decode cX2_firstApart 3 = .ok (.aload_n 0, 1) := dk_42 (dk_at dksX2_firstApart_0 3 rfl rfl)
theorem dX2_firstApart_4 : decode cX2_firstApart 4 = .ok (.getfield 253, 3) := dk_180 0 253 (dk_at dksX2_firstApart_0 4 rfl rfl)
theorem dX2_firstApart_7 : decode cX2_firstApart 7 = .ok (.if_icmp .ge 35, 3) := dk_162 0 35 (dk_at dksX2_firstApart_0 7 rfl rfl)
theorem dX2_firstApart_10 : decode cX2_firstApart 10 = .ok (.aload_n 0, 1) := dk_42 (dk_at dksX2_firstApart_0 10 rfl rfl)
theorem dX2_firstApart_11 : decode cX2_firstApart 11 = .ok (.getfield 125, 3) := dk_180 0 125 (dk_at dksX2_firstApart_0 11 rfl rfl)
theorem dX2_firstApart_14 : decode cX2_firstApart 14 = .ok (.iconst 1, 1) := dk_4 (dk_at dksX2_firstApart_0 14 rfl rfl)
theorem dX2_firstApart_15 : decode cX2_firstApart 15 = .ok (.if_icmp .le 21, 3) := dk_164 0 21 (dk_at dksX2_firstApart_0 15 rfl rfl)
theorem dX2_firstApart_18 : decode cX2_firstApart 18 = .ok (.aload_n 0, 1) := dk_42 (dk_at dksX2_firstApart_0 18 rfl rfl)
theorem dX2_firstApart_19 : decode cX2_firstApart 19 = .ok (.iload_n 1, 1) := dk_27 (dk_at dksX2_firstApart_0 19 rfl rfl)
theorem dX2_firstApart_20 : decode cX2_firstApart 20 = .ok (.iconst 1, 1) := dk_4 (dk_at dksX2_firstApart_0 20 rfl rfl)
theorem dX2_firstApart_21 : decode cX2_firstApart 21 = .ok (.iadd, 1) := dk_96 (dk_at dksX2_firstApart_0 21 rfl rfl)
theorem dX2_firstApart_22 : decode cX2_firstApart 22 = .ok (.invokevirtual 285, 3) := dk_182 1 29 (dk_at dksX2_firstApart_1 0 rfl rfl)
theorem dX2_firstApart_25 : decode cX2_firstApart 25 = .ok (.aload_n 0, 1) := dk_42 (dk_at dksX2_firstApart_1 3 rfl rfl)
theorem dX2_firstApart_26 : decode cX2_firstApart 26 = .ok (.getfield 30, 3) := dk_180 0 30 (dk_at dksX2_firstApart_1 4 rfl rfl)
theorem dX2_firstApart_29 : decode cX2_firstApart 29 = .ok (.iconst 1, 1) := dk_4 (dk_at dksX2_firstApart_1 7 rfl rfl)
theorem dX2_firstApart_30 : decode cX2_firstApart 30 = .ok (.iaload, 1) := dk_46 (dk_at dksX2_firstApart_1 8 rfl rfl)
theorem dX2_firstApart_31 : decode cX2_firstApart 31 = .ok (.if_icmp .lt 5, 3) := dk_161 0 5 (dk_at dksX2_firstApart_1 9 rfl rfl)
theorem dX2_firstApart_34 : decode cX2_firstApart 34 = .ok (.iload_n 1, 1) := dk_27 (dk_at dksX2_firstApart_1 12 rfl rfl)
theorem dX2_firstApart_35 : decode cX2_firstApart 35 = .ok (.ireturn, 1) := dk_172 (dk_at dksX2_firstApart_1 13 rfl rfl)
theorem dX2_firstApart_36 : decode cX2_firstApart 36 = .ok (.iinc 1 1, 3) := dk_132 1 1 (dk_at dksX2_firstApart_1 14 rfl rfl)
theorem dX2_firstApart_39 : decode cX2_firstApart 39 = .ok (.goto (-37), 3) := dk_167 255 219 (dk_at dksX2_firstApart_1 17 rfl rfl)
theorem dX2_firstApart_42 : decode cX2_firstApart 42 = .ok (.bipush (-2), 2) := dk_16 254 (dk_at dksX2_firstApart_1 20 rfl rfl)
theorem dX2_firstApart_44 : decode cX2_firstApart 44 = .ok (.ireturn, 1) := dk_172 (dk_at dksX2_firstApart_1 22 rfl rfl)
abbrev cX2_greatest : ByteArray := prog_31_method_41_code
def yX2_greatest : MethodName := ⟨RX2, "greatest", "(I)I"⟩
def dkwX2_greatest_1 : List UInt8 := [112, 27, 182, 1, 16, 172]
abbrev dktX2_greatest_1 : List UInt8 := dkwX2_greatest_1 ++ []
def dkwX2_greatest_0 : List UInt8 := [42, 27, 182, 1, 19, 61, 28, 16, 254, 160, 0, 7, 3, 167, 0, 16, 42, 28, 16, 10, 108, 28, 16, 10]
abbrev dktX2_greatest_0 : List UInt8 := dkwX2_greatest_0 ++ dktX2_greatest_1
theorem dksX2_greatest_0 : cX2_greatest.data.toList.drop 0 = dktX2_greatest_0 := by decide +kernel
theorem dksX2_greatest_1 : cX2_greatest.data.toList.drop 24 = dktX2_greatest_1 := dk_seg dksX2_greatest_0 24 rfl rfl
theorem dX2_greatest_0 : decode cX2_greatest 0 = .ok (.aload_n 0, 1) := dk_42 (dk_at dksX2_greatest_0 0 rfl rfl)
theorem dX2_greatest_1 : decode cX2_greatest 1 = .ok (.iload_n 1, 1) := dk_27 (dk_at dksX2_greatest_0 1 rfl rfl)
theorem dX2_greatest_2 : decode cX2_greatest 2 = .ok (.invokevirtual 275, 3) := dk_182 1 19 (dk_at dksX2_greatest_0 2 rfl rfl)
theorem dX2_greatest_5 : decode cX2_greatest 5 = .ok (.istore_n 2, 1) := dk_61 (dk_at dksX2_greatest_0 5 rfl rfl)
theorem dX2_greatest_6 : decode cX2_greatest 6 = .ok (.iload_n 2, 1) := dk_28 (dk_at dksX2_greatest_0 6 rfl rfl)
theorem dX2_greatest_7 : decode cX2_greatest 7 = .ok (.bipush (-2), 2) := dk_16 254 (dk_at dksX2_greatest_0 7 rfl rfl)
theorem dX2_greatest_9 : decode cX2_greatest 9 = .ok (.if_icmp .ne 7, 3) := dk_160 0 7 (dk_at dksX2_greatest_0 9 rfl rfl)
theorem dX2_greatest_12 : decode cX2_greatest 12 = .ok (.iconst 0, 1) := dk_3 (dk_at dksX2_greatest_0 12 rfl rfl)
theorem dX2_greatest_13 : decode cX2_greatest 13 = .ok (.goto 16, 3) := dk_167 0 16 (dk_at dksX2_greatest_0 13 rfl rfl)
theorem dX2_greatest_16 : decode cX2_greatest 16 = .ok (.aload_n 0, 1) := dk_42 (dk_at dksX2_greatest_0 16 rfl rfl)
theorem dX2_greatest_17 : decode cX2_greatest 17 = .ok (.iload_n 2, 1) := dk_28 (dk_at dksX2_greatest_0 17 rfl rfl)
theorem dX2_greatest_18 : decode cX2_greatest 18 = .ok (.bipush 10, 2) := dk_16 10 (dk_at dksX2_greatest_0 18 rfl rfl)
theorem dX2_greatest_20 : decode cX2_greatest 20 = .ok (.idiv, 1) := dk_108 (dk_at dksX2_greatest_0 20 rfl rfl)
theorem dX2_greatest_21 : decode cX2_greatest 21 = .ok (.iload_n 2, 1) := dk_28 (dk_at dksX2_greatest_0 21 rfl rfl)
theorem dX2_greatest_22 : decode cX2_greatest 22 = .ok (.bipush 10, 2) := dk_16 10 (dk_at dksX2_greatest_0 22 rfl rfl)
theorem dX2_greatest_24 : decode cX2_greatest 24 = .ok (.irem, 1) := dk_112 (dk_at dksX2_greatest_1 0 rfl rfl)
theorem dX2_greatest_25 : decode cX2_greatest 25 = .ok (.iload_n 1, 1) := dk_27 (dk_at dksX2_greatest_1 1 rfl rfl)
theorem dX2_greatest_26 : decode cX2_greatest 26 = .ok (.invokevirtual 272, 3) := dk_182 1 16 (dk_at dksX2_greatest_1 2 rfl rfl)
theorem dX2_greatest_29 : decode cX2_greatest 29 = .ok (.ireturn, 1) := dk_172 (dk_at dksX2_greatest_1 5 rfl rfl)
abbrev cX2_farthest : ByteArray := prog_31_method_40_code
def yX2_farthest : MethodName := ⟨RX2, "farthest", "(I)I"⟩
def dkwX2_farthest_3 : List UInt8 := [132, 5, 1, 167, 255, 209, 132, 4, 1, 167, 255, 188, 28, 172]
abbrev dktX2_farthest_3 : List UInt8 := dkwX2_farthest_3 ++ []
def dkwX2_farthest_2 : List UInt8 := [167, 0, 22, 42, 21, 4, 21, 5, 27, 182, 1, 16, 62, 16, 10, 21, 4, 104, 21, 5, 96, 61]
abbrev dktX2_farthest_2 : List UInt8 := dkwX2_farthest_2 ++ dktX2_farthest_3
def dkwX2_farthest_1 : List UInt8 := [21, 5, 42, 180, 0, 125, 162, 0, 44, 42, 21, 4, 21, 5, 27, 182, 1, 16, 29, 163, 0, 6]
abbrev dktX2_farthest_1 : List UInt8 := dkwX2_farthest_1 ++ dktX2_farthest_2
def dkwX2_farthest_0 : List UInt8 := [16, 254, 61, 2, 62, 3, 54, 4, 21, 4, 42, 180, 0, 125, 162, 0, 65, 21, 4, 4, 96, 54, 5]
abbrev dktX2_farthest_0 : List UInt8 := dkwX2_farthest_0 ++ dktX2_farthest_1
theorem dksX2_farthest_0 : cX2_farthest.data.toList.drop 0 = dktX2_farthest_0 := by decide +kernel
theorem dksX2_farthest_1 : cX2_farthest.data.toList.drop 23 = dktX2_farthest_1 := dk_seg dksX2_farthest_0 23 rfl rfl
theorem dksX2_farthest_2 : cX2_farthest.data.toList.drop 45 = dktX2_farthest_2 := dk_seg dksX2_farthest_1 22 rfl rfl
theorem dksX2_farthest_3 : cX2_farthest.data.toList.drop 67 = dktX2_farthest_3 := dk_seg dksX2_farthest_2 22 rfl rfl
theorem dX2_farthest_0 : decode cX2_farthest 0 = .ok (.bipush (-2), 2) := dk_16 254 (dk_at dksX2_farthest_0 0 rfl rfl)
theorem dX2_farthest_2 : decode cX2_farthest 2 = .ok (.istore_n 2, 1) := dk_61 (dk_at dksX2_farthest_0 2 rfl rfl)
theorem dX2_farthest_3 : decode cX2_farthest 3 = .ok (.iconst (-1), 1) := dk_2 (dk_at dksX2_farthest_0 3 rfl rfl)
theorem dX2_farthest_4 : decode cX2_farthest 4 = .ok (.istore_n 3, 1) := dk_62 (dk_at dksX2_farthest_0 4 rfl rfl)
theorem dX2_farthest_5 : decode cX2_farthest 5 = .ok (.iconst 0, 1) := dk_3 (dk_at dksX2_farthest_0 5 rfl rfl)
theorem dX2_farthest_6 : decode cX2_farthest 6 = .ok (.istore 4, 2) := dk_54 4 (dk_at dksX2_farthest_0 6 rfl rfl)
theorem dX2_farthest_8 : decode cX2_farthest 8 = .ok (.iload 4, 2) := dk_21 4 (dk_at dksX2_farthest_0 8 rfl rfl)
theorem dX2_farthest_10 : decode cX2_farthest 10 = .ok (.aload_n 0, 1) := dk_42 (dk_at dksX2_farthest_0 10 rfl rfl)
theorem dX2_farthest_11 : decode cX2_farthest 11 = .ok (.getfield 125, 3) := dk_180 0 125 (dk_at dksX2_farthest_0 11 rfl rfl)
theorem dX2_farthest_14 : decode cX2_farthest 14 = .ok (.if_icmp .ge 65, 3) := dk_162 0 65 (dk_at dksX2_farthest_0 14 rfl rfl)
theorem dX2_farthest_17 : decode cX2_farthest 17 = .ok (.iload 4, 2) := dk_21 4 (dk_at dksX2_farthest_0 17 rfl rfl)
theorem dX2_farthest_19 : decode cX2_farthest 19 = .ok (.iconst 1, 1) := dk_4 (dk_at dksX2_farthest_0 19 rfl rfl)
theorem dX2_farthest_20 : decode cX2_farthest 20 = .ok (.iadd, 1) := dk_96 (dk_at dksX2_farthest_0 20 rfl rfl)
theorem dX2_farthest_21 : decode cX2_farthest 21 = .ok (.istore 5, 2) := dk_54 5 (dk_at dksX2_farthest_0 21 rfl rfl)
theorem dX2_farthest_23 : decode cX2_farthest 23 = .ok (.iload 5, 2) := dk_21 5 (dk_at dksX2_farthest_1 0 rfl rfl)
theorem dX2_farthest_25 : decode cX2_farthest 25 = .ok (.aload_n 0, 1) := dk_42 (dk_at dksX2_farthest_1 2 rfl rfl)
theorem dX2_farthest_26 : decode cX2_farthest 26 = .ok (.getfield 125, 3) := dk_180 0 125 (dk_at dksX2_farthest_1 3 rfl rfl)
theorem dX2_farthest_29 : decode cX2_farthest 29 = .ok (.if_icmp .ge 44, 3) := dk_162 0 44 (dk_at dksX2_farthest_1 6 rfl rfl)
theorem dX2_farthest_32 : decode cX2_farthest 32 = .ok (.aload_n 0, 1) := dk_42 (dk_at dksX2_farthest_1 9 rfl rfl)
theorem dX2_farthest_33 : decode cX2_farthest 33 = .ok (.iload 4, 2) := dk_21 4 (dk_at dksX2_farthest_1 10 rfl rfl)
theorem dX2_farthest_35 : decode cX2_farthest 35 = .ok (.iload 5, 2) := dk_21 5 (dk_at dksX2_farthest_1 12 rfl rfl)
theorem dX2_farthest_37 : decode cX2_farthest 37 = .ok (.iload_n 1, 1) := dk_27 (dk_at dksX2_farthest_1 14 rfl rfl)
theorem dX2_farthest_38 : decode cX2_farthest 38 = .ok (.invokevirtual 272, 3) := dk_182 1 16 (dk_at dksX2_farthest_1 15 rfl rfl)
theorem dX2_farthest_41 : decode cX2_farthest 41 = .ok (.iload_n 3, 1) := dk_29 (dk_at dksX2_farthest_1 18 rfl rfl)
theorem dX2_farthest_42 : decode cX2_farthest 42 = .ok (.if_icmp .gt 6, 3) := dk_163 0 6 (dk_at dksX2_farthest_1 19 rfl rfl)
theorem dX2_farthest_45 : decode cX2_farthest 45 = .ok (.goto 22, 3) := dk_167 0 22 (dk_at dksX2_farthest_2 0 rfl rfl)
theorem dX2_farthest_48 : decode cX2_farthest 48 = .ok (.aload_n 0, 1) := dk_42 (dk_at dksX2_farthest_2 3 rfl rfl)
theorem dX2_farthest_49 : decode cX2_farthest 49 = .ok (.iload 4, 2) := dk_21 4 (dk_at dksX2_farthest_2 4 rfl rfl)
theorem dX2_farthest_51 : decode cX2_farthest 51 = .ok (.iload 5, 2) := dk_21 5 (dk_at dksX2_farthest_2 6 rfl rfl)
theorem dX2_farthest_53 : decode cX2_farthest 53 = .ok (.iload_n 1, 1) := dk_27 (dk_at dksX2_farthest_2 8 rfl rfl)
theorem dX2_farthest_54 : decode cX2_farthest 54 = .ok (.invokevirtual 272, 3) := dk_182 1 16 (dk_at dksX2_farthest_2 9 rfl rfl)
theorem dX2_farthest_57 : decode cX2_farthest 57 = .ok (.istore_n 3, 1) := dk_62 (dk_at dksX2_farthest_2 12 rfl rfl)
theorem dX2_farthest_58 : decode cX2_farthest 58 = .ok (.bipush 10, 2) := dk_16 10 (dk_at dksX2_farthest_2 13 rfl rfl)
theorem dX2_farthest_60 : decode cX2_farthest 60 = .ok (.iload 4, 2) := dk_21 4 (dk_at dksX2_farthest_2 15 rfl rfl)
theorem dX2_farthest_62 : decode cX2_farthest 62 = .ok (.imul, 1) := dk_104 (dk_at dksX2_farthest_2 17 rfl rfl)
theorem dX2_farthest_63 : decode cX2_farthest 63 = .ok (.iload 5, 2) := dk_21 5 (dk_at dksX2_farthest_2 18 rfl rfl)
theorem dX2_farthest_65 : decode cX2_farthest 65 = .ok (.iadd, 1) := dk_96 (dk_at dksX2_farthest_2 20 rfl rfl)
theorem dX2_farthest_66 : decode cX2_farthest 66 = .ok (.istore_n 2, 1) := dk_61 (dk_at dksX2_farthest_2 21 rfl rfl)
theorem dX2_farthest_67 : decode cX2_farthest 67 = .ok (.iinc 5 1, 3) := dk_132 5 1 (dk_at dksX2_farthest_3 0 rfl rfl)
theorem dX2_farthest_70 : decode cX2_farthest 70 = .ok (.goto (-47), 3) := dk_167 255 209 (dk_at dksX2_farthest_3 3 rfl rfl)
theorem dX2_farthest_73 : decode cX2_farthest 73 = .ok (.iinc 4 1, 3) := dk_132 4 1 (dk_at dksX2_farthest_3 6 rfl rfl)
theorem dX2_farthest_76 : decode cX2_farthest 76 = .ok (.goto (-68), 3) := dk_167 255 188 (dk_at dksX2_farthest_3 9 rfl rfl)
theorem dX2_farthest_79 : decode cX2_farthest 79 = .ok (.iload_n 2, 1) := dk_28 (dk_at dksX2_farthest_3 12 rfl rfl)
theorem dX2_farthest_80 : decode cX2_farthest 80 = .ok (.ireturn, 1) := dk_172 (dk_at dksX2_farthest_3 13 rfl rfl)
abbrev cX2_losers : ByteArray := prog_31_method_45_code
def yX2_losers : MethodName := ⟨RX2, "losers", "()I"⟩
def dkwX2_losers_3 : List UInt8 := [132, 4, 1, 167, 255, 204, 132, 3, 1, 167, 255, 185, 27, 172]
abbrev dktX2_losers_3 : List UInt8 := dkwX2_losers_3 ++ []
def dkwX2_losers_2 : List UInt8 := [167, 0, 24, 42, 180, 0, 109, 16, 10, 29, 104, 21, 4, 96, 46, 61, 16, 10, 29, 104, 21, 4, 96, 60]
abbrev dktX2_losers_2 : List UInt8 := dkwX2_losers_2 ++ dktX2_losers_3
def dkwX2_losers_1 : List UInt8 := [180, 0, 125, 162, 0, 49, 42, 180, 0, 109, 16, 10, 29, 104, 21, 4, 96, 46, 28, 163, 0, 6]
abbrev dktX2_losers_1 : List UInt8 := dkwX2_losers_1 ++ dktX2_losers_2
def dkwX2_losers_0 : List UInt8 := [16, 254, 60, 3, 61, 3, 62, 29, 42, 180, 0, 125, 162, 0, 69, 29, 4, 96, 54, 4, 21, 4, 42]
abbrev dktX2_losers_0 : List UInt8 := dkwX2_losers_0 ++ dktX2_losers_1
theorem dksX2_losers_0 : cX2_losers.data.toList.drop 0 = dktX2_losers_0 := by decide +kernel
theorem dksX2_losers_1 : cX2_losers.data.toList.drop 23 = dktX2_losers_1 := dk_seg dksX2_losers_0 23 rfl rfl
theorem dksX2_losers_2 : cX2_losers.data.toList.drop 45 = dktX2_losers_2 := dk_seg dksX2_losers_1 22 rfl rfl
theorem dksX2_losers_3 : cX2_losers.data.toList.drop 69 = dktX2_losers_3 := dk_seg dksX2_losers_2 24 rfl rfl
theorem dX2_losers_0 : decode cX2_losers 0 = .ok (.bipush (-2), 2) := dk_16 254 (dk_at dksX2_losers_0 0 rfl rfl)
theorem dX2_losers_2 : decode cX2_losers 2 = .ok (.istore_n 1, 1) := dk_60 (dk_at dksX2_losers_0 2 rfl rfl)
theorem dX2_losers_3 : decode cX2_losers 3 = .ok (.iconst 0, 1) := dk_3 (dk_at dksX2_losers_0 3 rfl rfl)
theorem dX2_losers_4 : decode cX2_losers 4 = .ok (.istore_n 2, 1) := dk_61 (dk_at dksX2_losers_0 4 rfl rfl)
theorem dX2_losers_5 : decode cX2_losers 5 = .ok (.iconst 0, 1) := dk_3 (dk_at dksX2_losers_0 5 rfl rfl)
theorem dX2_losers_6 : decode cX2_losers 6 = .ok (.istore_n 3, 1) := dk_62 (dk_at dksX2_losers_0 6 rfl rfl)
theorem dX2_losers_7 : decode cX2_losers 7 = .ok (.iload_n 3, 1) := dk_29 (dk_at dksX2_losers_0 7 rfl rfl)
theorem dX2_losers_8 : decode cX2_losers 8 = .ok (.aload_n 0, 1) := dk_42 (dk_at dksX2_losers_0 8 rfl rfl)
theorem dX2_losers_9 : decode cX2_losers 9 = .ok (.getfield 125, 3) := dk_180 0 125 (dk_at dksX2_losers_0 9 rfl rfl)
theorem dX2_losers_12 : decode cX2_losers 12 = .ok (.if_icmp .ge 69, 3) := dk_162 0 69 (dk_at dksX2_losers_0 12 rfl rfl)
theorem dX2_losers_15 : decode cX2_losers 15 = .ok (.iload_n 3, 1) := dk_29 (dk_at dksX2_losers_0 15 rfl rfl)
theorem dX2_losers_16 : decode cX2_losers 16 = .ok (.iconst 1, 1) := dk_4 (dk_at dksX2_losers_0 16 rfl rfl)
theorem dX2_losers_17 : decode cX2_losers 17 = .ok (.iadd, 1) := dk_96 (dk_at dksX2_losers_0 17 rfl rfl)
theorem dX2_losers_18 : decode cX2_losers 18 = .ok (.istore 4, 2) := dk_54 4 (dk_at dksX2_losers_0 18 rfl rfl)
theorem dX2_losers_20 : decode cX2_losers 20 = .ok (.iload 4, 2) := dk_21 4 (dk_at dksX2_losers_0 20 rfl rfl)
theorem dX2_losers_22 : decode cX2_losers 22 = .ok (.aload_n 0, 1) := dk_42 (dk_at dksX2_losers_0 22 rfl rfl)
theorem dX2_losers_23 : decode cX2_losers 23 = .ok (.getfield 125, 3) := dk_180 0 125 (dk_at dksX2_losers_1 0 rfl rfl)
theorem dX2_losers_26 : decode cX2_losers 26 = .ok (.if_icmp .ge 49, 3) := dk_162 0 49 (dk_at dksX2_losers_1 3 rfl rfl)
theorem dX2_losers_29 : decode cX2_losers 29 = .ok (.aload_n 0, 1) := dk_42 (dk_at dksX2_losers_1 6 rfl rfl)
theorem dX2_losers_30 : decode cX2_losers 30 = .ok (.getfield 109, 3) := dk_180 0 109 (dk_at dksX2_losers_1 7 rfl rfl)
theorem dX2_losers_33 : decode cX2_losers 33 = .ok (.bipush 10, 2) := dk_16 10 (dk_at dksX2_losers_1 10 rfl rfl)
theorem dX2_losers_35 : decode cX2_losers 35 = .ok (.iload_n 3, 1) := dk_29 (dk_at dksX2_losers_1 12 rfl rfl)
theorem dX2_losers_36 : decode cX2_losers 36 = .ok (.imul, 1) := dk_104 (dk_at dksX2_losers_1 13 rfl rfl)
theorem dX2_losers_37 : decode cX2_losers 37 = .ok (.iload 4, 2) := dk_21 4 (dk_at dksX2_losers_1 14 rfl rfl)
theorem dX2_losers_39 : decode cX2_losers 39 = .ok (.iadd, 1) := dk_96 (dk_at dksX2_losers_1 16 rfl rfl)
theorem dX2_losers_40 : decode cX2_losers 40 = .ok (.iaload, 1) := dk_46 (dk_at dksX2_losers_1 17 rfl rfl)
theorem dX2_losers_41 : decode cX2_losers 41 = .ok (.iload_n 2, 1) := dk_28 (dk_at dksX2_losers_1 18 rfl rfl)
theorem dX2_losers_42 : decode cX2_losers 42 = .ok (.if_icmp .gt 6, 3) := dk_163 0 6 (dk_at dksX2_losers_1 19 rfl rfl)
theorem dX2_losers_45 : decode cX2_losers 45 = .ok (.goto 24, 3) := dk_167 0 24 (dk_at dksX2_losers_2 0 rfl rfl)
theorem dX2_losers_48 : decode cX2_losers 48 = .ok (.aload_n 0, 1) := dk_42 (dk_at dksX2_losers_2 3 rfl rfl)
theorem dX2_losers_49 : decode cX2_losers 49 = .ok (.getfield 109, 3) := dk_180 0 109 (dk_at dksX2_losers_2 4 rfl rfl)
theorem dX2_losers_52 : decode cX2_losers 52 = .ok (.bipush 10, 2) := dk_16 10 (dk_at dksX2_losers_2 7 rfl rfl)
theorem dX2_losers_54 : decode cX2_losers 54 = .ok (.iload_n 3, 1) := dk_29 (dk_at dksX2_losers_2 9 rfl rfl)
theorem dX2_losers_55 : decode cX2_losers 55 = .ok (.imul, 1) := dk_104 (dk_at dksX2_losers_2 10 rfl rfl)
theorem dX2_losers_56 : decode cX2_losers 56 = .ok (.iload 4, 2) := dk_21 4 (dk_at dksX2_losers_2 11 rfl rfl)
theorem dX2_losers_58 : decode cX2_losers 58 = .ok (.iadd, 1) := dk_96 (dk_at dksX2_losers_2 13 rfl rfl)
theorem dX2_losers_59 : decode cX2_losers 59 = .ok (.iaload, 1) := dk_46 (dk_at dksX2_losers_2 14 rfl rfl)
theorem dX2_losers_60 : decode cX2_losers 60 = .ok (.istore_n 2, 1) := dk_61 (dk_at dksX2_losers_2 15 rfl rfl)
theorem dX2_losers_61 : decode cX2_losers 61 = .ok (.bipush 10, 2) := dk_16 10 (dk_at dksX2_losers_2 16 rfl rfl)
theorem dX2_losers_63 : decode cX2_losers 63 = .ok (.iload_n 3, 1) := dk_29 (dk_at dksX2_losers_2 18 rfl rfl)
theorem dX2_losers_64 : decode cX2_losers 64 = .ok (.imul, 1) := dk_104 (dk_at dksX2_losers_2 19 rfl rfl)
theorem dX2_losers_65 : decode cX2_losers 65 = .ok (.iload 4, 2) := dk_21 4 (dk_at dksX2_losers_2 20 rfl rfl)
theorem dX2_losers_67 : decode cX2_losers 67 = .ok (.iadd, 1) := dk_96 (dk_at dksX2_losers_2 22 rfl rfl)
theorem dX2_losers_68 : decode cX2_losers 68 = .ok (.istore_n 1, 1) := dk_60 (dk_at dksX2_losers_2 23 rfl rfl)
theorem dX2_losers_69 : decode cX2_losers 69 = .ok (.iinc 4 1, 3) := dk_132 4 1 (dk_at dksX2_losers_3 0 rfl rfl)
theorem dX2_losers_72 : decode cX2_losers 72 = .ok (.goto (-52), 3) := dk_167 255 204 (dk_at dksX2_losers_3 3 rfl rfl)
theorem dX2_losers_75 : decode cX2_losers 75 = .ok (.iinc 3 1, 3) := dk_132 3 1 (dk_at dksX2_losers_3 6 rfl rfl)
theorem dX2_losers_78 : decode cX2_losers 78 = .ok (.goto (-71), 3) := dk_167 255 185 (dk_at dksX2_losers_3 9 rfl rfl)
theorem dX2_losers_81 : decode cX2_losers 81 = .ok (.iload_n 1, 1) := dk_27 (dk_at dksX2_losers_3 12 rfl rfl)
theorem dX2_losers_82 : decode cX2_losers 82 = .ok (.ireturn, 1) := dk_172 (dk_at dksX2_losers_3 13 rfl rfl)
abbrev cX2_off : ByteArray := prog_31_method_47_code
def yX2_off : MethodName := ⟨RX2, "off", "(III)I"⟩
def dkwX2_off_2 : List UInt8 := [182, 1, 22, 42, 29, 28, 42, 180, 0, 253, 184, 0, 232, 182, 1, 13, 172]
abbrev dktX2_off_2 : List UInt8 := dkwX2_off_2 ++ []
def dkwX2_off_1 : List UInt8 := [153, 0, 12, 42, 27, 3, 182, 1, 32, 156, 0, 6, 18, 152, 172, 42, 27, 182, 1, 35, 42, 3]
abbrev dktX2_off_1 : List UInt8 := dkwX2_off_1 ++ dktX2_off_2
def dkwX2_off_0 : List UInt8 := [27, 184, 0, 140, 153, 0, 30, 28, 3, 16, 60, 184, 0, 128, 153, 0, 20, 42, 29, 182, 0, 132]
abbrev dktX2_off_0 : List UInt8 := dkwX2_off_0 ++ dktX2_off_1
theorem dksX2_off_0 : cX2_off.data.toList.drop 0 = dktX2_off_0 := by decide +kernel
theorem dksX2_off_1 : cX2_off.data.toList.drop 22 = dktX2_off_1 := dk_seg dksX2_off_0 22 rfl rfl
theorem dksX2_off_2 : cX2_off.data.toList.drop 44 = dktX2_off_2 := dk_seg dksX2_off_1 22 rfl rfl
theorem dX2_off_0 : decode cX2_off 0 = .ok (.iload_n 1, 1) := dk_27 (dk_at dksX2_off_0 0 rfl rfl)
theorem dX2_off_1 : decode cX2_off 1 = .ok (.invokestatic 140, 3) := dk_184 0 140 (dk_at dksX2_off_0 1 rfl rfl)
theorem dX2_off_4 : decode cX2_off 4 = .ok (.ifCond .eq 30, 3) := dk_153 0 30 (dk_at dksX2_off_0 4 rfl rfl)
theorem dX2_off_7 : decode cX2_off 7 = .ok (.iload_n 2, 1) := dk_28 (dk_at dksX2_off_0 7 rfl rfl)
theorem dX2_off_8 : decode cX2_off 8 = .ok (.iconst 0, 1) := dk_3 (dk_at dksX2_off_0 8 rfl rfl)
theorem dX2_off_9 : decode cX2_off 9 = .ok (.bipush 60, 2) := dk_16 60 (dk_at dksX2_off_0 9 rfl rfl)
theorem dX2_off_11 : decode cX2_off 11 = .ok (.invokestatic 128, 3) := dk_184 0 128 (dk_at dksX2_off_0 11 rfl rfl)
theorem dX2_off_14 : decode cX2_off 14 = .ok (.ifCond .eq 20, 3) := dk_153 0 20 (dk_at dksX2_off_0 14 rfl rfl)
theorem dX2_off_17 : decode cX2_off 17 = .ok (.aload_n 0, 1) := dk_42 (dk_at dksX2_off_0 17 rfl rfl)
theorem dX2_off_18 : decode cX2_off 18 = .ok (.iload_n 3, 1) := dk_29 (dk_at dksX2_off_0 18 rfl rfl)
theorem dX2_off_19 : decode cX2_off 19 = .ok (.invokevirtual 132, 3) := dk_182 0 132 (dk_at dksX2_off_0 19 rfl rfl)
theorem dX2_off_22 : decode cX2_off 22 = .ok (.ifCond .eq 12, 3) := dk_153 0 12 (dk_at dksX2_off_1 0 rfl rfl)
theorem dX2_off_25 : decode cX2_off 25 = .ok (.aload_n 0, 1) := dk_42 (dk_at dksX2_off_1 3 rfl rfl)
theorem dX2_off_26 : decode cX2_off 26 = .ok (.iload_n 1, 1) := dk_27 (dk_at dksX2_off_1 4 rfl rfl)
theorem dX2_off_27 : decode cX2_off 27 = .ok (.iconst 0, 1) := dk_3 (dk_at dksX2_off_1 5 rfl rfl)
theorem dX2_off_28 : decode cX2_off 28 = .ok (.invokevirtual 288, 3) := dk_182 1 32 (dk_at dksX2_off_1 6 rfl rfl)
theorem dX2_off_31 : decode cX2_off 31 = .ok (.ifCond .ge 6, 3) := dk_156 0 6 (dk_at dksX2_off_1 9 rfl rfl)
theorem dX2_off_34 : decode cX2_off 34 = .ok (.ldc 152, 2) := dk_18 152 (dk_at dksX2_off_1 12 rfl rfl)
theorem dX2_off_36 : decode cX2_off 36 = .ok (.ireturn, 1) := dk_172 (dk_at dksX2_off_1 14 rfl rfl)
theorem dX2_off_37 : decode cX2_off 37 = .ok (.aload_n 0, 1) := dk_42 (dk_at dksX2_off_1 15 rfl rfl)
theorem dX2_off_38 : decode cX2_off 38 = .ok (.iload_n 1, 1) := dk_27 (dk_at dksX2_off_1 16 rfl rfl)
theorem dX2_off_39 : decode cX2_off 39 = .ok (.invokevirtual 291, 3) := dk_182 1 35 (dk_at dksX2_off_1 17 rfl rfl)
theorem dX2_off_42 : decode cX2_off 42 = .ok (.aload_n 0, 1) := dk_42 (dk_at dksX2_off_1 20 rfl rfl)
theorem dX2_off_43 : decode cX2_off 43 = .ok (.iconst 0, 1) := dk_3 (dk_at dksX2_off_1 21 rfl rfl)
theorem dX2_off_44 : decode cX2_off 44 = .ok (.invokevirtual 278, 3) := dk_182 1 22 (dk_at dksX2_off_2 0 rfl rfl)
theorem dX2_off_47 : decode cX2_off 47 = .ok (.aload_n 0, 1) := dk_42 (dk_at dksX2_off_2 3 rfl rfl)
theorem dX2_off_48 : decode cX2_off 48 = .ok (.iload_n 3, 1) := dk_29 (dk_at dksX2_off_2 4 rfl rfl)
theorem dX2_off_49 : decode cX2_off 49 = .ok (.iload_n 2, 1) := dk_28 (dk_at dksX2_off_2 5 rfl rfl)
theorem dX2_off_50 : decode cX2_off 50 = .ok (.aload_n 0, 1) := dk_42 (dk_at dksX2_off_2 6 rfl rfl)
theorem dX2_off_51 : decode cX2_off 51 = .ok (.getfield 253, 3) := dk_180 0 253 (dk_at dksX2_off_2 7 rfl rfl)
theorem dX2_off_54 : decode cX2_off 54 = .ok (.invokestatic 232, 3) := dk_184 0 232 (dk_at dksX2_off_2 10 rfl rfl)
theorem dX2_off_57 : decode cX2_off 57 = .ok (.invokevirtual 269, 3) := dk_182 1 13 (dk_at dksX2_off_2 13 rfl rfl)
theorem dX2_off_60 : decode cX2_off 60 = .ok (.ireturn, 1) := dk_172 (dk_at dksX2_off_2 16 rfl rfl)
abbrev cX2_apart : ByteArray := prog_31_method_48_code
def yX2_apart : MethodName := ⟨RX2, "apart", "(III)I"⟩
def dkwX2_apart_3 : List UInt8 := [167, 0, 15, 42, 28, 42, 180, 0, 253, 184, 0, 232, 182, 1, 19, 172]
abbrev dktX2_apart_3 : List UInt8 := dkwX2_apart_3 ++ []
def dkwX2_apart_2 : List UInt8 := [182, 1, 35, 42, 3, 182, 1, 22, 29, 154, 0, 18, 42, 28, 42, 180, 0, 253, 184, 0, 232, 182, 1, 29]
abbrev dktX2_apart_2 : List UInt8 := dkwX2_apart_2 ++ dktX2_apart_3
def dkwX2_apart_1 : List UInt8 := [154, 0, 5, 2, 172, 42, 27, 3, 182, 1, 32, 54, 4, 21, 4, 156, 0, 6, 21, 4, 172, 42, 27]
abbrev dktX2_apart_1 : List UInt8 := dkwX2_apart_1 ++ dktX2_apart_2
def dkwX2_apart_0 : List UInt8 := [27, 184, 0, 140, 153, 0, 22, 28, 3, 16, 60, 184, 0, 128, 153, 0, 12, 29, 3, 4, 184, 0, 128]
abbrev dktX2_apart_0 : List UInt8 := dkwX2_apart_0 ++ dktX2_apart_1
theorem dksX2_apart_0 : cX2_apart.data.toList.drop 0 = dktX2_apart_0 := by decide +kernel
theorem dksX2_apart_1 : cX2_apart.data.toList.drop 23 = dktX2_apart_1 := dk_seg dksX2_apart_0 23 rfl rfl
theorem dksX2_apart_2 : cX2_apart.data.toList.drop 46 = dktX2_apart_2 := dk_seg dksX2_apart_1 23 rfl rfl
theorem dksX2_apart_3 : cX2_apart.data.toList.drop 70 = dktX2_apart_3 := dk_seg dksX2_apart_2 24 rfl rfl
theorem dX2_apart_0 : decode cX2_apart 0 = .ok (.iload_n 1, 1) := dk_27 (dk_at dksX2_apart_0 0 rfl rfl)
theorem dX2_apart_1 : decode cX2_apart 1 = .ok (.invokestatic 140, 3) := dk_184 0 140 (dk_at dksX2_apart_0 1 rfl rfl)
theorem dX2_apart_4 : decode cX2_apart 4 = .ok (.ifCond .eq 22, 3) := dk_153 0 22 (dk_at dksX2_apart_0 4 rfl rfl)
theorem dX2_apart_7 : decode cX2_apart 7 = .ok (.iload_n 2, 1) := dk_28 (dk_at dksX2_apart_0 7 rfl rfl)
theorem dX2_apart_8 : decode cX2_apart 8 = .ok (.iconst 0, 1) := dk_3 (dk_at dksX2_apart_0 8 rfl rfl)
theorem dX2_apart_9 : decode cX2_apart 9 = .ok (.bipush 60, 2) := dk_16 60 (dk_at dksX2_apart_0 9 rfl rfl)
theorem dX2_apart_11 : decode cX2_apart 11 = .ok (.invokestatic 128, 3) := dk_184 0 128 (dk_at dksX2_apart_0 11 rfl rfl)
theorem dX2_apart_14 : decode cX2_apart 14 = .ok (.ifCond .eq 12, 3) := dk_153 0 12 (dk_at dksX2_apart_0 14 rfl rfl)
theorem dX2_apart_17 : decode cX2_apart 17 = .ok (.iload_n 3, 1) := dk_29 (dk_at dksX2_apart_0 17 rfl rfl)
theorem dX2_apart_18 : decode cX2_apart 18 = .ok (.iconst 0, 1) := dk_3 (dk_at dksX2_apart_0 18 rfl rfl)
theorem dX2_apart_19 : decode cX2_apart 19 = .ok (.iconst 1, 1) := dk_4 (dk_at dksX2_apart_0 19 rfl rfl)
theorem dX2_apart_20 : decode cX2_apart 20 = .ok (.invokestatic 128, 3) := dk_184 0 128 (dk_at dksX2_apart_0 20 rfl rfl)
theorem dX2_apart_23 : decode cX2_apart 23 = .ok (.ifCond .ne 5, 3) := dk_154 0 5 (dk_at dksX2_apart_1 0 rfl rfl)
theorem dX2_apart_26 : decode cX2_apart 26 = .ok (.iconst (-1), 1) := dk_2 (dk_at dksX2_apart_1 3 rfl rfl)
theorem dX2_apart_27 : decode cX2_apart 27 = .ok (.ireturn, 1) := dk_172 (dk_at dksX2_apart_1 4 rfl rfl)
theorem dX2_apart_28 : decode cX2_apart 28 = .ok (.aload_n 0, 1) := dk_42 (dk_at dksX2_apart_1 5 rfl rfl)
theorem dX2_apart_29 : decode cX2_apart 29 = .ok (.iload_n 1, 1) := dk_27 (dk_at dksX2_apart_1 6 rfl rfl)
theorem dX2_apart_30 : decode cX2_apart 30 = .ok (.iconst 0, 1) := dk_3 (dk_at dksX2_apart_1 7 rfl rfl)
theorem dX2_apart_31 : decode cX2_apart 31 = .ok (.invokevirtual 288, 3) := dk_182 1 32 (dk_at dksX2_apart_1 8 rfl rfl)
theorem dX2_apart_34 : decode cX2_apart 34 = .ok (.istore 4, 2) := dk_54 4 (dk_at dksX2_apart_1 11 rfl rfl)
theorem dX2_apart_36 : decode cX2_apart 36 = .ok (.iload 4, 2) := dk_21 4 (dk_at dksX2_apart_1 13 rfl rfl)
theorem dX2_apart_38 : decode cX2_apart 38 = .ok (.ifCond .ge 6, 3) := dk_156 0 6 (dk_at dksX2_apart_1 15 rfl rfl)
theorem dX2_apart_41 : decode cX2_apart 41 = .ok (.iload 4, 2) := dk_21 4 (dk_at dksX2_apart_1 18 rfl rfl)
theorem dX2_apart_43 : decode cX2_apart 43 = .ok (.ireturn, 1) := dk_172 (dk_at dksX2_apart_1 20 rfl rfl)
theorem dX2_apart_44 : decode cX2_apart 44 = .ok (.aload_n 0, 1) := dk_42 (dk_at dksX2_apart_1 21 rfl rfl)
theorem dX2_apart_45 : decode cX2_apart 45 = .ok (.iload_n 1, 1) := dk_27 (dk_at dksX2_apart_1 22 rfl rfl)
theorem dX2_apart_46 : decode cX2_apart 46 = .ok (.invokevirtual 291, 3) := dk_182 1 35 (dk_at dksX2_apart_2 0 rfl rfl)
theorem dX2_apart_49 : decode cX2_apart 49 = .ok (.aload_n 0, 1) := dk_42 (dk_at dksX2_apart_2 3 rfl rfl)
theorem dX2_apart_50 : decode cX2_apart 50 = .ok (.iconst 0, 1) := dk_3 (dk_at dksX2_apart_2 4 rfl rfl)
theorem dX2_apart_51 : decode cX2_apart 51 = .ok (.invokevirtual 278, 3) := dk_182 1 22 (dk_at dksX2_apart_2 5 rfl rfl)
theorem dX2_apart_54 : decode cX2_apart 54 = .ok (.iload_n 3, 1) := dk_29 (dk_at dksX2_apart_2 8 rfl rfl)
theorem dX2_apart_55 : decode cX2_apart 55 = .ok (.ifCond .ne 18, 3) := dk_154 0 18 (dk_at dksX2_apart_2 9 rfl rfl)
theorem dX2_apart_58 : decode cX2_apart 58 = .ok (.aload_n 0, 1) := dk_42 (dk_at dksX2_apart_2 12 rfl rfl)
theorem dX2_apart_59 : decode cX2_apart 59 = .ok (.iload_n 2, 1) := dk_28 (dk_at dksX2_apart_2 13 rfl rfl)
theorem dX2_apart_60 : decode cX2_apart 60 = .ok (.aload_n 0, 1) := dk_42 (dk_at dksX2_apart_2 14 rfl rfl)
theorem dX2_apart_61 : decode cX2_apart 61 = .ok (.getfield 253, 3) := dk_180 0 253 (dk_at dksX2_apart_2 15 rfl rfl)
theorem dX2_apart_64 : decode cX2_apart 64 = .ok (.invokestatic 232, 3) := dk_184 0 232 (dk_at dksX2_apart_2 18 rfl rfl)
theorem dX2_apart_67 : decode cX2_apart 67 = .ok (.invokevirtual 285, 3) := dk_182 1 29 (dk_at dksX2_apart_2 21 rfl rfl)
theorem dX2_apart_70 : decode cX2_apart 70 = .ok (.goto 15, 3) := dk_167 0 15 (dk_at dksX2_apart_3 0 rfl rfl)
theorem dX2_apart_73 : decode cX2_apart 73 = .ok (.aload_n 0, 1) := dk_42 (dk_at dksX2_apart_3 3 rfl rfl)
theorem dX2_apart_74 : decode cX2_apart 74 = .ok (.iload_n 2, 1) := dk_28 (dk_at dksX2_apart_3 4 rfl rfl)
theorem dX2_apart_75 : decode cX2_apart 75 = .ok (.aload_n 0, 1) := dk_42 (dk_at dksX2_apart_3 5 rfl rfl)
theorem dX2_apart_76 : decode cX2_apart 76 = .ok (.getfield 253, 3) := dk_180 0 253 (dk_at dksX2_apart_3 6 rfl rfl)
theorem dX2_apart_79 : decode cX2_apart 79 = .ok (.invokestatic 232, 3) := dk_184 0 232 (dk_at dksX2_apart_3 9 rfl rfl)
theorem dX2_apart_82 : decode cX2_apart 82 = .ok (.invokevirtual 275, 3) := dk_182 1 19 (dk_at dksX2_apart_3 12 rfl rfl)
theorem dX2_apart_85 : decode cX2_apart 85 = .ok (.ireturn, 1) := dk_172 (dk_at dksX2_apart_3 15 rfl rfl)
abbrev cX2_gone : ByteArray := prog_31_method_52_code
def yX2_gone : MethodName := ⟨RX2, "gone", "(II)I"⟩
def dkwX2_gone_2 : List UInt8 := [182, 1, 54, 167, 0, 13, 42, 42, 180, 0, 21, 28, 46, 182, 1, 51, 172]
abbrev dktX2_gone_2 : List UInt8 := dkwX2_gone_2 ++ []
def dkwX2_gone_1 : List UInt8 := [3, 182, 1, 32, 62, 29, 156, 0, 5, 29, 172, 42, 27, 182, 1, 35, 28, 2, 160, 0, 10, 42]
abbrev dktX2_gone_1 : List UInt8 := dkwX2_gone_1 ++ dktX2_gone_2
def dkwX2_gone_0 : List UInt8 := [27, 184, 0, 140, 153, 0, 16, 28, 2, 159, 0, 13, 42, 28, 182, 0, 132, 154, 0, 5, 2, 172, 42, 27]
abbrev dktX2_gone_0 : List UInt8 := dkwX2_gone_0 ++ dktX2_gone_1
theorem dksX2_gone_0 : cX2_gone.data.toList.drop 0 = dktX2_gone_0 := by decide +kernel
theorem dksX2_gone_1 : cX2_gone.data.toList.drop 24 = dktX2_gone_1 := dk_seg dksX2_gone_0 24 rfl rfl
theorem dksX2_gone_2 : cX2_gone.data.toList.drop 46 = dktX2_gone_2 := dk_seg dksX2_gone_1 22 rfl rfl
theorem dX2_gone_0 : decode cX2_gone 0 = .ok (.iload_n 1, 1) := dk_27 (dk_at dksX2_gone_0 0 rfl rfl)
theorem dX2_gone_1 : decode cX2_gone 1 = .ok (.invokestatic 140, 3) := dk_184 0 140 (dk_at dksX2_gone_0 1 rfl rfl)
theorem dX2_gone_4 : decode cX2_gone 4 = .ok (.ifCond .eq 16, 3) := dk_153 0 16 (dk_at dksX2_gone_0 4 rfl rfl)
theorem dX2_gone_7 : decode cX2_gone 7 = .ok (.iload_n 2, 1) := dk_28 (dk_at dksX2_gone_0 7 rfl rfl)
theorem dX2_gone_8 : decode cX2_gone 8 = .ok (.iconst (-1), 1) := dk_2 (dk_at dksX2_gone_0 8 rfl rfl)
theorem dX2_gone_9 : decode cX2_gone 9 = .ok (.if_icmp .eq 13, 3) := dk_159 0 13 (dk_at dksX2_gone_0 9 rfl rfl)
theorem dX2_gone_12 : decode cX2_gone 12 = .ok (.aload_n 0, 1) := dk_42 (dk_at dksX2_gone_0 12 rfl rfl)
theorem dX2_gone_13 : decode cX2_gone 13 = .ok (.iload_n 2, 1) := dk_28 (dk_at dksX2_gone_0 13 rfl rfl)
theorem dX2_gone_14 : decode cX2_gone 14 = .ok (.invokevirtual 132, 3) := dk_182 0 132 (dk_at dksX2_gone_0 14 rfl rfl)
theorem dX2_gone_17 : decode cX2_gone 17 = .ok (.ifCond .ne 5, 3) := dk_154 0 5 (dk_at dksX2_gone_0 17 rfl rfl)
theorem dX2_gone_20 : decode cX2_gone 20 = .ok (.iconst (-1), 1) := dk_2 (dk_at dksX2_gone_0 20 rfl rfl)
theorem dX2_gone_21 : decode cX2_gone 21 = .ok (.ireturn, 1) := dk_172 (dk_at dksX2_gone_0 21 rfl rfl)
theorem dX2_gone_22 : decode cX2_gone 22 = .ok (.aload_n 0, 1) := dk_42 (dk_at dksX2_gone_0 22 rfl rfl)
theorem dX2_gone_23 : decode cX2_gone 23 = .ok (.iload_n 1, 1) := dk_27 (dk_at dksX2_gone_0 23 rfl rfl)
theorem dX2_gone_24 : decode cX2_gone 24 = .ok (.iconst 0, 1) := dk_3 (dk_at dksX2_gone_1 0 rfl rfl)
theorem dX2_gone_25 : decode cX2_gone 25 = .ok (.invokevirtual 288, 3) := dk_182 1 32 (dk_at dksX2_gone_1 1 rfl rfl)
theorem dX2_gone_28 : decode cX2_gone 28 = .ok (.istore_n 3, 1) := dk_62 (dk_at dksX2_gone_1 4 rfl rfl)
theorem dX2_gone_29 : decode cX2_gone 29 = .ok (.iload_n 3, 1) := dk_29 (dk_at dksX2_gone_1 5 rfl rfl)
theorem dX2_gone_30 : decode cX2_gone 30 = .ok (.ifCond .ge 5, 3) := dk_156 0 5 (dk_at dksX2_gone_1 6 rfl rfl)
theorem dX2_gone_33 : decode cX2_gone 33 = .ok (.iload_n 3, 1) := dk_29 (dk_at dksX2_gone_1 9 rfl rfl)
theorem dX2_gone_34 : decode cX2_gone 34 = .ok (.ireturn, 1) := dk_172 (dk_at dksX2_gone_1 10 rfl rfl)
theorem dX2_gone_35 : decode cX2_gone 35 = .ok (.aload_n 0, 1) := dk_42 (dk_at dksX2_gone_1 11 rfl rfl)
theorem dX2_gone_36 : decode cX2_gone 36 = .ok (.iload_n 1, 1) := dk_27 (dk_at dksX2_gone_1 12 rfl rfl)
theorem dX2_gone_37 : decode cX2_gone 37 = .ok (.invokevirtual 291, 3) := dk_182 1 35 (dk_at dksX2_gone_1 13 rfl rfl)
theorem dX2_gone_40 : decode cX2_gone 40 = .ok (.iload_n 2, 1) := dk_28 (dk_at dksX2_gone_1 16 rfl rfl)
theorem dX2_gone_41 : decode cX2_gone 41 = .ok (.iconst (-1), 1) := dk_2 (dk_at dksX2_gone_1 17 rfl rfl)
theorem dX2_gone_42 : decode cX2_gone 42 = .ok (.if_icmp .ne 10, 3) := dk_160 0 10 (dk_at dksX2_gone_1 18 rfl rfl)
theorem dX2_gone_45 : decode cX2_gone 45 = .ok (.aload_n 0, 1) := dk_42 (dk_at dksX2_gone_1 21 rfl rfl)
theorem dX2_gone_46 : decode cX2_gone 46 = .ok (.invokevirtual 310, 3) := dk_182 1 54 (dk_at dksX2_gone_2 0 rfl rfl)
theorem dX2_gone_49 : decode cX2_gone 49 = .ok (.goto 13, 3) := dk_167 0 13 (dk_at dksX2_gone_2 3 rfl rfl)
theorem dX2_gone_52 : decode cX2_gone 52 = .ok (.aload_n 0, 1) := dk_42 (dk_at dksX2_gone_2 6 rfl rfl)
theorem dX2_gone_53 : decode cX2_gone 53 = .ok (.aload_n 0, 1) := dk_42 (dk_at dksX2_gone_2 7 rfl rfl)
theorem dX2_gone_54 : decode cX2_gone 54 = .ok (.getfield 21, 3) := dk_180 0 21 (dk_at dksX2_gone_2 8 rfl rfl)
theorem dX2_gone_57 : decode cX2_gone 57 = .ok (.iload_n 2, 1) := dk_28 (dk_at dksX2_gone_2 11 rfl rfl)
theorem dX2_gone_58 : decode cX2_gone 58 = .ok (.iaload, 1) := dk_46 (dk_at dksX2_gone_2 12 rfl rfl)
theorem dX2_gone_59 : decode cX2_gone 59 = .ok (.invokevirtual 307, 3) := dk_182 1 51 (dk_at dksX2_gone_2 13 rfl rfl)
theorem dX2_gone_62 : decode cX2_gone 62 = .ok (.ireturn, 1) := dk_172 (dk_at dksX2_gone_2 16 rfl rfl)
abbrev cX2_goneBits : ByteArray := prog_31_method_51_code
def yX2_goneBits : MethodName := ⟨RX2, "goneBits", "()I"⟩
def dkwX2_goneBits_1 : List UInt8 := [159, 0, 9, 27, 4, 28, 120, 128, 60, 132, 2, 1, 167, 255, 224, 27, 172]
abbrev dktX2_goneBits_1 : List UInt8 := dkwX2_goneBits_1 ++ []
def dkwX2_goneBits_0 : List UInt8 := [3, 60, 3, 61, 28, 42, 180, 0, 125, 162, 0, 30, 42, 42, 180, 0, 21, 28, 46, 182, 1, 51, 16, 254]
abbrev dktX2_goneBits_0 : List UInt8 := dkwX2_goneBits_0 ++ dktX2_goneBits_1
theorem dksX2_goneBits_0 : cX2_goneBits.data.toList.drop 0 = dktX2_goneBits_0 := by decide +kernel
theorem dksX2_goneBits_1 : cX2_goneBits.data.toList.drop 24 = dktX2_goneBits_1 := dk_seg dksX2_goneBits_0 24 rfl rfl
theorem dX2_goneBits_0 : decode cX2_goneBits 0 = .ok (.iconst 0, 1) := dk_3 (dk_at dksX2_goneBits_0 0 rfl rfl)
theorem dX2_goneBits_1 : decode cX2_goneBits 1 = .ok (.istore_n 1, 1) := dk_60 (dk_at dksX2_goneBits_0 1 rfl rfl)
theorem dX2_goneBits_2 : decode cX2_goneBits 2 = .ok (.iconst 0, 1) := dk_3 (dk_at dksX2_goneBits_0 2 rfl rfl)
theorem dX2_goneBits_3 : decode cX2_goneBits 3 = .ok (.istore_n 2, 1) := dk_61 (dk_at dksX2_goneBits_0 3 rfl rfl)
theorem dX2_goneBits_4 : decode cX2_goneBits 4 = .ok (.iload_n 2, 1) := dk_28 (dk_at dksX2_goneBits_0 4 rfl rfl)
theorem dX2_goneBits_5 : decode cX2_goneBits 5 = .ok (.aload_n 0, 1) := dk_42 (dk_at dksX2_goneBits_0 5 rfl rfl)
theorem dX2_goneBits_6 : decode cX2_goneBits 6 = .ok (.getfield 125, 3) := dk_180 0 125 (dk_at dksX2_goneBits_0 6 rfl rfl)
theorem dX2_goneBits_9 : decode cX2_goneBits 9 = .ok (.if_icmp .ge 30, 3) := dk_162 0 30 (dk_at dksX2_goneBits_0 9 rfl rfl)
theorem dX2_goneBits_12 : decode cX2_goneBits 12 = .ok (.aload_n 0, 1) := dk_42 (dk_at dksX2_goneBits_0 12 rfl rfl)
theorem dX2_goneBits_13 : decode cX2_goneBits 13 = .ok (.aload_n 0, 1) := dk_42 (dk_at dksX2_goneBits_0 13 rfl rfl)
theorem dX2_goneBits_14 : decode cX2_goneBits 14 = .ok (.getfield 21, 3) := dk_180 0 21 (dk_at dksX2_goneBits_0 14 rfl rfl)
theorem dX2_goneBits_17 : decode cX2_goneBits 17 = .ok (.iload_n 2, 1) := dk_28 (dk_at dksX2_goneBits_0 17 rfl rfl)
theorem dX2_goneBits_18 : decode cX2_goneBits 18 = .ok (.iaload, 1) := dk_46 (dk_at dksX2_goneBits_0 18 rfl rfl)
theorem dX2_goneBits_19 : decode cX2_goneBits 19 = .ok (.invokevirtual 307, 3) := dk_182 1 51 (dk_at dksX2_goneBits_0 19 rfl rfl)
theorem dX2_goneBits_22 : decode cX2_goneBits 22 = .ok (.bipush (-2), 2) := dk_16 254 (dk_at dksX2_goneBits_0 22 rfl rfl)
theorem dX2_goneBits_24 : decode cX2_goneBits 24 = .ok (.if_icmp .eq 9, 3) := dk_159 0 9 (dk_at dksX2_goneBits_1 0 rfl rfl)
theorem dX2_goneBits_27 : decode cX2_goneBits 27 = .ok (.iload_n 1, 1) := dk_27 (dk_at dksX2_goneBits_1 3 rfl rfl)
theorem dX2_goneBits_28 : decode cX2_goneBits 28 = .ok (.iconst 1, 1) := dk_4 (dk_at dksX2_goneBits_1 4 rfl rfl)
theorem dX2_goneBits_29 : decode cX2_goneBits 29 = .ok (.iload_n 2, 1) := dk_28 (dk_at dksX2_goneBits_1 5 rfl rfl)
theorem dX2_goneBits_30 : decode cX2_goneBits 30 = .ok (.ishl, 1) := dk_120 (dk_at dksX2_goneBits_1 6 rfl rfl)
theorem dX2_goneBits_31 : decode cX2_goneBits 31 = .ok (.ior, 1) := dk_128 (dk_at dksX2_goneBits_1 7 rfl rfl)
theorem dX2_goneBits_32 : decode cX2_goneBits 32 = .ok (.istore_n 1, 1) := dk_60 (dk_at dksX2_goneBits_1 8 rfl rfl)
theorem dX2_goneBits_33 : decode cX2_goneBits 33 = .ok (.iinc 2 1, 3) := dk_132 2 1 (dk_at dksX2_goneBits_1 9 rfl rfl)
theorem dX2_goneBits_36 : decode cX2_goneBits 36 = .ok (.goto (-32), 3) := dk_167 255 224 (dk_at dksX2_goneBits_1 12 rfl rfl)
theorem dX2_goneBits_39 : decode cX2_goneBits 39 = .ok (.iload_n 1, 1) := dk_27 (dk_at dksX2_goneBits_1 15 rfl rfl)
theorem dX2_goneBits_40 : decode cX2_goneBits 40 = .ok (.ireturn, 1) := dk_172 (dk_at dksX2_goneBits_1 16 rfl rfl)
abbrev cX2_goneAt : ByteArray := prog_31_method_50_code
def yX2_goneAt : MethodName := ⟨RX2, "goneAt", "(I)I"⟩
def dkwX2_goneAt_2 : List UInt8 := [180, 0, 30, 5, 46, 161, 0, 5, 3, 61, 132, 4, 1, 167, 255, 203, 16, 254, 172]
abbrev dktX2_goneAt_2 : List UInt8 := dkwX2_goneAt_2 ++ []
def dkwX2_goneAt_1 : List UInt8 := [184, 1, 48, 153, 0, 16, 3, 62, 132, 2, 1, 28, 27, 164, 0, 21, 21, 4, 172, 132, 3, 1, 29, 42]
abbrev dktX2_goneAt_1 : List UInt8 := dkwX2_goneAt_1 ++ dktX2_goneAt_2
def dkwX2_goneAt_0 : List UInt8 := [3, 61, 3, 62, 3, 54, 4, 21, 4, 42, 180, 0, 253, 162, 0, 50, 42, 180, 0, 103, 21, 4, 46]
abbrev dktX2_goneAt_0 : List UInt8 := dkwX2_goneAt_0 ++ dktX2_goneAt_1
theorem dksX2_goneAt_0 : cX2_goneAt.data.toList.drop 0 = dktX2_goneAt_0 := by decide +kernel
theorem dksX2_goneAt_1 : cX2_goneAt.data.toList.drop 23 = dktX2_goneAt_1 := dk_seg dksX2_goneAt_0 23 rfl rfl
theorem dksX2_goneAt_2 : cX2_goneAt.data.toList.drop 47 = dktX2_goneAt_2 := dk_seg dksX2_goneAt_1 24 rfl rfl
theorem dX2_goneAt_0 : decode cX2_goneAt 0 = .ok (.iconst 0, 1) := dk_3 (dk_at dksX2_goneAt_0 0 rfl rfl)
theorem dX2_goneAt_1 : decode cX2_goneAt 1 = .ok (.istore_n 2, 1) := dk_61 (dk_at dksX2_goneAt_0 1 rfl rfl)
theorem dX2_goneAt_2 : decode cX2_goneAt 2 = .ok (.iconst 0, 1) := dk_3 (dk_at dksX2_goneAt_0 2 rfl rfl)
theorem dX2_goneAt_3 : decode cX2_goneAt 3 = .ok (.istore_n 3, 1) := dk_62 (dk_at dksX2_goneAt_0 3 rfl rfl)
theorem dX2_goneAt_4 : decode cX2_goneAt 4 = .ok (.iconst 0, 1) := dk_3 (dk_at dksX2_goneAt_0 4 rfl rfl)
theorem dX2_goneAt_5 : decode cX2_goneAt 5 = .ok (.istore 4, 2) := dk_54 4 (dk_at dksX2_goneAt_0 5 rfl rfl)
theorem dX2_goneAt_7 : decode cX2_goneAt 7 = .ok (.iload 4, 2) := dk_21 4 (dk_at dksX2_goneAt_0 7 rfl rfl)
theorem dX2_goneAt_9 : decode cX2_goneAt 9 = .ok (.aload_n 0, 1) := dk_42 (dk_at dksX2_goneAt_0 9 rfl rfl)
theorem dX2_goneAt_10 : decode cX2_goneAt 10 = .ok (.getfield 253, 3) := dk_180 0 253 (dk_at dksX2_goneAt_0 10 rfl rfl)
theorem dX2_goneAt_13 : decode cX2_goneAt 13 = .ok (.if_icmp .ge 50, 3) := dk_162 0 50 (dk_at dksX2_goneAt_0 13 rfl rfl)
theorem dX2_goneAt_16 : decode cX2_goneAt 16 = .ok (.aload_n 0, 1) := dk_42 (dk_at dksX2_goneAt_0 16 rfl rfl)
theorem dX2_goneAt_17 : decode cX2_goneAt 17 = .ok (.getfield 103, 3) := dk_180 0 103 (dk_at dksX2_goneAt_0 17 rfl rfl)
theorem dX2_goneAt_20 : decode cX2_goneAt 20 = .ok (.iload 4, 2) := dk_21 4 (dk_at dksX2_goneAt_0 20 rfl rfl)
theorem dX2_goneAt_22 : decode cX2_goneAt 22 = .ok (.iaload, 1) := dk_46 (dk_at dksX2_goneAt_0 22 rfl rfl)
theorem dX2_goneAt_23 : decode cX2_goneAt 23 = .ok (.invokestatic 304, 3) := dk_184 1 48 (dk_at dksX2_goneAt_1 0 rfl rfl)
theorem dX2_goneAt_26 : decode cX2_goneAt 26 = .ok (.ifCond .eq 16, 3) := dk_153 0 16 (dk_at dksX2_goneAt_1 3 rfl rfl)
theorem dX2_goneAt_29 : decode cX2_goneAt 29 = .ok (.iconst 0, 1) := dk_3 (dk_at dksX2_goneAt_1 6 rfl rfl)
theorem dX2_goneAt_30 : decode cX2_goneAt 30 = .ok (.istore_n 3, 1) := dk_62 (dk_at dksX2_goneAt_1 7 rfl rfl)
theorem dX2_goneAt_31 : decode cX2_goneAt 31 = .ok (.iinc 2 1, 3) := dk_132 2 1 (dk_at dksX2_goneAt_1 8 rfl rfl)
theorem dX2_goneAt_34 : decode cX2_goneAt 34 = .ok (.iload_n 2, 1) := dk_28 (dk_at dksX2_goneAt_1 11 rfl rfl)
theorem dX2_goneAt_35 : decode cX2_goneAt 35 = .ok (.iload_n 1, 1) := dk_27 (dk_at dksX2_goneAt_1 12 rfl rfl)
theorem dX2_goneAt_36 : decode cX2_goneAt 36 = .ok (.if_icmp .le 21, 3) := dk_164 0 21 (dk_at dksX2_goneAt_1 13 rfl rfl)
theorem dX2_goneAt_39 : decode cX2_goneAt 39 = .ok (.iload 4, 2) := dk_21 4 (dk_at dksX2_goneAt_1 16 rfl rfl)
theorem dX2_goneAt_41 : decode cX2_goneAt 41 = .ok (.ireturn, 1) := dk_172 (dk_at dksX2_goneAt_1 18 rfl rfl)
theorem dX2_goneAt_42 : decode cX2_goneAt 42 = .ok (.iinc 3 1, 3) := dk_132 3 1 (dk_at dksX2_goneAt_1 19 rfl rfl)
theorem dX2_goneAt_45 : decode cX2_goneAt 45 = .ok (.iload_n 3, 1) := dk_29 (dk_at dksX2_goneAt_1 22 rfl rfl)
theorem dX2_goneAt_46 : decode cX2_goneAt 46 = .ok (.aload_n 0, 1) := dk_42 (dk_at dksX2_goneAt_1 23 rfl rfl)
theorem dX2_goneAt_47 : decode cX2_goneAt 47 = .ok (.getfield 30, 3) := dk_180 0 30 (dk_at dksX2_goneAt_2 0 rfl rfl)
theorem dX2_goneAt_50 : decode cX2_goneAt 50 = .ok (.iconst 2, 1) := dk_5 (dk_at dksX2_goneAt_2 3 rfl rfl)
theorem dX2_goneAt_51 : decode cX2_goneAt 51 = .ok (.iaload, 1) := dk_46 (dk_at dksX2_goneAt_2 4 rfl rfl)
theorem dX2_goneAt_52 : decode cX2_goneAt 52 = .ok (.if_icmp .lt 5, 3) := dk_161 0 5 (dk_at dksX2_goneAt_2 5 rfl rfl)
theorem dX2_goneAt_55 : decode cX2_goneAt 55 = .ok (.iconst 0, 1) := dk_3 (dk_at dksX2_goneAt_2 8 rfl rfl)
theorem dX2_goneAt_56 : decode cX2_goneAt 56 = .ok (.istore_n 2, 1) := dk_61 (dk_at dksX2_goneAt_2 9 rfl rfl)
theorem dX2_goneAt_57 : decode cX2_goneAt 57 = .ok (.iinc 4 1, 3) := dk_132 4 1 (dk_at dksX2_goneAt_2 10 rfl rfl)
theorem dX2_goneAt_60 : decode cX2_goneAt 60 = .ok (.goto (-53), 3) := dk_167 255 203 (dk_at dksX2_goneAt_2 13 rfl rfl)
theorem dX2_goneAt_63 : decode cX2_goneAt 63 = .ok (.bipush (-2), 2) := dk_16 254 (dk_at dksX2_goneAt_2 16 rfl rfl)
theorem dX2_goneAt_65 : decode cX2_goneAt 65 = .ok (.ireturn, 1) := dk_172 (dk_at dksX2_goneAt_2 18 rfl rfl)
abbrev cX2_isUnder : ByteArray := prog_31_method_49_code
def yX2_isUnder : MethodName := ⟨RX2, "isUnder", "(I)Z"⟩
def dkwX2_isUnder_0 : List UInt8 := [26, 4, 159, 0, 8, 26, 5, 160, 0, 7, 4, 167, 0, 4, 3, 172]
abbrev dktX2_isUnder_0 : List UInt8 := dkwX2_isUnder_0 ++ []
theorem dksX2_isUnder_0 : cX2_isUnder.data.toList.drop 0 = dktX2_isUnder_0 := by decide +kernel
theorem dX2_isUnder_0 : decode cX2_isUnder 0 = .ok (.iload_n 0, 1) := dk_26 (dk_at dksX2_isUnder_0 0 rfl rfl)
theorem dX2_isUnder_1 : decode cX2_isUnder 1 = .ok (.iconst 1, 1) := dk_4 (dk_at dksX2_isUnder_0 1 rfl rfl)
theorem dX2_isUnder_2 : decode cX2_isUnder 2 = .ok (.if_icmp .eq 8, 3) := dk_159 0 8 (dk_at dksX2_isUnder_0 2 rfl rfl)
theorem dX2_isUnder_5 : decode cX2_isUnder 5 = .ok (.iload_n 0, 1) := dk_26 (dk_at dksX2_isUnder_0 5 rfl rfl)
theorem dX2_isUnder_6 : decode cX2_isUnder 6 = .ok (.iconst 2, 1) := dk_5 (dk_at dksX2_isUnder_0 6 rfl rfl)
theorem dX2_isUnder_7 : decode cX2_isUnder 7 = .ok (.if_icmp .ne 7, 3) := dk_160 0 7 (dk_at dksX2_isUnder_0 7 rfl rfl)
theorem dX2_isUnder_10 : decode cX2_isUnder 10 = .ok (.iconst 1, 1) := dk_4 (dk_at dksX2_isUnder_0 10 rfl rfl)
theorem dX2_isUnder_11 : decode cX2_isUnder 11 = .ok (.goto 4, 3) := dk_167 0 4 (dk_at dksX2_isUnder_0 11 rfl rfl)
theorem dX2_isUnder_14 : decode cX2_isUnder 14 = .ok (.iconst 0, 1) := dk_3 (dk_at dksX2_isUnder_0 14 rfl rfl)
theorem dX2_isUnder_15 : decode cX2_isUnder 15 = .ok (.ireturn, 1) := dk_172 (dk_at dksX2_isUnder_0 15 rfl rfl)
abbrev cX2_least : ByteArray := prog_31_method_53_code
def yX2_least : MethodName := ⟨RX2, "least", "(II)I"⟩
def dkwX2_least_2 : List UInt8 := [159, 0, 9, 132, 4, 1, 167, 255, 242, 21, 4, 172]
abbrev dktX2_least_2 : List UInt8 := dkwX2_least_2 ++ []
def dkwX2_least_1 : List UInt8 := [29, 156, 0, 5, 29, 172, 42, 27, 182, 1, 35, 4, 54, 4, 42, 21, 4, 182, 1, 51, 16, 254]
abbrev dktX2_least_1 : List UInt8 := dkwX2_least_1 ++ dktX2_least_2
def dkwX2_least_0 : List UInt8 := [27, 184, 0, 140, 153, 0, 11, 42, 28, 182, 0, 132, 154, 0, 5, 2, 172, 42, 27, 3, 182, 1, 32, 62]
abbrev dktX2_least_0 : List UInt8 := dkwX2_least_0 ++ dktX2_least_1
theorem dksX2_least_0 : cX2_least.data.toList.drop 0 = dktX2_least_0 := by decide +kernel
theorem dksX2_least_1 : cX2_least.data.toList.drop 24 = dktX2_least_1 := dk_seg dksX2_least_0 24 rfl rfl
theorem dksX2_least_2 : cX2_least.data.toList.drop 46 = dktX2_least_2 := dk_seg dksX2_least_1 22 rfl rfl
theorem dX2_least_0 : decode cX2_least 0 = .ok (.iload_n 1, 1) := dk_27 (dk_at dksX2_least_0 0 rfl rfl)
theorem dX2_least_1 : decode cX2_least 1 = .ok (.invokestatic 140, 3) := dk_184 0 140 (dk_at dksX2_least_0 1 rfl rfl)
theorem dX2_least_4 : decode cX2_least 4 = .ok (.ifCond .eq 11, 3) := dk_153 0 11 (dk_at dksX2_least_0 4 rfl rfl)
theorem dX2_least_7 : decode cX2_least 7 = .ok (.aload_n 0, 1) := dk_42 (dk_at dksX2_least_0 7 rfl rfl)
theorem dX2_least_8 : decode cX2_least 8 = .ok (.iload_n 2, 1) := dk_28 (dk_at dksX2_least_0 8 rfl rfl)
theorem dX2_least_9 : decode cX2_least 9 = .ok (.invokevirtual 132, 3) := dk_182 0 132 (dk_at dksX2_least_0 9 rfl rfl)
theorem dX2_least_12 : decode cX2_least 12 = .ok (.ifCond .ne 5, 3) := dk_154 0 5 (dk_at dksX2_least_0 12 rfl rfl)
theorem dX2_least_15 : decode cX2_least 15 = .ok (.iconst (-1), 1) := dk_2 (dk_at dksX2_least_0 15 rfl rfl)
theorem dX2_least_16 : decode cX2_least 16 = .ok (.ireturn, 1) := dk_172 (dk_at dksX2_least_0 16 rfl rfl)
theorem dX2_least_17 : decode cX2_least 17 = .ok (.aload_n 0, 1) := dk_42 (dk_at dksX2_least_0 17 rfl rfl)
theorem dX2_least_18 : decode cX2_least 18 = .ok (.iload_n 1, 1) := dk_27 (dk_at dksX2_least_0 18 rfl rfl)
theorem dX2_least_19 : decode cX2_least 19 = .ok (.iconst 0, 1) := dk_3 (dk_at dksX2_least_0 19 rfl rfl)
theorem dX2_least_20 : decode cX2_least 20 = .ok (.invokevirtual 288, 3) := dk_182 1 32 (dk_at dksX2_least_0 20 rfl rfl)
theorem dX2_least_23 : decode cX2_least 23 = .ok (.istore_n 3, 1) := dk_62 (dk_at dksX2_least_0 23 rfl rfl)
theorem dX2_least_24 : decode cX2_least 24 = .ok (.iload_n 3, 1) := dk_29 (dk_at dksX2_least_1 0 rfl rfl)
theorem dX2_least_25 : decode cX2_least 25 = .ok (.ifCond .ge 5, 3) := dk_156 0 5 (dk_at dksX2_least_1 1 rfl rfl)
theorem dX2_least_28 : decode cX2_least 28 = .ok (.iload_n 3, 1) := dk_29 (dk_at dksX2_least_1 4 rfl rfl)
theorem dX2_least_29 : decode cX2_least 29 = .ok (.ireturn, 1) := dk_172 (dk_at dksX2_least_1 5 rfl rfl)
theorem dX2_least_30 : decode cX2_least 30 = .ok (.aload_n 0, 1) := dk_42 (dk_at dksX2_least_1 6 rfl rfl)
theorem dX2_least_31 : decode cX2_least 31 = .ok (.iload_n 1, 1) := dk_27 (dk_at dksX2_least_1 7 rfl rfl)
theorem dX2_least_32 : decode cX2_least 32 = .ok (.invokevirtual 291, 3) := dk_182 1 35 (dk_at dksX2_least_1 8 rfl rfl)
theorem dX2_least_35 : decode cX2_least 35 = .ok (.iconst 1, 1) := dk_4 (dk_at dksX2_least_1 11 rfl rfl)
theorem dX2_least_36 : decode cX2_least 36 = .ok (.istore 4, 2) := dk_54 4 (dk_at dksX2_least_1 12 rfl rfl)
theorem dX2_least_38 : decode cX2_least 38 = .ok (.aload_n 0, 1) := dk_42 (dk_at dksX2_least_1 14 rfl rfl)
theorem dX2_least_39 : decode cX2_least 39 = .ok (.iload 4, 2) := dk_21 4 (dk_at dksX2_least_1 15 rfl rfl)
theorem dX2_least_41 : decode cX2_least 41 = .ok (.invokevirtual 307, 3) := dk_182 1 51 (dk_at dksX2_least_1 17 rfl rfl)
theorem dX2_least_44 : decode cX2_least 44 = .ok (.bipush (-2), 2) := dk_16 254 (dk_at dksX2_least_1 20 rfl rfl)
theorem dX2_least_46 : decode cX2_least 46 = .ok (.if_icmp .eq 9, 3) := dk_159 0 9 (dk_at dksX2_least_2 0 rfl rfl)
theorem dX2_least_49 : decode cX2_least 49 = .ok (.iinc 4 1, 3) := dk_132 4 1 (dk_at dksX2_least_2 3 rfl rfl)
theorem dX2_least_52 : decode cX2_least 52 = .ok (.goto (-14), 3) := dk_167 255 242 (dk_at dksX2_least_2 6 rfl rfl)
theorem dX2_least_55 : decode cX2_least 55 = .ok (.iload 4, 2) := dk_21 4 (dk_at dksX2_least_2 9 rfl rfl)
theorem dX2_least_57 : decode cX2_least 57 = .ok (.ireturn, 1) := dk_172 (dk_at dksX2_least_2 11 rfl rfl)
abbrev cX2_gasps : ByteArray := prog_31_method_57_code
def yX2_gasps : MethodName := ⟨RX2, "gasps", "(II)I"⟩
def dkwX2_gasps_0 : List UInt8 := [42, 27, 28, 4, 3, 182, 1, 64, 172]
abbrev dktX2_gasps_0 : List UInt8 := dkwX2_gasps_0 ++ []
theorem dksX2_gasps_0 : cX2_gasps.data.toList.drop 0 = dktX2_gasps_0 := by decide +kernel
theorem dX2_gasps_0 : decode cX2_gasps 0 = .ok (.aload_n 0, 1) := dk_42 (dk_at dksX2_gasps_0 0 rfl rfl)
theorem dX2_gasps_1 : decode cX2_gasps 1 = .ok (.iload_n 1, 1) := dk_27 (dk_at dksX2_gasps_0 1 rfl rfl)
theorem dX2_gasps_2 : decode cX2_gasps 2 = .ok (.iload_n 2, 1) := dk_28 (dk_at dksX2_gasps_0 2 rfl rfl)
theorem dX2_gasps_3 : decode cX2_gasps 3 = .ok (.iconst 1, 1) := dk_4 (dk_at dksX2_gasps_0 3 rfl rfl)
theorem dX2_gasps_4 : decode cX2_gasps 4 = .ok (.iconst 0, 1) := dk_3 (dk_at dksX2_gasps_0 4 rfl rfl)
theorem dX2_gasps_5 : decode cX2_gasps 5 = .ok (.invokevirtual 320, 3) := dk_182 1 64 (dk_at dksX2_gasps_0 5 rfl rfl)
theorem dX2_gasps_8 : decode cX2_gasps 8 = .ok (.ireturn, 1) := dk_172 (dk_at dksX2_gasps_0 8 rfl rfl)
abbrev cX2_fewest : ByteArray := prog_31_method_56_code
def yX2_fewest : MethodName := ⟨RX2, "fewest", "(IIII)I"⟩
def dkwX2_fewest_4 : List UInt8 := [167, 0, 20, 28, 21, 6, 162, 0, 12, 42, 180, 0, 112, 28, 46, 167, 0, 5, 16, 254, 172]
abbrev dktX2_fewest_4 : List UInt8 := dkwX2_fewest_4 ++ []
def dkwX2_fewest_3 : List UInt8 := [132, 6, 1, 167, 255, 232, 21, 6, 16, 11, 160, 0, 6, 16, 254, 172, 28, 2, 160, 0, 8, 21, 6]
abbrev dktX2_fewest_3 : List UInt8 := dkwX2_fewest_3 ++ dktX2_fewest_4
def dkwX2_fewest_2 : List UInt8 := [54, 6, 21, 6, 16, 11, 162, 0, 23, 42, 3, 21, 6, 3, 29, 21, 4, 182, 1, 60, 154, 0, 9]
abbrev dktX2_fewest_2 : List UInt8 := dkwX2_fewest_2 ++ dktX2_fewest_3
def dkwX2_fewest_1 : List UInt8 := [156, 0, 6, 21, 5, 172, 42, 27, 182, 1, 35, 42, 180, 0, 253, 16, 16, 164, 0, 6, 16, 251, 172, 3]
abbrev dktX2_fewest_1 : List UInt8 := dkwX2_fewest_1 ++ dktX2_fewest_2
def dkwX2_fewest_0 : List UInt8 := [27, 184, 0, 140, 153, 0, 8, 28, 2, 162, 0, 5, 2, 172, 42, 27, 3, 182, 1, 32, 54, 5, 21, 5]
abbrev dktX2_fewest_0 : List UInt8 := dkwX2_fewest_0 ++ dktX2_fewest_1
theorem dksX2_fewest_0 : cX2_fewest.data.toList.drop 0 = dktX2_fewest_0 := by decide +kernel
theorem dksX2_fewest_1 : cX2_fewest.data.toList.drop 24 = dktX2_fewest_1 := dk_seg dksX2_fewest_0 24 rfl rfl
theorem dksX2_fewest_2 : cX2_fewest.data.toList.drop 48 = dktX2_fewest_2 := dk_seg dksX2_fewest_1 24 rfl rfl
theorem dksX2_fewest_3 : cX2_fewest.data.toList.drop 71 = dktX2_fewest_3 := dk_seg dksX2_fewest_2 23 rfl rfl
theorem dksX2_fewest_4 : cX2_fewest.data.toList.drop 94 = dktX2_fewest_4 := dk_seg dksX2_fewest_3 23 rfl rfl
theorem dX2_fewest_0 : decode cX2_fewest 0 = .ok (.iload_n 1, 1) := dk_27 (dk_at dksX2_fewest_0 0 rfl rfl)
theorem dX2_fewest_1 : decode cX2_fewest 1 = .ok (.invokestatic 140, 3) := dk_184 0 140 (dk_at dksX2_fewest_0 1 rfl rfl)
theorem dX2_fewest_4 : decode cX2_fewest 4 = .ok (.ifCond .eq 8, 3) := dk_153 0 8 (dk_at dksX2_fewest_0 4 rfl rfl)
theorem dX2_fewest_7 : decode cX2_fewest 7 = .ok (.iload_n 2, 1) := dk_28 (dk_at dksX2_fewest_0 7 rfl rfl)
theorem dX2_fewest_8 : decode cX2_fewest 8 = .ok (.iconst (-1), 1) := dk_2 (dk_at dksX2_fewest_0 8 rfl rfl)
theorem dX2_fewest_9 : decode cX2_fewest 9 = .ok (.if_icmp .ge 5, 3) := dk_162 0 5 (dk_at dksX2_fewest_0 9 rfl rfl)
theorem dX2_fewest_12 : decode cX2_fewest 12 = .ok (.iconst (-1), 1) := dk_2 (dk_at dksX2_fewest_0 12 rfl rfl)
theorem dX2_fewest_13 : decode cX2_fewest 13 = .ok (.ireturn, 1) := dk_172 (dk_at dksX2_fewest_0 13 rfl rfl)
theorem dX2_fewest_14 : decode cX2_fewest 14 = .ok (.aload_n 0, 1) := dk_42 (dk_at dksX2_fewest_0 14 rfl rfl)
theorem dX2_fewest_15 : decode cX2_fewest 15 = .ok (.iload_n 1, 1) := dk_27 (dk_at dksX2_fewest_0 15 rfl rfl)
theorem dX2_fewest_16 : decode cX2_fewest 16 = .ok (.iconst 0, 1) := dk_3 (dk_at dksX2_fewest_0 16 rfl rfl)
theorem dX2_fewest_17 : decode cX2_fewest 17 = .ok (.invokevirtual 288, 3) := dk_182 1 32 (dk_at dksX2_fewest_0 17 rfl rfl)
theorem dX2_fewest_20 : decode cX2_fewest 20 = .ok (.istore 5, 2) := dk_54 5 (dk_at dksX2_fewest_0 20 rfl rfl)
theorem dX2_fewest_22 : decode cX2_fewest 22 = .ok (.iload 5, 2) := dk_21 5 (dk_at dksX2_fewest_0 22 rfl rfl)
theorem dX2_fewest_24 : decode cX2_fewest 24 = .ok (.ifCond .ge 6, 3) := dk_156 0 6 (dk_at dksX2_fewest_1 0 rfl rfl)
theorem dX2_fewest_27 : decode cX2_fewest 27 = .ok (.iload 5, 2) := dk_21 5 (dk_at dksX2_fewest_1 3 rfl rfl)
theorem dX2_fewest_29 : decode cX2_fewest 29 = .ok (.ireturn, 1) := dk_172 (dk_at dksX2_fewest_1 5 rfl rfl)
theorem dX2_fewest_30 : decode cX2_fewest 30 = .ok (.aload_n 0, 1) := dk_42 (dk_at dksX2_fewest_1 6 rfl rfl)
theorem dX2_fewest_31 : decode cX2_fewest 31 = .ok (.iload_n 1, 1) := dk_27 (dk_at dksX2_fewest_1 7 rfl rfl)
theorem dX2_fewest_32 : decode cX2_fewest 32 = .ok (.invokevirtual 291, 3) := dk_182 1 35 (dk_at dksX2_fewest_1 8 rfl rfl)
theorem dX2_fewest_35 : decode cX2_fewest 35 = .ok (.aload_n 0, 1) := dk_42 (dk_at dksX2_fewest_1 11 rfl rfl)
theorem dX2_fewest_36 : decode cX2_fewest 36 = .ok (.getfield 253, 3) := dk_180 0 253 (dk_at dksX2_fewest_1 12 rfl rfl)
theorem dX2_fewest_39 : decode cX2_fewest 39 = .ok (.bipush 16, 2) := dk_16 16 (dk_at dksX2_fewest_1 15 rfl rfl)
theorem dX2_fewest_41 : decode cX2_fewest 41 = .ok (.if_icmp .le 6, 3) := dk_164 0 6 (dk_at dksX2_fewest_1 17 rfl rfl)
theorem dX2_fewest_44 : decode cX2_fewest 44 = .ok (.bipush (-5), 2) := dk_16 251 (dk_at dksX2_fewest_1 20 rfl rfl)
theorem dX2_fewest_46 : decode cX2_fewest 46 = .ok (.ireturn, 1) := dk_172 (dk_at dksX2_fewest_1 22 rfl rfl)
theorem dX2_fewest_47 : decode cX2_fewest 47 = .ok (.iconst 0, 1) := dk_3 (dk_at dksX2_fewest_1 23 rfl rfl)
theorem dX2_fewest_48 : decode cX2_fewest 48 = .ok (.istore 6, 2) := dk_54 6 (dk_at dksX2_fewest_2 0 rfl rfl)
theorem dX2_fewest_50 : decode cX2_fewest 50 = .ok (.iload 6, 2) := dk_21 6 (dk_at dksX2_fewest_2 2 rfl rfl)
theorem dX2_fewest_52 : decode cX2_fewest 52 = .ok (.bipush 11, 2) := dk_16 11 (dk_at dksX2_fewest_2 4 rfl rfl)
theorem dX2_fewest_54 : decode cX2_fewest 54 = .ok (.if_icmp .ge 23, 3) := dk_162 0 23 (dk_at dksX2_fewest_2 6 rfl rfl)
theorem dX2_fewest_57 : decode cX2_fewest 57 = .ok (.aload_n 0, 1) := dk_42 (dk_at dksX2_fewest_2 9 rfl rfl)
theorem dX2_fewest_58 : decode cX2_fewest 58 = .ok (.iconst 0, 1) := dk_3 (dk_at dksX2_fewest_2 10 rfl rfl)
theorem dX2_fewest_59 : decode cX2_fewest 59 = .ok (.iload 6, 2) := dk_21 6 (dk_at dksX2_fewest_2 11 rfl rfl)
theorem dX2_fewest_61 : decode cX2_fewest 61 = .ok (.iconst 0, 1) := dk_3 (dk_at dksX2_fewest_2 13 rfl rfl)
theorem dX2_fewest_62 : decode cX2_fewest 62 = .ok (.iload_n 3, 1) := dk_29 (dk_at dksX2_fewest_2 14 rfl rfl)
theorem dX2_fewest_63 : decode cX2_fewest 63 = .ok (.iload 4, 2) := dk_21 4 (dk_at dksX2_fewest_2 15 rfl rfl)
theorem dX2_fewest_65 : decode cX2_fewest 65 = .ok (.invokevirtual 316, 3) := dk_182 1 60 (dk_at dksX2_fewest_2 17 rfl rfl)
theorem dX2_fewest_68 : decode cX2_fewest 68 = .ok (.ifCond .ne 9, 3) := dk_154 0 9 (dk_at dksX2_fewest_2 20 rfl rfl)
theorem dX2_fewest_71 : decode cX2_fewest 71 = .ok (.iinc 6 1, 3) := dk_132 6 1 (dk_at dksX2_fewest_3 0 rfl rfl)
theorem dX2_fewest_74 : decode cX2_fewest 74 = .ok (.goto (-24), 3) := dk_167 255 232 (dk_at dksX2_fewest_3 3 rfl rfl)
theorem dX2_fewest_77 : decode cX2_fewest 77 = .ok (.iload 6, 2) := dk_21 6 (dk_at dksX2_fewest_3 6 rfl rfl)
theorem dX2_fewest_79 : decode cX2_fewest 79 = .ok (.bipush 11, 2) := dk_16 11 (dk_at dksX2_fewest_3 8 rfl rfl)
theorem dX2_fewest_81 : decode cX2_fewest 81 = .ok (.if_icmp .ne 6, 3) := dk_160 0 6 (dk_at dksX2_fewest_3 10 rfl rfl)
theorem dX2_fewest_84 : decode cX2_fewest 84 = .ok (.bipush (-2), 2) := dk_16 254 (dk_at dksX2_fewest_3 13 rfl rfl)
theorem dX2_fewest_86 : decode cX2_fewest 86 = .ok (.ireturn, 1) := dk_172 (dk_at dksX2_fewest_3 15 rfl rfl)
theorem dX2_fewest_87 : decode cX2_fewest 87 = .ok (.iload_n 2, 1) := dk_28 (dk_at dksX2_fewest_3 16 rfl rfl)
theorem dX2_fewest_88 : decode cX2_fewest 88 = .ok (.iconst (-1), 1) := dk_2 (dk_at dksX2_fewest_3 17 rfl rfl)
theorem dX2_fewest_89 : decode cX2_fewest 89 = .ok (.if_icmp .ne 8, 3) := dk_160 0 8 (dk_at dksX2_fewest_3 18 rfl rfl)
theorem dX2_fewest_92 : decode cX2_fewest 92 = .ok (.iload 6, 2) := dk_21 6 (dk_at dksX2_fewest_3 21 rfl rfl)
theorem dX2_fewest_94 : decode cX2_fewest 94 = .ok (.goto 20, 3) := dk_167 0 20 (dk_at dksX2_fewest_4 0 rfl rfl)
theorem dX2_fewest_97 : decode cX2_fewest 97 = .ok (.iload_n 2, 1) := dk_28 (dk_at dksX2_fewest_4 3 rfl rfl)
theorem dX2_fewest_98 : decode cX2_fewest 98 = .ok (.iload 6, 2) := dk_21 6 (dk_at dksX2_fewest_4 4 rfl rfl)
theorem dX2_fewest_100 : decode cX2_fewest 100 = .ok (.if_icmp .ge 12, 3) := dk_162 0 12 (dk_at dksX2_fewest_4 6 rfl rfl)
theorem dX2_fewest_103 : decode cX2_fewest 103 = .ok (.aload_n 0, 1) := dk_42 (dk_at dksX2_fewest_4 9 rfl rfl)
theorem dX2_fewest_104 : decode cX2_fewest 104 = .ok (.getfield 112, 3) := dk_180 0 112 (dk_at dksX2_fewest_4 10 rfl rfl)
theorem dX2_fewest_107 : decode cX2_fewest 107 = .ok (.iload_n 2, 1) := dk_28 (dk_at dksX2_fewest_4 13 rfl rfl)
theorem dX2_fewest_108 : decode cX2_fewest 108 = .ok (.iaload, 1) := dk_46 (dk_at dksX2_fewest_4 14 rfl rfl)
theorem dX2_fewest_109 : decode cX2_fewest 109 = .ok (.goto 5, 3) := dk_167 0 5 (dk_at dksX2_fewest_4 15 rfl rfl)
theorem dX2_fewest_112 : decode cX2_fewest 112 = .ok (.bipush (-2), 2) := dk_16 254 (dk_at dksX2_fewest_4 18 rfl rfl)
theorem dX2_fewest_114 : decode cX2_fewest 114 = .ok (.ireturn, 1) := dk_172 (dk_at dksX2_fewest_4 20 rfl rfl)
abbrev cX2_picks : ByteArray := prog_31_method_55_code
def yX2_picks : MethodName := ⟨RX2, "picks", "(IIIII)Z"⟩
def dkwX2_picks_4 : List UInt8 := [180, 0, 103, 21, 6, 21, 4, 79, 21, 7, 153, 0, 5, 4, 172, 132, 6, 1, 167, 255, 178, 3, 172]
abbrev dktX2_picks_4 : List UInt8 := dkwX2_picks_4 ++ []
def dkwX2_picks_3 : List UInt8 := [27, 21, 6, 79, 42, 27, 4, 96, 28, 21, 6, 4, 96, 21, 4, 21, 5, 182, 1, 60, 54, 7, 42]
abbrev dktX2_picks_3 : List UInt8 := dkwX2_picks_3 ++ dktX2_picks_4
def dkwX2_picks_2 : List UInt8 := [21, 6, 46, 21, 4, 159, 0, 6, 167, 0, 54, 42, 180, 0, 103, 21, 6, 21, 5, 79, 42, 180, 0, 112]
abbrev dktX2_picks_2 : List UInt8 := dkwX2_picks_2 ++ dktX2_picks_3
def dkwX2_picks_1 : List UInt8 := [167, 0, 7, 42, 182, 1, 57, 172, 29, 54, 6, 21, 6, 42, 180, 0, 253, 162, 0, 75, 42, 180, 0, 103]
abbrev dktX2_picks_1 : List UInt8 := dkwX2_picks_1 ++ dktX2_picks_2
def dkwX2_picks_0 : List UInt8 := [27, 28, 160, 0, 29, 21, 4, 4, 160, 0, 18, 42, 182, 1, 54, 154, 0, 7, 4, 167, 0, 11, 3]
abbrev dktX2_picks_0 : List UInt8 := dkwX2_picks_0 ++ dktX2_picks_1
theorem dksX2_picks_0 : cX2_picks.data.toList.drop 0 = dktX2_picks_0 := by decide +kernel
theorem dksX2_picks_1 : cX2_picks.data.toList.drop 23 = dktX2_picks_1 := dk_seg dksX2_picks_0 23 rfl rfl
theorem dksX2_picks_2 : cX2_picks.data.toList.drop 47 = dktX2_picks_2 := dk_seg dksX2_picks_1 24 rfl rfl
theorem dksX2_picks_3 : cX2_picks.data.toList.drop 71 = dktX2_picks_3 := dk_seg dksX2_picks_2 24 rfl rfl
theorem dksX2_picks_4 : cX2_picks.data.toList.drop 94 = dktX2_picks_4 := dk_seg dksX2_picks_3 23 rfl rfl
theorem dX2_picks_0 : decode cX2_picks 0 = .ok (.iload_n 1, 1) := dk_27 (dk_at dksX2_picks_0 0 rfl rfl)
theorem dX2_picks_1 : decode cX2_picks 1 = .ok (.iload_n 2, 1) := dk_28 (dk_at dksX2_picks_0 1 rfl rfl)
theorem dX2_picks_2 : decode cX2_picks 2 = .ok (.if_icmp .ne 29, 3) := dk_160 0 29 (dk_at dksX2_picks_0 2 rfl rfl)
theorem dX2_picks_5 : decode cX2_picks 5 = .ok (.iload 4, 2) := dk_21 4 (dk_at dksX2_picks_0 5 rfl rfl)
theorem dX2_picks_7 : decode cX2_picks 7 = .ok (.iconst 1, 1) := dk_4 (dk_at dksX2_picks_0 7 rfl rfl)
theorem dX2_picks_8 : decode cX2_picks 8 = .ok (.if_icmp .ne 18, 3) := dk_160 0 18 (dk_at dksX2_picks_0 8 rfl rfl)
theorem dX2_picks_11 : decode cX2_picks 11 = .ok (.aload_n 0, 1) := dk_42 (dk_at dksX2_picks_0 11 rfl rfl)
theorem dX2_picks_12 : decode cX2_picks 12 = .ok (.invokevirtual 310, 3) := dk_182 1 54 (dk_at dksX2_picks_0 12 rfl rfl)
theorem dX2_picks_15 : decode cX2_picks 15 = .ok (.ifCond .ne 7, 3) := dk_154 0 7 (dk_at dksX2_picks_0 15 rfl rfl)
theorem dX2_picks_18 : decode cX2_picks 18 = .ok (.iconst 1, 1) := dk_4 (dk_at dksX2_picks_0 18 rfl rfl)
theorem dX2_picks_19 : decode cX2_picks 19 = .ok (.goto 11, 3) := dk_167 0 11 (dk_at dksX2_picks_0 19 rfl rfl)
theorem dX2_picks_22 : decode cX2_picks 22 = .ok (.iconst 0, 1) := dk_3 (dk_at dksX2_picks_0 22 rfl rfl)
theorem dX2_picks_23 : decode cX2_picks 23 = .ok (.goto 7, 3) := dk_167 0 7 (dk_at dksX2_picks_1 0 rfl rfl)
theorem dX2_picks_26 : decode cX2_picks 26 = .ok (.aload_n 0, 1) := dk_42 (dk_at dksX2_picks_1 3 rfl rfl)
theorem dX2_picks_27 : decode cX2_picks 27 = .ok (.invokevirtual 313, 3) := dk_182 1 57 (dk_at dksX2_picks_1 4 rfl rfl)
theorem dX2_picks_30 : decode cX2_picks 30 = .ok (.ireturn, 1) := dk_172 (dk_at dksX2_picks_1 7 rfl rfl)
theorem dX2_picks_31 : decode cX2_picks 31 = .ok (.iload_n 3, 1) := dk_29 (dk_at dksX2_picks_1 8 rfl rfl)
theorem dX2_picks_32 : decode cX2_picks 32 = .ok (.istore 6, 2) := dk_54 6 (dk_at dksX2_picks_1 9 rfl rfl)
theorem dX2_picks_34 : decode cX2_picks 34 = .ok (.iload 6, 2) := dk_21 6 (dk_at dksX2_picks_1 11 rfl rfl)
theorem dX2_picks_36 : decode cX2_picks 36 = .ok (.aload_n 0, 1) := dk_42 (dk_at dksX2_picks_1 13 rfl rfl)
theorem dX2_picks_37 : decode cX2_picks 37 = .ok (.getfield 253, 3) := dk_180 0 253 (dk_at dksX2_picks_1 14 rfl rfl)
theorem dX2_picks_40 : decode cX2_picks 40 = .ok (.if_icmp .ge 75, 3) := dk_162 0 75 (dk_at dksX2_picks_1 17 rfl rfl)
theorem dX2_picks_43 : decode cX2_picks 43 = .ok (.aload_n 0, 1) := dk_42 (dk_at dksX2_picks_1 20 rfl rfl)
theorem dX2_picks_44 : decode cX2_picks 44 = .ok (.getfield 103, 3) := dk_180 0 103 (dk_at dksX2_picks_1 21 rfl rfl)
theorem dX2_picks_47 : decode cX2_picks 47 = .ok (.iload 6, 2) := dk_21 6 (dk_at dksX2_picks_2 0 rfl rfl)
theorem dX2_picks_49 : decode cX2_picks 49 = .ok (.iaload, 1) := dk_46 (dk_at dksX2_picks_2 2 rfl rfl)
theorem dX2_picks_50 : decode cX2_picks 50 = .ok (.iload 4, 2) := dk_21 4 (dk_at dksX2_picks_2 3 rfl rfl)
theorem dX2_picks_52 : decode cX2_picks 52 = .ok (.if_icmp .eq 6, 3) := dk_159 0 6 (dk_at dksX2_picks_2 5 rfl rfl)
theorem dX2_picks_55 : decode cX2_picks 55 = .ok (.goto 54, 3) := dk_167 0 54 (dk_at dksX2_picks_2 8 rfl rfl)
theorem dX2_picks_58 : decode cX2_picks 58 = .ok (.aload_n 0, 1) := dk_42 (dk_at dksX2_picks_2 11 rfl rfl)
theorem dX2_picks_59 : decode cX2_picks 59 = .ok (.getfield 103, 3) := dk_180 0 103 (dk_at dksX2_picks_2 12 rfl rfl)
theorem dX2_picks_62 : decode cX2_picks 62 = .ok (.iload 6, 2) := dk_21 6 (dk_at dksX2_picks_2 15 rfl rfl)
theorem dX2_picks_64 : decode cX2_picks 64 = .ok (.iload 5, 2) := dk_21 5 (dk_at dksX2_picks_2 17 rfl rfl)
theorem dX2_picks_66 : decode cX2_picks 66 = .ok (.iastore, 1) := dk_79 (dk_at dksX2_picks_2 19 rfl rfl)
theorem dX2_picks_67 : decode cX2_picks 67 = .ok (.aload_n 0, 1) := dk_42 (dk_at dksX2_picks_2 20 rfl rfl)
theorem dX2_picks_68 : decode cX2_picks 68 = .ok (.getfield 112, 3) := dk_180 0 112 (dk_at dksX2_picks_2 21 rfl rfl)
theorem dX2_picks_71 : decode cX2_picks 71 = .ok (.iload_n 1, 1) := dk_27 (dk_at dksX2_picks_3 0 rfl rfl)
theorem dX2_picks_72 : decode cX2_picks 72 = .ok (.iload 6, 2) := dk_21 6 (dk_at dksX2_picks_3 1 rfl rfl)
theorem dX2_picks_74 : decode cX2_picks 74 = .ok (.iastore, 1) := dk_79 (dk_at dksX2_picks_3 3 rfl rfl)
theorem dX2_picks_75 : decode cX2_picks 75 = .ok (.aload_n 0, 1) := dk_42 (dk_at dksX2_picks_3 4 rfl rfl)
theorem dX2_picks_76 : decode cX2_picks 76 = .ok (.iload_n 1, 1) := dk_27 (dk_at dksX2_picks_3 5 rfl rfl)
theorem dX2_picks_77 : decode cX2_picks 77 = .ok (.iconst 1, 1) := dk_4 (dk_at dksX2_picks_3 6 rfl rfl)
theorem dX2_picks_78 : decode cX2_picks 78 = .ok (.iadd, 1) := dk_96 (dk_at dksX2_picks_3 7 rfl rfl)
theorem dX2_picks_79 : decode cX2_picks 79 = .ok (.iload_n 2, 1) := dk_28 (dk_at dksX2_picks_3 8 rfl rfl)
theorem dX2_picks_80 : decode cX2_picks 80 = .ok (.iload 6, 2) := dk_21 6 (dk_at dksX2_picks_3 9 rfl rfl)
theorem dX2_picks_82 : decode cX2_picks 82 = .ok (.iconst 1, 1) := dk_4 (dk_at dksX2_picks_3 11 rfl rfl)
theorem dX2_picks_83 : decode cX2_picks 83 = .ok (.iadd, 1) := dk_96 (dk_at dksX2_picks_3 12 rfl rfl)
theorem dX2_picks_84 : decode cX2_picks 84 = .ok (.iload 4, 2) := dk_21 4 (dk_at dksX2_picks_3 13 rfl rfl)
theorem dX2_picks_86 : decode cX2_picks 86 = .ok (.iload 5, 2) := dk_21 5 (dk_at dksX2_picks_3 15 rfl rfl)
theorem dX2_picks_88 : decode cX2_picks 88 = .ok (.invokevirtual 316, 3) := dk_182 1 60 (dk_at dksX2_picks_3 17 rfl rfl)
theorem dX2_picks_91 : decode cX2_picks 91 = .ok (.istore 7, 2) := dk_54 7 (dk_at dksX2_picks_3 20 rfl rfl)
theorem dX2_picks_93 : decode cX2_picks 93 = .ok (.aload_n 0, 1) := dk_42 (dk_at dksX2_picks_3 22 rfl rfl)
theorem dX2_picks_94 : decode cX2_picks 94 = .ok (.getfield 103, 3) := dk_180 0 103 (dk_at dksX2_picks_4 0 rfl rfl)
theorem dX2_picks_97 : decode cX2_picks 97 = .ok (.iload 6, 2) := dk_21 6 (dk_at dksX2_picks_4 3 rfl rfl)
theorem dX2_picks_99 : decode cX2_picks 99 = .ok (.iload 4, 2) := dk_21 4 (dk_at dksX2_picks_4 5 rfl rfl)
theorem dX2_picks_101 : decode cX2_picks 101 = .ok (.iastore, 1) := dk_79 (dk_at dksX2_picks_4 7 rfl rfl)
theorem dX2_picks_102 : decode cX2_picks 102 = .ok (.iload 7, 2) := dk_21 7 (dk_at dksX2_picks_4 8 rfl rfl)
theorem dX2_picks_104 : decode cX2_picks 104 = .ok (.ifCond .eq 5, 3) := dk_153 0 5 (dk_at dksX2_picks_4 10 rfl rfl)
theorem dX2_picks_107 : decode cX2_picks 107 = .ok (.iconst 1, 1) := dk_4 (dk_at dksX2_picks_4 13 rfl rfl)
theorem dX2_picks_108 : decode cX2_picks 108 = .ok (.ireturn, 1) := dk_172 (dk_at dksX2_picks_4 14 rfl rfl)
theorem dX2_picks_109 : decode cX2_picks 109 = .ok (.iinc 6 1, 3) := dk_132 6 1 (dk_at dksX2_picks_4 15 rfl rfl)
theorem dX2_picks_112 : decode cX2_picks 112 = .ok (.goto (-78), 3) := dk_167 255 178 (dk_at dksX2_picks_4 18 rfl rfl)
theorem dX2_picks_115 : decode cX2_picks 115 = .ok (.iconst 0, 1) := dk_3 (dk_at dksX2_picks_4 21 rfl rfl)
theorem dX2_picks_116 : decode cX2_picks 116 = .ok (.ireturn, 1) := dk_172 (dk_at dksX2_picks_4 22 rfl rfl)
abbrev cX2_isNeverApart : ByteArray := prog_31_method_54_code
def yX2_isNeverApart : MethodName := ⟨RX2, "isNeverApart", "()Z"⟩
def dkwX2_isNeverApart_0 : List UInt8 := [42, 3, 182, 1, 22, 42, 182, 1, 42, 16, 254, 160, 0, 7, 4, 167, 0, 4, 3, 172]
abbrev dktX2_isNeverApart_0 : List UInt8 := dkwX2_isNeverApart_0 ++ []
theorem dksX2_isNeverApart_0 : cX2_isNeverApart.data.toList.drop 0 = dktX2_isNeverApart_0 := by decide +kernel
theorem dX2_isNeverApart_0 : decode cX2_isNeverApart 0 = .ok (.aload_n 0, 1) := dk_42 (dk_at dksX2_isNeverApart_0 0 rfl rfl)
theorem dX2_isNeverApart_1 : decode cX2_isNeverApart 1 = .ok (.iconst 0, 1) := dk_3 (dk_at dksX2_isNeverApart_0 1 rfl rfl)
theorem dX2_isNeverApart_2 : decode cX2_isNeverApart 2 = .ok (.invokevirtual 278, 3) := dk_182 1 22 (dk_at dksX2_isNeverApart_0 2 rfl rfl)
theorem dX2_isNeverApart_5 : decode cX2_isNeverApart 5 = .ok (.aload_n 0, 1) := dk_42 (dk_at dksX2_isNeverApart_0 5 rfl rfl)
theorem dX2_isNeverApart_6 : decode cX2_isNeverApart 6 = .ok (.invokevirtual 298, 3) := dk_182 1 42 (dk_at dksX2_isNeverApart_0 6 rfl rfl)
theorem dX2_isNeverApart_9 : decode cX2_isNeverApart 9 = .ok (.bipush (-2), 2) := dk_16 254 (dk_at dksX2_isNeverApart_0 9 rfl rfl)
theorem dX2_isNeverApart_11 : decode cX2_isNeverApart 11 = .ok (.if_icmp .ne 7, 3) := dk_160 0 7 (dk_at dksX2_isNeverApart_0 11 rfl rfl)
theorem dX2_isNeverApart_14 : decode cX2_isNeverApart 14 = .ok (.iconst 1, 1) := dk_4 (dk_at dksX2_isNeverApart_0 14 rfl rfl)
theorem dX2_isNeverApart_15 : decode cX2_isNeverApart 15 = .ok (.goto 4, 3) := dk_167 0 4 (dk_at dksX2_isNeverApart_0 15 rfl rfl)
theorem dX2_isNeverApart_18 : decode cX2_isNeverApart 18 = .ok (.iconst 0, 1) := dk_3 (dk_at dksX2_isNeverApart_0 18 rfl rfl)
theorem dX2_isNeverApart_19 : decode cX2_isNeverApart 19 = .ok (.ireturn, 1) := dk_172 (dk_at dksX2_isNeverApart_0 19 rfl rfl)
abbrev cX2_looks : ByteArray := prog_31_method_58_code
def yX2_looks : MethodName := ⟨RX2, "looks", "(II)I"⟩
def dkwX2_looks_0 : List UInt8 := [42, 27, 28, 3, 7, 182, 1, 64, 172]
abbrev dktX2_looks_0 : List UInt8 := dkwX2_looks_0 ++ []
theorem dksX2_looks_0 : cX2_looks.data.toList.drop 0 = dktX2_looks_0 := by decide +kernel
theorem dX2_looks_0 : decode cX2_looks 0 = .ok (.aload_n 0, 1) := dk_42 (dk_at dksX2_looks_0 0 rfl rfl)
theorem dX2_looks_1 : decode cX2_looks 1 = .ok (.iload_n 1, 1) := dk_27 (dk_at dksX2_looks_0 1 rfl rfl)
theorem dX2_looks_2 : decode cX2_looks 2 = .ok (.iload_n 2, 1) := dk_28 (dk_at dksX2_looks_0 2 rfl rfl)
theorem dX2_looks_3 : decode cX2_looks 3 = .ok (.iconst 0, 1) := dk_3 (dk_at dksX2_looks_0 3 rfl rfl)
theorem dX2_looks_4 : decode cX2_looks 4 = .ok (.iconst 4, 1) := dk_7 (dk_at dksX2_looks_0 4 rfl rfl)
theorem dX2_looks_5 : decode cX2_looks 5 = .ok (.invokevirtual 320, 3) := dk_182 1 64 (dk_at dksX2_looks_0 5 rfl rfl)
theorem dX2_looks_8 : decode cX2_looks 8 = .ok (.ireturn, 1) := dk_172 (dk_at dksX2_looks_0 8 rfl rfl)
abbrev cX2_whose : ByteArray := prog_31_method_59_code
def yX2_whose : MethodName := ⟨RX2, "whose", "(II)I"⟩
def dkwX2_whose_5 : List UInt8 := [154, 0, 8, 21, 5, 167, 0, 5, 21, 6, 172]
abbrev dktX2_whose_5 : List UInt8 := dkwX2_whose_5 ++ []
def dkwX2_whose_4 : List UInt8 := [21, 8, 54, 6, 21, 7, 54, 5, 132, 7, 1, 167, 255, 205, 42, 180, 0, 30, 3, 21, 4, 79, 28]
abbrev dktX2_whose_4 : List UInt8 := dkwX2_whose_4 ++ dktX2_whose_5
def dkwX2_whose_3 : List UInt8 := [42, 182, 1, 39, 54, 8, 21, 5, 16, 254, 159, 0, 13, 21, 8, 21, 6, 161, 0, 6, 167, 0, 11]
abbrev dktX2_whose_3 : List UInt8 := dkwX2_whose_3 ++ dktX2_whose_4
def dkwX2_whose_2 : List UInt8 := [16, 254, 54, 6, 3, 54, 7, 21, 7, 42, 180, 0, 125, 162, 0, 48, 42, 180, 0, 30, 3, 21, 7, 79]
abbrev dktX2_whose_2 : List UInt8 := dkwX2_whose_2 ++ dktX2_whose_3
def dkwX2_whose_1 : List UInt8 := [62, 29, 156, 0, 5, 29, 172, 42, 27, 182, 1, 35, 42, 180, 0, 30, 3, 46, 54, 4, 16, 254, 54, 5]
abbrev dktX2_whose_1 : List UInt8 := dkwX2_whose_1 ++ dktX2_whose_2
def dkwX2_whose_0 : List UInt8 := [27, 184, 0, 140, 153, 0, 12, 28, 3, 4, 184, 0, 128, 154, 0, 5, 2, 172, 42, 27, 3, 182, 1, 32]
abbrev dktX2_whose_0 : List UInt8 := dkwX2_whose_0 ++ dktX2_whose_1
theorem dksX2_whose_0 : cX2_whose.data.toList.drop 0 = dktX2_whose_0 := by decide +kernel
theorem dksX2_whose_1 : cX2_whose.data.toList.drop 24 = dktX2_whose_1 := dk_seg dksX2_whose_0 24 rfl rfl
theorem dksX2_whose_2 : cX2_whose.data.toList.drop 48 = dktX2_whose_2 := dk_seg dksX2_whose_1 24 rfl rfl
theorem dksX2_whose_3 : cX2_whose.data.toList.drop 72 = dktX2_whose_3 := dk_seg dksX2_whose_2 24 rfl rfl
theorem dksX2_whose_4 : cX2_whose.data.toList.drop 95 = dktX2_whose_4 := dk_seg dksX2_whose_3 23 rfl rfl
theorem dksX2_whose_5 : cX2_whose.data.toList.drop 118 = dktX2_whose_5 := dk_seg dksX2_whose_4 23 rfl rfl
theorem dX2_whose_0 : decode cX2_whose 0 = .ok (.iload_n 1, 1) := dk_27 (dk_at dksX2_whose_0 0 rfl rfl)
theorem dX2_whose_1 : decode cX2_whose 1 = .ok (.invokestatic 140, 3) := dk_184 0 140 (dk_at dksX2_whose_0 1 rfl rfl)
theorem dX2_whose_4 : decode cX2_whose 4 = .ok (.ifCond .eq 12, 3) := dk_153 0 12 (dk_at dksX2_whose_0 4 rfl rfl)
theorem dX2_whose_7 : decode cX2_whose 7 = .ok (.iload_n 2, 1) := dk_28 (dk_at dksX2_whose_0 7 rfl rfl)
theorem dX2_whose_8 : decode cX2_whose 8 = .ok (.iconst 0, 1) := dk_3 (dk_at dksX2_whose_0 8 rfl rfl)
theorem dX2_whose_9 : decode cX2_whose 9 = .ok (.iconst 1, 1) := dk_4 (dk_at dksX2_whose_0 9 rfl rfl)
theorem dX2_whose_10 : decode cX2_whose 10 = .ok (.invokestatic 128, 3) := dk_184 0 128 (dk_at dksX2_whose_0 10 rfl rfl)
theorem dX2_whose_13 : decode cX2_whose 13 = .ok (.ifCond .ne 5, 3) := dk_154 0 5 (dk_at dksX2_whose_0 13 rfl rfl)
theorem dX2_whose_16 : decode cX2_whose 16 = .ok (.iconst (-1), 1) := dk_2 (dk_at dksX2_whose_0 16 rfl rfl)
theorem dX2_whose_17 : decode cX2_whose 17 = .ok (.ireturn, 1) := dk_172 (dk_at dksX2_whose_0 17 rfl rfl)
theorem dX2_whose_18 : decode cX2_whose 18 = .ok (.aload_n 0, 1) := dk_42 (dk_at dksX2_whose_0 18 rfl rfl)
theorem dX2_whose_19 : decode cX2_whose 19 = .ok (.iload_n 1, 1) := dk_27 (dk_at dksX2_whose_0 19 rfl rfl)
theorem dX2_whose_20 : decode cX2_whose 20 = .ok (.iconst 0, 1) := dk_3 (dk_at dksX2_whose_0 20 rfl rfl)
theorem dX2_whose_21 : decode cX2_whose 21 = .ok (.invokevirtual 288, 3) := dk_182 1 32 (dk_at dksX2_whose_0 21 rfl rfl)
theorem dX2_whose_24 : decode cX2_whose 24 = .ok (.istore_n 3, 1) := dk_62 (dk_at dksX2_whose_1 0 rfl rfl)
theorem dX2_whose_25 : decode cX2_whose 25 = .ok (.iload_n 3, 1) := dk_29 (dk_at dksX2_whose_1 1 rfl rfl)
theorem dX2_whose_26 : decode cX2_whose 26 = .ok (.ifCond .ge 5, 3) := dk_156 0 5 (dk_at dksX2_whose_1 2 rfl rfl)
theorem dX2_whose_29 : decode cX2_whose 29 = .ok (.iload_n 3, 1) := dk_29 (dk_at dksX2_whose_1 5 rfl rfl)
theorem dX2_whose_30 : decode cX2_whose 30 = .ok (.ireturn, 1) := dk_172 (dk_at dksX2_whose_1 6 rfl rfl)
theorem dX2_whose_31 : decode cX2_whose 31 = .ok (.aload_n 0, 1) := dk_42 (dk_at dksX2_whose_1 7 rfl rfl)
theorem dX2_whose_32 : decode cX2_whose 32 = .ok (.iload_n 1, 1) := dk_27 (dk_at dksX2_whose_1 8 rfl rfl)
theorem dX2_whose_33 : decode cX2_whose 33 = .ok (.invokevirtual 291, 3) := dk_182 1 35 (dk_at dksX2_whose_1 9 rfl rfl)
theorem dX2_whose_36 : decode cX2_whose 36 = .ok (.aload_n 0, 1) := dk_42 (dk_at dksX2_whose_1 12 rfl rfl)
theorem dX2_whose_37 : decode cX2_whose 37 = .ok (.getfield 30, 3) := dk_180 0 30 (dk_at dksX2_whose_1 13 rfl rfl)
theorem dX2_whose_40 : decode cX2_whose 40 = .ok (.iconst 0, 1) := dk_3 (dk_at dksX2_whose_1 16 rfl rfl)
theorem dX2_whose_41 : decode cX2_whose 41 = .ok (.iaload, 1) := dk_46 (dk_at dksX2_whose_1 17 rfl rfl)
theorem dX2_whose_42 : decode cX2_whose 42 = .ok (.istore 4, 2) := dk_54 4 (dk_at dksX2_whose_1 18 rfl rfl)
theorem dX2_whose_44 : decode cX2_whose 44 = .ok (.bipush (-2), 2) := dk_16 254 (dk_at dksX2_whose_1 20 rfl rfl)
theorem dX2_whose_46 : decode cX2_whose 46 = .ok (.istore 5, 2) := dk_54 5 (dk_at dksX2_whose_1 22 rfl rfl)
theorem dX2_whose_48 : decode cX2_whose 48 = .ok (.bipush (-2), 2) := dk_16 254 (dk_at dksX2_whose_2 0 rfl rfl)
theorem dX2_whose_50 : decode cX2_whose 50 = .ok (.istore 6, 2) := dk_54 6 (dk_at dksX2_whose_2 2 rfl rfl)
theorem dX2_whose_52 : decode cX2_whose 52 = .ok (.iconst 0, 1) := dk_3 (dk_at dksX2_whose_2 4 rfl rfl)
theorem dX2_whose_53 : decode cX2_whose 53 = .ok (.istore 7, 2) := dk_54 7 (dk_at dksX2_whose_2 5 rfl rfl)
theorem dX2_whose_55 : decode cX2_whose 55 = .ok (.iload 7, 2) := dk_21 7 (dk_at dksX2_whose_2 7 rfl rfl)
theorem dX2_whose_57 : decode cX2_whose 57 = .ok (.aload_n 0, 1) := dk_42 (dk_at dksX2_whose_2 9 rfl rfl)
theorem dX2_whose_58 : decode cX2_whose 58 = .ok (.getfield 125, 3) := dk_180 0 125 (dk_at dksX2_whose_2 10 rfl rfl)
theorem dX2_whose_61 : decode cX2_whose 61 = .ok (.if_icmp .ge 48, 3) := dk_162 0 48 (dk_at dksX2_whose_2 13 rfl rfl)
theorem dX2_whose_64 : decode cX2_whose 64 = .ok (.aload_n 0, 1) := dk_42 (dk_at dksX2_whose_2 16 rfl rfl)
theorem dX2_whose_65 : decode cX2_whose 65 = .ok (.getfield 30, 3) := dk_180 0 30 (dk_at dksX2_whose_2 17 rfl rfl)
theorem dX2_whose_68 : decode cX2_whose 68 = .ok (.iconst 0, 1) := dk_3 (dk_at dksX2_whose_2 20 rfl rfl)
theorem dX2_whose_69 : decode cX2_whose 69 = .ok (.iload 7, 2) := dk_21 7 (dk_at dksX2_whose_2 21 rfl rfl)
theorem dX2_whose_71 : decode cX2_whose 71 = .ok (.iastore, 1) := dk_79 (dk_at dksX2_whose_2 23 rfl rfl)
theorem dX2_whose_72 : decode cX2_whose 72 = .ok (.aload_n 0, 1) := dk_42 (dk_at dksX2_whose_3 0 rfl rfl)
theorem dX2_whose_73 : decode cX2_whose 73 = .ok (.invokevirtual 295, 3) := dk_182 1 39 (dk_at dksX2_whose_3 1 rfl rfl)
theorem dX2_whose_76 : decode cX2_whose 76 = .ok (.istore 8, 2) := dk_54 8 (dk_at dksX2_whose_3 4 rfl rfl)
theorem dX2_whose_78 : decode cX2_whose 78 = .ok (.iload 5, 2) := dk_21 5 (dk_at dksX2_whose_3 6 rfl rfl)
theorem dX2_whose_80 : decode cX2_whose 80 = .ok (.bipush (-2), 2) := dk_16 254 (dk_at dksX2_whose_3 8 rfl rfl)
theorem dX2_whose_82 : decode cX2_whose 82 = .ok (.if_icmp .eq 13, 3) := dk_159 0 13 (dk_at dksX2_whose_3 10 rfl rfl)
theorem dX2_whose_85 : decode cX2_whose 85 = .ok (.iload 8, 2) := dk_21 8 (dk_at dksX2_whose_3 13 rfl rfl)
theorem dX2_whose_87 : decode cX2_whose 87 = .ok (.iload 6, 2) := dk_21 6 (dk_at dksX2_whose_3 15 rfl rfl)
theorem dX2_whose_89 : decode cX2_whose 89 = .ok (.if_icmp .lt 6, 3) := dk_161 0 6 (dk_at dksX2_whose_3 17 rfl rfl)
theorem dX2_whose_92 : decode cX2_whose 92 = .ok (.goto 11, 3) := dk_167 0 11 (dk_at dksX2_whose_3 20 rfl rfl)
theorem dX2_whose_95 : decode cX2_whose 95 = .ok (.iload 8, 2) := dk_21 8 (dk_at dksX2_whose_4 0 rfl rfl)
theorem dX2_whose_97 : decode cX2_whose 97 = .ok (.istore 6, 2) := dk_54 6 (dk_at dksX2_whose_4 2 rfl rfl)
theorem dX2_whose_99 : decode cX2_whose 99 = .ok (.iload 7, 2) := dk_21 7 (dk_at dksX2_whose_4 4 rfl rfl)
theorem dX2_whose_101 : decode cX2_whose 101 = .ok (.istore 5, 2) := dk_54 5 (dk_at dksX2_whose_4 6 rfl rfl)
theorem dX2_whose_103 : decode cX2_whose 103 = .ok (.iinc 7 1, 3) := dk_132 7 1 (dk_at dksX2_whose_4 8 rfl rfl)
theorem dX2_whose_106 : decode cX2_whose 106 = .ok (.goto (-51), 3) := dk_167 255 205 (dk_at dksX2_whose_4 11 rfl rfl)
theorem dX2_whose_109 : decode cX2_whose 109 = .ok (.aload_n 0, 1) := dk_42 (dk_at dksX2_whose_4 14 rfl rfl)
theorem dX2_whose_110 : decode cX2_whose 110 = .ok (.getfield 30, 3) := dk_180 0 30 (dk_at dksX2_whose_4 15 rfl rfl)
theorem dX2_whose_113 : decode cX2_whose 113 = .ok (.iconst 0, 1) := dk_3 (dk_at dksX2_whose_4 18 rfl rfl)
theorem dX2_whose_114 : decode cX2_whose 114 = .ok (.iload 4, 2) := dk_21 4 (dk_at dksX2_whose_4 19 rfl rfl)
theorem dX2_whose_116 : decode cX2_whose 116 = .ok (.iastore, 1) := dk_79 (dk_at dksX2_whose_4 21 rfl rfl)
theorem dX2_whose_117 : decode cX2_whose 117 = .ok (.iload_n 2, 1) := dk_28 (dk_at dksX2_whose_4 22 rfl rfl)
theorem dX2_whose_118 : decode cX2_whose 118 = .ok (.ifCond .ne 8, 3) := dk_154 0 8 (dk_at dksX2_whose_5 0 rfl rfl)
theorem dX2_whose_121 : decode cX2_whose 121 = .ok (.iload 5, 2) := dk_21 5 (dk_at dksX2_whose_5 3 rfl rfl)
theorem dX2_whose_123 : decode cX2_whose 123 = .ok (.goto 5, 3) := dk_167 0 5 (dk_at dksX2_whose_5 5 rfl rfl)
theorem dX2_whose_126 : decode cX2_whose 126 = .ok (.iload 6, 2) := dk_21 6 (dk_at dksX2_whose_5 8 rfl rfl)
theorem dX2_whose_128 : decode cX2_whose 128 = .ok (.ireturn, 1) := dk_172 (dk_at dksX2_whose_5 10 rfl rfl)
abbrev cX2_first : ByteArray := prog_31_method_60_code
def yX2_first : MethodName := ⟨RX2, "first", "(II)I"⟩
def dkwX2_first_5 : List UInt8 := [28, 154, 0, 8, 21, 4, 167, 0, 5, 21, 5, 172]
abbrev dktX2_first_5 : List UInt8 := dkwX2_first_5 ++ []
def dkwX2_first_4 : List UInt8 := [21, 8, 21, 5, 161, 0, 6, 167, 0, 11, 21, 8, 54, 5, 21, 6, 54, 4, 132, 6, 1, 167, 255, 187]
abbrev dktX2_first_4 : List UInt8 := dkwX2_first_4 ++ dktX2_first_5
def dkwX2_first_3 : List UInt8 := [3, 79, 42, 182, 1, 39, 54, 8, 42, 180, 0, 24, 21, 6, 21, 7, 79, 21, 4, 16, 254, 159, 0, 13]
abbrev dktX2_first_3 : List UInt8 := dkwX2_first_3 ++ dktX2_first_4
def dkwX2_first_2 : List UInt8 := [21, 6, 42, 180, 0, 125, 162, 0, 66, 42, 180, 0, 24, 21, 6, 46, 54, 7, 42, 180, 0, 24, 21, 6]
abbrev dktX2_first_2 : List UInt8 := dkwX2_first_2 ++ dktX2_first_3
def dkwX2_first_1 : List UInt8 := [62, 29, 156, 0, 5, 29, 172, 42, 27, 182, 1, 35, 16, 254, 54, 4, 16, 254, 54, 5, 3, 54, 6]
abbrev dktX2_first_1 : List UInt8 := dkwX2_first_1 ++ dktX2_first_2
def dkwX2_first_0 : List UInt8 := [27, 184, 0, 140, 153, 0, 12, 28, 3, 4, 184, 0, 128, 154, 0, 5, 2, 172, 42, 27, 3, 182, 1, 32]
abbrev dktX2_first_0 : List UInt8 := dkwX2_first_0 ++ dktX2_first_1
theorem dksX2_first_0 : cX2_first.data.toList.drop 0 = dktX2_first_0 := by decide +kernel
theorem dksX2_first_1 : cX2_first.data.toList.drop 24 = dktX2_first_1 := dk_seg dksX2_first_0 24 rfl rfl
theorem dksX2_first_2 : cX2_first.data.toList.drop 47 = dktX2_first_2 := dk_seg dksX2_first_1 23 rfl rfl
theorem dksX2_first_3 : cX2_first.data.toList.drop 71 = dktX2_first_3 := dk_seg dksX2_first_2 24 rfl rfl
theorem dksX2_first_4 : cX2_first.data.toList.drop 95 = dktX2_first_4 := dk_seg dksX2_first_3 24 rfl rfl
theorem dksX2_first_5 : cX2_first.data.toList.drop 119 = dktX2_first_5 := dk_seg dksX2_first_4 24 rfl rfl
theorem dX2_first_0 : decode cX2_first 0 = .ok (.iload_n 1, 1) := dk_27 (dk_at dksX2_first_0 0 rfl rfl)
theorem dX2_first_1 : decode cX2_first 1 = .ok (.invokestatic 140, 3) := dk_184 0 140 (dk_at dksX2_first_0 1 rfl rfl)
theorem dX2_first_4 : decode cX2_first 4 = .ok (.ifCond .eq 12, 3) := dk_153 0 12 (dk_at dksX2_first_0 4 rfl rfl)
theorem dX2_first_7 : decode cX2_first 7 = .ok (.iload_n 2, 1) := dk_28 (dk_at dksX2_first_0 7 rfl rfl)
theorem dX2_first_8 : decode cX2_first 8 = .ok (.iconst 0, 1) := dk_3 (dk_at dksX2_first_0 8 rfl rfl)
theorem dX2_first_9 : decode cX2_first 9 = .ok (.iconst 1, 1) := dk_4 (dk_at dksX2_first_0 9 rfl rfl)
theorem dX2_first_10 : decode cX2_first 10 = .ok (.invokestatic 128, 3) := dk_184 0 128 (dk_at dksX2_first_0 10 rfl rfl)
theorem dX2_first_13 : decode cX2_first 13 = .ok (.ifCond .ne 5, 3) := dk_154 0 5 (dk_at dksX2_first_0 13 rfl rfl)
theorem dX2_first_16 : decode cX2_first 16 = .ok (.iconst (-1), 1) := dk_2 (dk_at dksX2_first_0 16 rfl rfl)
theorem dX2_first_17 : decode cX2_first 17 = .ok (.ireturn, 1) := dk_172 (dk_at dksX2_first_0 17 rfl rfl)
theorem dX2_first_18 : decode cX2_first 18 = .ok (.aload_n 0, 1) := dk_42 (dk_at dksX2_first_0 18 rfl rfl)
theorem dX2_first_19 : decode cX2_first 19 = .ok (.iload_n 1, 1) := dk_27 (dk_at dksX2_first_0 19 rfl rfl)
theorem dX2_first_20 : decode cX2_first 20 = .ok (.iconst 0, 1) := dk_3 (dk_at dksX2_first_0 20 rfl rfl)
theorem dX2_first_21 : decode cX2_first 21 = .ok (.invokevirtual 288, 3) := dk_182 1 32 (dk_at dksX2_first_0 21 rfl rfl)
theorem dX2_first_24 : decode cX2_first 24 = .ok (.istore_n 3, 1) := dk_62 (dk_at dksX2_first_1 0 rfl rfl)
theorem dX2_first_25 : decode cX2_first 25 = .ok (.iload_n 3, 1) := dk_29 (dk_at dksX2_first_1 1 rfl rfl)
theorem dX2_first_26 : decode cX2_first 26 = .ok (.ifCond .ge 5, 3) := dk_156 0 5 (dk_at dksX2_first_1 2 rfl rfl)
theorem dX2_first_29 : decode cX2_first 29 = .ok (.iload_n 3, 1) := dk_29 (dk_at dksX2_first_1 5 rfl rfl)
theorem dX2_first_30 : decode cX2_first 30 = .ok (.ireturn, 1) := dk_172 (dk_at dksX2_first_1 6 rfl rfl)
theorem dX2_first_31 : decode cX2_first 31 = .ok (.aload_n 0, 1) := dk_42 (dk_at dksX2_first_1 7 rfl rfl)
theorem dX2_first_32 : decode cX2_first 32 = .ok (.iload_n 1, 1) := dk_27 (dk_at dksX2_first_1 8 rfl rfl)
theorem dX2_first_33 : decode cX2_first 33 = .ok (.invokevirtual 291, 3) := dk_182 1 35 (dk_at dksX2_first_1 9 rfl rfl)
theorem dX2_first_36 : decode cX2_first 36 = .ok (.bipush (-2), 2) := dk_16 254 (dk_at dksX2_first_1 12 rfl rfl)
theorem dX2_first_38 : decode cX2_first 38 = .ok (.istore 4, 2) := dk_54 4 (dk_at dksX2_first_1 14 rfl rfl)
theorem dX2_first_40 : decode cX2_first 40 = .ok (.bipush (-2), 2) := dk_16 254 (dk_at dksX2_first_1 16 rfl rfl)
theorem dX2_first_42 : decode cX2_first 42 = .ok (.istore 5, 2) := dk_54 5 (dk_at dksX2_first_1 18 rfl rfl)
theorem dX2_first_44 : decode cX2_first 44 = .ok (.iconst 0, 1) := dk_3 (dk_at dksX2_first_1 20 rfl rfl)
theorem dX2_first_45 : decode cX2_first 45 = .ok (.istore 6, 2) := dk_54 6 (dk_at dksX2_first_1 21 rfl rfl)
theorem dX2_first_47 : decode cX2_first 47 = .ok (.iload 6, 2) := dk_21 6 (dk_at dksX2_first_2 0 rfl rfl)
theorem dX2_first_49 : decode cX2_first 49 = .ok (.aload_n 0, 1) := dk_42 (dk_at dksX2_first_2 2 rfl rfl)
theorem dX2_first_50 : decode cX2_first 50 = .ok (.getfield 125, 3) := dk_180 0 125 (dk_at dksX2_first_2 3 rfl rfl)
theorem dX2_first_53 : decode cX2_first 53 = .ok (.if_icmp .ge 66, 3) := dk_162 0 66 (dk_at dksX2_first_2 6 rfl rfl)
theorem dX2_first_56 : decode cX2_first 56 = .ok (.aload_n 0, 1) := dk_42 (dk_at dksX2_first_2 9 rfl rfl)
theorem dX2_first_57 : decode cX2_first 57 = .ok (.getfield 24, 3) := dk_180 0 24 (dk_at dksX2_first_2 10 rfl rfl)
theorem dX2_first_60 : decode cX2_first 60 = .ok (.iload 6, 2) := dk_21 6 (dk_at dksX2_first_2 13 rfl rfl)
theorem dX2_first_62 : decode cX2_first 62 = .ok (.iaload, 1) := dk_46 (dk_at dksX2_first_2 15 rfl rfl)
theorem dX2_first_63 : decode cX2_first 63 = .ok (.istore 7, 2) := dk_54 7 (dk_at dksX2_first_2 16 rfl rfl)
theorem dX2_first_65 : decode cX2_first 65 = .ok (.aload_n 0, 1) := dk_42 (dk_at dksX2_first_2 18 rfl rfl)
theorem dX2_first_66 : decode cX2_first 66 = .ok (.getfield 24, 3) := dk_180 0 24 (dk_at dksX2_first_2 19 rfl rfl)
theorem dX2_first_69 : decode cX2_first 69 = .ok (.iload 6, 2) := dk_21 6 (dk_at dksX2_first_2 22 rfl rfl)
theorem dX2_first_71 : decode cX2_first 71 = .ok (.iconst 0, 1) := dk_3 (dk_at dksX2_first_3 0 rfl rfl)
theorem dX2_first_72 : decode cX2_first 72 = .ok (.iastore, 1) := dk_79 (dk_at dksX2_first_3 1 rfl rfl)
theorem dX2_first_73 : decode cX2_first 73 = .ok (.aload_n 0, 1) := dk_42 (dk_at dksX2_first_3 2 rfl rfl)
theorem dX2_first_74 : decode cX2_first 74 = .ok (.invokevirtual 295, 3) := dk_182 1 39 (dk_at dksX2_first_3 3 rfl rfl)
theorem dX2_first_77 : decode cX2_first 77 = .ok (.istore 8, 2) := dk_54 8 (dk_at dksX2_first_3 6 rfl rfl)
theorem dX2_first_79 : decode cX2_first 79 = .ok (.aload_n 0, 1) := dk_42 (dk_at dksX2_first_3 8 rfl rfl)
theorem dX2_first_80 : decode cX2_first 80 = .ok (.getfield 24, 3) := dk_180 0 24 (dk_at dksX2_first_3 9 rfl rfl)
theorem dX2_first_83 : decode cX2_first 83 = .ok (.iload 6, 2) := dk_21 6 (dk_at dksX2_first_3 12 rfl rfl)
theorem dX2_first_85 : decode cX2_first 85 = .ok (.iload 7, 2) := dk_21 7 (dk_at dksX2_first_3 14 rfl rfl)
theorem dX2_first_87 : decode cX2_first 87 = .ok (.iastore, 1) := dk_79 (dk_at dksX2_first_3 16 rfl rfl)
theorem dX2_first_88 : decode cX2_first 88 = .ok (.iload 4, 2) := dk_21 4 (dk_at dksX2_first_3 17 rfl rfl)
theorem dX2_first_90 : decode cX2_first 90 = .ok (.bipush (-2), 2) := dk_16 254 (dk_at dksX2_first_3 19 rfl rfl)
theorem dX2_first_92 : decode cX2_first 92 = .ok (.if_icmp .eq 13, 3) := dk_159 0 13 (dk_at dksX2_first_3 21 rfl rfl)
theorem dX2_first_95 : decode cX2_first 95 = .ok (.iload 8, 2) := dk_21 8 (dk_at dksX2_first_4 0 rfl rfl)
theorem dX2_first_97 : decode cX2_first 97 = .ok (.iload 5, 2) := dk_21 5 (dk_at dksX2_first_4 2 rfl rfl)
theorem dX2_first_99 : decode cX2_first 99 = .ok (.if_icmp .lt 6, 3) := dk_161 0 6 (dk_at dksX2_first_4 4 rfl rfl)
theorem dX2_first_102 : decode cX2_first 102 = .ok (.goto 11, 3) := dk_167 0 11 (dk_at dksX2_first_4 7 rfl rfl)
theorem dX2_first_105 : decode cX2_first 105 = .ok (.iload 8, 2) := dk_21 8 (dk_at dksX2_first_4 10 rfl rfl)
theorem dX2_first_107 : decode cX2_first 107 = .ok (.istore 5, 2) := dk_54 5 (dk_at dksX2_first_4 12 rfl rfl)
theorem dX2_first_109 : decode cX2_first 109 = .ok (.iload 6, 2) := dk_21 6 (dk_at dksX2_first_4 14 rfl rfl)
theorem dX2_first_111 : decode cX2_first 111 = .ok (.istore 4, 2) := dk_54 4 (dk_at dksX2_first_4 16 rfl rfl)
theorem dX2_first_113 : decode cX2_first 113 = .ok (.iinc 6 1, 3) := dk_132 6 1 (dk_at dksX2_first_4 18 rfl rfl)
theorem dX2_first_116 : decode cX2_first 116 = .ok (.goto (-69), 3) := dk_167 255 187 (dk_at dksX2_first_4 21 rfl rfl)
theorem dX2_first_119 : decode cX2_first 119 = .ok (.iload_n 2, 1) := dk_28 (dk_at dksX2_first_5 0 rfl rfl)
theorem dX2_first_120 : decode cX2_first 120 = .ok (.ifCond .ne 8, 3) := dk_154 0 8 (dk_at dksX2_first_5 1 rfl rfl)
theorem dX2_first_123 : decode cX2_first 123 = .ok (.iload 4, 2) := dk_21 4 (dk_at dksX2_first_5 4 rfl rfl)
theorem dX2_first_125 : decode cX2_first 125 = .ok (.goto 5, 3) := dk_167 0 5 (dk_at dksX2_first_5 6 rfl rfl)
theorem dX2_first_128 : decode cX2_first 128 = .ok (.iload 5, 2) := dk_21 5 (dk_at dksX2_first_5 9 rfl rfl)
theorem dX2_first_130 : decode cX2_first 130 = .ok (.ireturn, 1) := dk_172 (dk_at dksX2_first_5 11 rfl rfl)
abbrev cX2_slip : ByteArray := prog_31_method_61_code
def yX2_slip : MethodName := ⟨RX2, "slip", "(III)I"⟩
def dkwX2_slip_4 : List UInt8 := [16, 254, 181, 0, 121, 21, 5, 172]
abbrev dktX2_slip_4 : List UInt8 := dkwX2_slip_4 ++ []
def dkwX2_slip_3 : List UInt8 := [181, 0, 121, 42, 28, 16, 100, 112, 181, 1, 7, 42, 29, 181, 1, 10, 42, 182, 1, 39, 54, 5, 42]
abbrev dktX2_slip_3 : List UInt8 := dkwX2_slip_3 ++ dktX2_slip_4
def dkwX2_slip_2 : List UInt8 := [182, 1, 32, 54, 4, 21, 4, 156, 0, 6, 21, 4, 172, 42, 27, 182, 1, 35, 42, 28, 16, 100, 108]
abbrev dktX2_slip_2 : List UInt8 := dkwX2_slip_2 ++ dktX2_slip_3
def dkwX2_slip_1 : List UInt8 := [16, 100, 112, 16, 59, 163, 0, 14, 29, 16, 157, 16, 99, 184, 0, 128, 154, 0, 5, 2, 172, 42, 27, 3]
abbrev dktX2_slip_1 : List UInt8 := dkwX2_slip_1 ++ dktX2_slip_2
def dkwX2_slip_0 : List UInt8 := [27, 184, 0, 140, 153, 0, 38, 28, 155, 0, 34, 42, 28, 16, 100, 108, 182, 0, 132, 153, 0, 23, 28]
abbrev dktX2_slip_0 : List UInt8 := dkwX2_slip_0 ++ dktX2_slip_1
theorem dksX2_slip_0 : cX2_slip.data.toList.drop 0 = dktX2_slip_0 := by decide +kernel
theorem dksX2_slip_1 : cX2_slip.data.toList.drop 23 = dktX2_slip_1 := dk_seg dksX2_slip_0 23 rfl rfl
theorem dksX2_slip_2 : cX2_slip.data.toList.drop 47 = dktX2_slip_2 := dk_seg dksX2_slip_1 24 rfl rfl
theorem dksX2_slip_3 : cX2_slip.data.toList.drop 70 = dktX2_slip_3 := dk_seg dksX2_slip_2 23 rfl rfl
theorem dksX2_slip_4 : cX2_slip.data.toList.drop 93 = dktX2_slip_4 := dk_seg dksX2_slip_3 23 rfl rfl
theorem dX2_slip_0 : decode cX2_slip 0 = .ok (.iload_n 1, 1) := dk_27 (dk_at dksX2_slip_0 0 rfl rfl)
theorem dX2_slip_1 : decode cX2_slip 1 = .ok (.invokestatic 140, 3) := dk_184 0 140 (dk_at dksX2_slip_0 1 rfl rfl)
theorem dX2_slip_4 : decode cX2_slip 4 = .ok (.ifCond .eq 38, 3) := dk_153 0 38 (dk_at dksX2_slip_0 4 rfl rfl)
theorem dX2_slip_7 : decode cX2_slip 7 = .ok (.iload_n 2, 1) := dk_28 (dk_at dksX2_slip_0 7 rfl rfl)
theorem dX2_slip_8 : decode cX2_slip 8 = .ok (.ifCond .lt 34, 3) := dk_155 0 34 (dk_at dksX2_slip_0 8 rfl rfl)
theorem dX2_slip_11 : decode cX2_slip 11 = .ok (.aload_n 0, 1) := dk_42 (dk_at dksX2_slip_0 11 rfl rfl)
theorem dX2_slip_12 : decode cX2_slip 12 = .ok (.iload_n 2, 1) := dk_28 (dk_at dksX2_slip_0 12 rfl rfl)
theorem dX2_slip_13 : decode cX2_slip 13 = .ok (.bipush 100, 2) := dk_16 100 (dk_at dksX2_slip_0 13 rfl rfl)
theorem dX2_slip_15 : decode cX2_slip 15 = .ok (.idiv, 1) := dk_108 (dk_at dksX2_slip_0 15 rfl rfl)
theorem dX2_slip_16 : decode cX2_slip 16 = .ok (.invokevirtual 132, 3) := dk_182 0 132 (dk_at dksX2_slip_0 16 rfl rfl)
theorem dX2_slip_19 : decode cX2_slip 19 = .ok (.ifCond .eq 23, 3) := dk_153 0 23 (dk_at dksX2_slip_0 19 rfl rfl)
theorem dX2_slip_22 : decode cX2_slip 22 = .ok (.iload_n 2, 1) := dk_28 (dk_at dksX2_slip_0 22 rfl rfl)
theorem dX2_slip_23 : decode cX2_slip 23 = .ok (.bipush 100, 2) := dk_16 100 (dk_at dksX2_slip_1 0 rfl rfl)
theorem dX2_slip_25 : decode cX2_slip 25 = .ok (.irem, 1) := dk_112 (dk_at dksX2_slip_1 2 rfl rfl)
theorem dX2_slip_26 : decode cX2_slip 26 = .ok (.bipush 59, 2) := dk_16 59 (dk_at dksX2_slip_1 3 rfl rfl)
theorem dX2_slip_28 : decode cX2_slip 28 = .ok (.if_icmp .gt 14, 3) := dk_163 0 14 (dk_at dksX2_slip_1 5 rfl rfl)
theorem dX2_slip_31 : decode cX2_slip 31 = .ok (.iload_n 3, 1) := dk_29 (dk_at dksX2_slip_1 8 rfl rfl)
theorem dX2_slip_32 : decode cX2_slip 32 = .ok (.bipush (-99), 2) := dk_16 157 (dk_at dksX2_slip_1 9 rfl rfl)
theorem dX2_slip_34 : decode cX2_slip 34 = .ok (.bipush 99, 2) := dk_16 99 (dk_at dksX2_slip_1 11 rfl rfl)
theorem dX2_slip_36 : decode cX2_slip 36 = .ok (.invokestatic 128, 3) := dk_184 0 128 (dk_at dksX2_slip_1 13 rfl rfl)
theorem dX2_slip_39 : decode cX2_slip 39 = .ok (.ifCond .ne 5, 3) := dk_154 0 5 (dk_at dksX2_slip_1 16 rfl rfl)
theorem dX2_slip_42 : decode cX2_slip 42 = .ok (.iconst (-1), 1) := dk_2 (dk_at dksX2_slip_1 19 rfl rfl)
theorem dX2_slip_43 : decode cX2_slip 43 = .ok (.ireturn, 1) := dk_172 (dk_at dksX2_slip_1 20 rfl rfl)
theorem dX2_slip_44 : decode cX2_slip 44 = .ok (.aload_n 0, 1) := dk_42 (dk_at dksX2_slip_1 21 rfl rfl)
theorem dX2_slip_45 : decode cX2_slip 45 = .ok (.iload_n 1, 1) := dk_27 (dk_at dksX2_slip_1 22 rfl rfl)
theorem dX2_slip_46 : decode cX2_slip 46 = .ok (.iconst 0, 1) := dk_3 (dk_at dksX2_slip_1 23 rfl rfl)
theorem dX2_slip_47 : decode cX2_slip 47 = .ok (.invokevirtual 288, 3) := dk_182 1 32 (dk_at dksX2_slip_2 0 rfl rfl)
theorem dX2_slip_50 : decode cX2_slip 50 = .ok (.istore 4, 2) := dk_54 4 (dk_at dksX2_slip_2 3 rfl rfl)
theorem dX2_slip_52 : decode cX2_slip 52 = .ok (.iload 4, 2) := dk_21 4 (dk_at dksX2_slip_2 5 rfl rfl)
theorem dX2_slip_54 : decode cX2_slip 54 = .ok (.ifCond .ge 6, 3) := dk_156 0 6 (dk_at dksX2_slip_2 7 rfl rfl)
theorem dX2_slip_57 : decode cX2_slip 57 = .ok (.iload 4, 2) := dk_21 4 (dk_at dksX2_slip_2 10 rfl rfl)
theorem dX2_slip_59 : decode cX2_slip 59 = .ok (.ireturn, 1) := dk_172 (dk_at dksX2_slip_2 12 rfl rfl)
theorem dX2_slip_60 : decode cX2_slip 60 = .ok (.aload_n 0, 1) := dk_42 (dk_at dksX2_slip_2 13 rfl rfl)
theorem dX2_slip_61 : decode cX2_slip 61 = .ok (.iload_n 1, 1) := dk_27 (dk_at dksX2_slip_2 14 rfl rfl)
theorem dX2_slip_62 : decode cX2_slip 62 = .ok (.invokevirtual 291, 3) := dk_182 1 35 (dk_at dksX2_slip_2 15 rfl rfl)
theorem dX2_slip_65 : decode cX2_slip 65 = .ok (.aload_n 0, 1) := dk_42 (dk_at dksX2_slip_2 18 rfl rfl)
theorem dX2_slip_66 : decode cX2_slip 66 = .ok (.iload_n 2, 1) := dk_28 (dk_at dksX2_slip_2 19 rfl rfl)
theorem dX2_slip_67 : decode cX2_slip 67 = .ok (.bipush 100, 2) := dk_16 100 (dk_at dksX2_slip_2 20 rfl rfl)
theorem dX2_slip_69 : decode cX2_slip 69 = .ok (.idiv, 1) := dk_108 (dk_at dksX2_slip_2 22 rfl rfl)
theorem dX2_slip_70 : decode cX2_slip 70 = .ok (.putfield 121, 3) := dk_181 0 121 (dk_at dksX2_slip_3 0 rfl rfl)
theorem dX2_slip_73 : decode cX2_slip 73 = .ok (.aload_n 0, 1) := dk_42 (dk_at dksX2_slip_3 3 rfl rfl)
theorem dX2_slip_74 : decode cX2_slip 74 = .ok (.iload_n 2, 1) := dk_28 (dk_at dksX2_slip_3 4 rfl rfl)
theorem dX2_slip_75 : decode cX2_slip 75 = .ok (.bipush 100, 2) := dk_16 100 (dk_at dksX2_slip_3 5 rfl rfl)
theorem dX2_slip_77 : decode cX2_slip 77 = .ok (.irem, 1) := dk_112 (dk_at dksX2_slip_3 7 rfl rfl)
theorem dX2_slip_78 : decode cX2_slip 78 = .ok (.putfield 263, 3) := dk_181 1 7 (dk_at dksX2_slip_3 8 rfl rfl)
theorem dX2_slip_81 : decode cX2_slip 81 = .ok (.aload_n 0, 1) := dk_42 (dk_at dksX2_slip_3 11 rfl rfl)
theorem dX2_slip_82 : decode cX2_slip 82 = .ok (.iload_n 3, 1) := dk_29 (dk_at dksX2_slip_3 12 rfl rfl)
theorem dX2_slip_83 : decode cX2_slip 83 = .ok (.putfield 266, 3) := dk_181 1 10 (dk_at dksX2_slip_3 13 rfl rfl)
theorem dX2_slip_86 : decode cX2_slip 86 = .ok (.aload_n 0, 1) := dk_42 (dk_at dksX2_slip_3 16 rfl rfl)
theorem dX2_slip_87 : decode cX2_slip 87 = .ok (.invokevirtual 295, 3) := dk_182 1 39 (dk_at dksX2_slip_3 17 rfl rfl)
theorem dX2_slip_90 : decode cX2_slip 90 = .ok (.istore 5, 2) := dk_54 5 (dk_at dksX2_slip_3 20 rfl rfl)
theorem dX2_slip_92 : decode cX2_slip 92 = .ok (.aload_n 0, 1) := dk_42 (dk_at dksX2_slip_3 22 rfl rfl)
theorem dX2_slip_93 : decode cX2_slip 93 = .ok (.bipush (-2), 2) := dk_16 254 (dk_at dksX2_slip_4 0 rfl rfl)
theorem dX2_slip_95 : decode cX2_slip 95 = .ok (.putfield 121, 3) := dk_181 0 121 (dk_at dksX2_slip_4 2 rfl rfl)
theorem dX2_slip_98 : decode cX2_slip 98 = .ok (.iload 5, 2) := dk_21 5 (dk_at dksX2_slip_4 5 rfl rfl)
theorem dX2_slip_100 : decode cX2_slip 100 = .ok (.ireturn, 1) := dk_172 (dk_at dksX2_slip_4 7 rfl rfl)
abbrev cX2_line : ByteArray := prog_31_method_65_code
def yX2_line : MethodName := ⟨RX2, "line", "(II)I"⟩
def dkwX2_line_6 : List UInt8 := [42, 180, 0, 118, 28, 46, 172]
abbrev dktX2_line_6 : List UInt8 := dkwX2_line_6 ++ []
def dkwX2_line_5 : List UInt8 := [132, 6, 1, 167, 255, 232, 42, 182, 1, 74, 54, 4, 167, 255, 195, 28, 2, 160, 0, 7, 29, 167, 0, 9]
abbrev dktX2_line_5 : List UInt8 := dkwX2_line_5 ++ dktX2_line_6
def dkwX2_line_4 : List UInt8 := [54, 6, 21, 6, 16, 6, 162, 0, 23, 42, 180, 0, 118, 21, 6, 42, 180, 0, 115, 21, 6, 46, 79]
abbrev dktX2_line_4 : List UInt8 := dkwX2_line_4 ++ dktX2_line_5
def dkwX2_line_3 : List UInt8 := [153, 0, 62, 42, 27, 182, 1, 71, 54, 5, 29, 155, 0, 9, 21, 5, 29, 162, 0, 36, 21, 5, 62, 3]
abbrev dktX2_line_3 : List UInt8 := dkwX2_line_3 ++ dktX2_line_4
def dkwX2_line_2 : List UInt8 := [162, 0, 16, 42, 180, 0, 115, 29, 29, 79, 132, 3, 1, 167, 255, 240, 2, 62, 4, 54, 4, 21, 4]
abbrev dktX2_line_2 : List UInt8 := dkwX2_line_2 ++ dktX2_line_3
def dkwX2_line_1 : List UInt8 := [164, 0, 6, 16, 251, 172, 28, 42, 180, 0, 125, 161, 0, 6, 16, 254, 172, 3, 62, 29, 16, 6]
abbrev dktX2_line_1 : List UInt8 := dkwX2_line_1 ++ dktX2_line_2
def dkwX2_line_0 : List UInt8 := [27, 3, 16, 9, 184, 0, 128, 153, 0, 8, 28, 2, 162, 0, 5, 2, 172, 42, 180, 0, 125, 16, 6]
abbrev dktX2_line_0 : List UInt8 := dkwX2_line_0 ++ dktX2_line_1
theorem dksX2_line_0 : cX2_line.data.toList.drop 0 = dktX2_line_0 := by decide +kernel
theorem dksX2_line_1 : cX2_line.data.toList.drop 23 = dktX2_line_1 := dk_seg dksX2_line_0 23 rfl rfl
theorem dksX2_line_2 : cX2_line.data.toList.drop 45 = dktX2_line_2 := dk_seg dksX2_line_1 22 rfl rfl
theorem dksX2_line_3 : cX2_line.data.toList.drop 68 = dktX2_line_3 := dk_seg dksX2_line_2 23 rfl rfl
theorem dksX2_line_4 : cX2_line.data.toList.drop 92 = dktX2_line_4 := dk_seg dksX2_line_3 24 rfl rfl
theorem dksX2_line_5 : cX2_line.data.toList.drop 115 = dktX2_line_5 := dk_seg dksX2_line_4 23 rfl rfl
theorem dksX2_line_6 : cX2_line.data.toList.drop 139 = dktX2_line_6 := dk_seg dksX2_line_5 24 rfl rfl
theorem dX2_line_0 : decode cX2_line 0 = .ok (.iload_n 1, 1) := dk_27 (dk_at dksX2_line_0 0 rfl rfl)
theorem dX2_line_1 : decode cX2_line 1 = .ok (.iconst 0, 1) := dk_3 (dk_at dksX2_line_0 1 rfl rfl)
theorem dX2_line_2 : decode cX2_line 2 = .ok (.bipush 9, 2) := dk_16 9 (dk_at dksX2_line_0 2 rfl rfl)
theorem dX2_line_4 : decode cX2_line 4 = .ok (.invokestatic 128, 3) := dk_184 0 128 (dk_at dksX2_line_0 4 rfl rfl)
theorem dX2_line_7 : decode cX2_line 7 = .ok (.ifCond .eq 8, 3) := dk_153 0 8 (dk_at dksX2_line_0 7 rfl rfl)
theorem dX2_line_10 : decode cX2_line 10 = .ok (.iload_n 2, 1) := dk_28 (dk_at dksX2_line_0 10 rfl rfl)
theorem dX2_line_11 : decode cX2_line 11 = .ok (.iconst (-1), 1) := dk_2 (dk_at dksX2_line_0 11 rfl rfl)
theorem dX2_line_12 : decode cX2_line 12 = .ok (.if_icmp .ge 5, 3) := dk_162 0 5 (dk_at dksX2_line_0 12 rfl rfl)
theorem dX2_line_15 : decode cX2_line 15 = .ok (.iconst (-1), 1) := dk_2 (dk_at dksX2_line_0 15 rfl rfl)
theorem dX2_line_16 : decode cX2_line 16 = .ok (.ireturn, 1) := dk_172 (dk_at dksX2_line_0 16 rfl rfl)
theorem dX2_line_17 : decode cX2_line 17 = .ok (.aload_n 0, 1) := dk_42 (dk_at dksX2_line_0 17 rfl rfl)
theorem dX2_line_18 : decode cX2_line 18 = .ok (.getfield 125, 3) := dk_180 0 125 (dk_at dksX2_line_0 18 rfl rfl)
theorem dX2_line_21 : decode cX2_line 21 = .ok (.bipush 6, 2) := dk_16 6 (dk_at dksX2_line_0 21 rfl rfl)
theorem dX2_line_23 : decode cX2_line 23 = .ok (.if_icmp .le 6, 3) := dk_164 0 6 (dk_at dksX2_line_1 0 rfl rfl)
theorem dX2_line_26 : decode cX2_line 26 = .ok (.bipush (-5), 2) := dk_16 251 (dk_at dksX2_line_1 3 rfl rfl)
theorem dX2_line_28 : decode cX2_line 28 = .ok (.ireturn, 1) := dk_172 (dk_at dksX2_line_1 5 rfl rfl)
theorem dX2_line_29 : decode cX2_line 29 = .ok (.iload_n 2, 1) := dk_28 (dk_at dksX2_line_1 6 rfl rfl)
theorem dX2_line_30 : decode cX2_line 30 = .ok (.aload_n 0, 1) := dk_42 (dk_at dksX2_line_1 7 rfl rfl)
theorem dX2_line_31 : decode cX2_line 31 = .ok (.getfield 125, 3) := dk_180 0 125 (dk_at dksX2_line_1 8 rfl rfl)
theorem dX2_line_34 : decode cX2_line 34 = .ok (.if_icmp .lt 6, 3) := dk_161 0 6 (dk_at dksX2_line_1 11 rfl rfl)
theorem dX2_line_37 : decode cX2_line 37 = .ok (.bipush (-2), 2) := dk_16 254 (dk_at dksX2_line_1 14 rfl rfl)
theorem dX2_line_39 : decode cX2_line 39 = .ok (.ireturn, 1) := dk_172 (dk_at dksX2_line_1 16 rfl rfl)
theorem dX2_line_40 : decode cX2_line 40 = .ok (.iconst 0, 1) := dk_3 (dk_at dksX2_line_1 17 rfl rfl)
theorem dX2_line_41 : decode cX2_line 41 = .ok (.istore_n 3, 1) := dk_62 (dk_at dksX2_line_1 18 rfl rfl)
theorem dX2_line_42 : decode cX2_line 42 = .ok (.iload_n 3, 1) := dk_29 (dk_at dksX2_line_1 19 rfl rfl)
theorem dX2_line_43 : decode cX2_line 43 = .ok (.bipush 6, 2) := dk_16 6 (dk_at dksX2_line_1 20 rfl rfl)
theorem dX2_line_45 : decode cX2_line 45 = .ok (.if_icmp .ge 16, 3) := dk_162 0 16 (dk_at dksX2_line_2 0 rfl rfl)
theorem dX2_line_48 : decode cX2_line 48 = .ok (.aload_n 0, 1) := dk_42 (dk_at dksX2_line_2 3 rfl rfl)
theorem dX2_line_49 : decode cX2_line 49 = .ok (.getfield 115, 3) := dk_180 0 115 (dk_at dksX2_line_2 4 rfl rfl)
theorem dX2_line_52 : decode cX2_line 52 = .ok (.iload_n 3, 1) := dk_29 (dk_at dksX2_line_2 7 rfl rfl)
theorem dX2_line_53 : decode cX2_line 53 = .ok (.iload_n 3, 1) := dk_29 (dk_at dksX2_line_2 8 rfl rfl)
theorem dX2_line_54 : decode cX2_line 54 = .ok (.iastore, 1) := dk_79 (dk_at dksX2_line_2 9 rfl rfl)
theorem dX2_line_55 : decode cX2_line 55 = .ok (.iinc 3 1, 3) := dk_132 3 1 (dk_at dksX2_line_2 10 rfl rfl)
theorem dX2_line_58 : decode cX2_line 58 = .ok (.goto (-16), 3) := dk_167 255 240 (dk_at dksX2_line_2 13 rfl rfl)
theorem dX2_line_61 : decode cX2_line 61 = .ok (.iconst (-1), 1) := dk_2 (dk_at dksX2_line_2 16 rfl rfl)
theorem dX2_line_62 : decode cX2_line 62 = .ok (.istore_n 3, 1) := dk_62 (dk_at dksX2_line_2 17 rfl rfl)
theorem dX2_line_63 : decode cX2_line 63 = .ok (.iconst 1, 1) := dk_4 (dk_at dksX2_line_2 18 rfl rfl)
theorem dX2_line_64 : decode cX2_line 64 = .ok (.istore 4, 2) := dk_54 4 (dk_at dksX2_line_2 19 rfl rfl)
theorem dX2_line_66 : decode cX2_line 66 = .ok (.iload 4, 2) := dk_21 4 (dk_at dksX2_line_2 21 rfl rfl)
theorem dX2_line_68 : decode cX2_line 68 = .ok (.ifCond .eq 62, 3) := dk_153 0 62 (dk_at dksX2_line_3 0 rfl rfl)
theorem dX2_line_71 : decode cX2_line 71 = .ok (.aload_n 0, 1) := dk_42 (dk_at dksX2_line_3 3 rfl rfl)
theorem dX2_line_72 : decode cX2_line 72 = .ok (.iload_n 1, 1) := dk_27 (dk_at dksX2_line_3 4 rfl rfl)
theorem dX2_line_73 : decode cX2_line 73 = .ok (.invokevirtual 327, 3) := dk_182 1 71 (dk_at dksX2_line_3 5 rfl rfl)
theorem dX2_line_76 : decode cX2_line 76 = .ok (.istore 5, 2) := dk_54 5 (dk_at dksX2_line_3 8 rfl rfl)
theorem dX2_line_78 : decode cX2_line 78 = .ok (.iload_n 3, 1) := dk_29 (dk_at dksX2_line_3 10 rfl rfl)
theorem dX2_line_79 : decode cX2_line 79 = .ok (.ifCond .lt 9, 3) := dk_155 0 9 (dk_at dksX2_line_3 11 rfl rfl)
theorem dX2_line_82 : decode cX2_line 82 = .ok (.iload 5, 2) := dk_21 5 (dk_at dksX2_line_3 14 rfl rfl)
theorem dX2_line_84 : decode cX2_line 84 = .ok (.iload_n 3, 1) := dk_29 (dk_at dksX2_line_3 16 rfl rfl)
theorem dX2_line_85 : decode cX2_line 85 = .ok (.if_icmp .ge 36, 3) := dk_162 0 36 (dk_at dksX2_line_3 17 rfl rfl)
theorem dX2_line_88 : decode cX2_line 88 = .ok (.iload 5, 2) := dk_21 5 (dk_at dksX2_line_3 20 rfl rfl)
theorem dX2_line_90 : decode cX2_line 90 = .ok (.istore_n 3, 1) := dk_62 (dk_at dksX2_line_3 22 rfl rfl)
theorem dX2_line_91 : decode cX2_line 91 = .ok (.iconst 0, 1) := dk_3 (dk_at dksX2_line_3 23 rfl rfl)
theorem dX2_line_92 : decode cX2_line 92 = .ok (.istore 6, 2) := dk_54 6 (dk_at dksX2_line_4 0 rfl rfl)
theorem dX2_line_94 : decode cX2_line 94 = .ok (.iload 6, 2) := dk_21 6 (dk_at dksX2_line_4 2 rfl rfl)
theorem dX2_line_96 : decode cX2_line 96 = .ok (.bipush 6, 2) := dk_16 6 (dk_at dksX2_line_4 4 rfl rfl)
theorem dX2_line_98 : decode cX2_line 98 = .ok (.if_icmp .ge 23, 3) := dk_162 0 23 (dk_at dksX2_line_4 6 rfl rfl)
theorem dX2_line_101 : decode cX2_line 101 = .ok (.aload_n 0, 1) := dk_42 (dk_at dksX2_line_4 9 rfl rfl)
theorem dX2_line_102 : decode cX2_line 102 = .ok (.getfield 118, 3) := dk_180 0 118 (dk_at dksX2_line_4 10 rfl rfl)
theorem dX2_line_105 : decode cX2_line 105 = .ok (.iload 6, 2) := dk_21 6 (dk_at dksX2_line_4 13 rfl rfl)
theorem dX2_line_107 : decode cX2_line 107 = .ok (.aload_n 0, 1) := dk_42 (dk_at dksX2_line_4 15 rfl rfl)
theorem dX2_line_108 : decode cX2_line 108 = .ok (.getfield 115, 3) := dk_180 0 115 (dk_at dksX2_line_4 16 rfl rfl)
theorem dX2_line_111 : decode cX2_line 111 = .ok (.iload 6, 2) := dk_21 6 (dk_at dksX2_line_4 19 rfl rfl)
theorem dX2_line_113 : decode cX2_line 113 = .ok (.iaload, 1) := dk_46 (dk_at dksX2_line_4 21 rfl rfl)
theorem dX2_line_114 : decode cX2_line 114 = .ok (.iastore, 1) := dk_79 (dk_at dksX2_line_4 22 rfl rfl)
theorem dX2_line_115 : decode cX2_line 115 = .ok (.iinc 6 1, 3) := dk_132 6 1 (dk_at dksX2_line_5 0 rfl rfl)
theorem dX2_line_118 : decode cX2_line 118 = .ok (.goto (-24), 3) := dk_167 255 232 (dk_at dksX2_line_5 3 rfl rfl)
theorem dX2_line_121 : decode cX2_line 121 = .ok (.aload_n 0, 1) := dk_42 (dk_at dksX2_line_5 6 rfl rfl)
theorem dX2_line_122 : decode cX2_line 122 = .ok (.invokevirtual 330, 3) := dk_182 1 74 (dk_at dksX2_line_5 7 rfl rfl)
theorem dX2_line_125 : decode cX2_line 125 = .ok (.istore 4, 2) := dk_54 4 (dk_at dksX2_line_5 10 rfl rfl)
theorem dX2_line_127 : decode cX2_line 127 = .ok (.goto (-61), 3) := dk_167 255 195 (dk_at dksX2_line_5 12 rfl rfl)
theorem dX2_line_130 : decode cX2_line 130 = .ok (.iload_n 2, 1) := dk_28 (dk_at dksX2_line_5 15 rfl rfl)
theorem dX2_line_131 : decode cX2_line 131 = .ok (.iconst (-1), 1) := dk_2 (dk_at dksX2_line_5 16 rfl rfl)
theorem dX2_line_132 : decode cX2_line 132 = .ok (.if_icmp .ne 7, 3) := dk_160 0 7 (dk_at dksX2_line_5 17 rfl rfl)
theorem dX2_line_135 : decode cX2_line 135 = .ok (.iload_n 3, 1) := dk_29 (dk_at dksX2_line_5 20 rfl rfl)
theorem dX2_line_136 : decode cX2_line 136 = .ok (.goto 9, 3) := dk_167 0 9 (dk_at dksX2_line_5 21 rfl rfl)
theorem dX2_line_139 : decode cX2_line 139 = .ok (.aload_n 0, 1) := dk_42 (dk_at dksX2_line_6 0 rfl rfl)
theorem dX2_line_140 : decode cX2_line 140 = .ok (.getfield 118, 3) := dk_180 0 118 (dk_at dksX2_line_6 1 rfl rfl)
theorem dX2_line_143 : decode cX2_line 143 = .ok (.iload_n 2, 1) := dk_28 (dk_at dksX2_line_6 4 rfl rfl)
theorem dX2_line_144 : decode cX2_line 144 = .ok (.iaload, 1) := dk_46 (dk_at dksX2_line_6 5 rfl rfl)
theorem dX2_line_145 : decode cX2_line 145 = .ok (.ireturn, 1) := dk_172 (dk_at dksX2_line_6 6 rfl rfl)
abbrev cX2_unlike : ByteArray := prog_31_method_62_code
def yX2_unlike : MethodName := ⟨RX2, "unlike", "(I)I"⟩
def dkwX2_unlike_3 : List UInt8 := [172]
abbrev dktX2_unlike_3 : List UInt8 := dkwX2_unlike_3 ++ []
def dkwX2_unlike_2 : List UInt8 := [61, 21, 4, 153, 0, 9, 21, 5, 29, 162, 0, 6, 21, 5, 62, 132, 4, 1, 167, 255, 197, 28, 29, 100]
abbrev dktX2_unlike_2 : List UInt8 := dkwX2_unlike_2 ++ dktX2_unlike_3
def dkwX2_unlike_1 : List UInt8 := [21, 4, 46, 46, 27, 21, 4, 104, 100, 54, 5, 21, 4, 153, 0, 9, 21, 5, 28, 164, 0, 6, 21, 5]
abbrev dktX2_unlike_1 : List UInt8 := dkwX2_unlike_1 ++ dktX2_unlike_2
def dkwX2_unlike_0 : List UInt8 := [3, 61, 3, 62, 3, 54, 4, 21, 4, 42, 180, 0, 125, 162, 0, 56, 42, 180, 0, 18, 42, 180, 0, 115]
abbrev dktX2_unlike_0 : List UInt8 := dkwX2_unlike_0 ++ dktX2_unlike_1
theorem dksX2_unlike_0 : cX2_unlike.data.toList.drop 0 = dktX2_unlike_0 := by decide +kernel
theorem dksX2_unlike_1 : cX2_unlike.data.toList.drop 24 = dktX2_unlike_1 := dk_seg dksX2_unlike_0 24 rfl rfl
theorem dksX2_unlike_2 : cX2_unlike.data.toList.drop 48 = dktX2_unlike_2 := dk_seg dksX2_unlike_1 24 rfl rfl
theorem dksX2_unlike_3 : cX2_unlike.data.toList.drop 72 = dktX2_unlike_3 := dk_seg dksX2_unlike_2 24 rfl rfl
theorem dX2_unlike_0 : decode cX2_unlike 0 = .ok (.iconst 0, 1) := dk_3 (dk_at dksX2_unlike_0 0 rfl rfl)
theorem dX2_unlike_1 : decode cX2_unlike 1 = .ok (.istore_n 2, 1) := dk_61 (dk_at dksX2_unlike_0 1 rfl rfl)
theorem dX2_unlike_2 : decode cX2_unlike 2 = .ok (.iconst 0, 1) := dk_3 (dk_at dksX2_unlike_0 2 rfl rfl)
theorem dX2_unlike_3 : decode cX2_unlike 3 = .ok (.istore_n 3, 1) := dk_62 (dk_at dksX2_unlike_0 3 rfl rfl)
theorem dX2_unlike_4 : decode cX2_unlike 4 = .ok (.iconst 0, 1) := dk_3 (dk_at dksX2_unlike_0 4 rfl rfl)
theorem dX2_unlike_5 : decode cX2_unlike 5 = .ok (.istore 4, 2) := dk_54 4 (dk_at dksX2_unlike_0 5 rfl rfl)
theorem dX2_unlike_7 : decode cX2_unlike 7 = .ok (.iload 4, 2) := dk_21 4 (dk_at dksX2_unlike_0 7 rfl rfl)
theorem dX2_unlike_9 : decode cX2_unlike 9 = .ok (.aload_n 0, 1) := dk_42 (dk_at dksX2_unlike_0 9 rfl rfl)
theorem dX2_unlike_10 : decode cX2_unlike 10 = .ok (.getfield 125, 3) := dk_180 0 125 (dk_at dksX2_unlike_0 10 rfl rfl)
theorem dX2_unlike_13 : decode cX2_unlike 13 = .ok (.if_icmp .ge 56, 3) := dk_162 0 56 (dk_at dksX2_unlike_0 13 rfl rfl)
theorem dX2_unlike_16 : decode cX2_unlike 16 = .ok (.aload_n 0, 1) := dk_42 (dk_at dksX2_unlike_0 16 rfl rfl)
theorem dX2_unlike_17 : decode cX2_unlike 17 = .ok (.getfield 18, 3) := dk_180 0 18 (dk_at dksX2_unlike_0 17 rfl rfl)
theorem dX2_unlike_20 : decode cX2_unlike 20 = .ok (.aload_n 0, 1) := dk_42 (dk_at dksX2_unlike_0 20 rfl rfl)
theorem dX2_unlike_21 : decode cX2_unlike 21 = .ok (.getfield 115, 3) := dk_180 0 115 (dk_at dksX2_unlike_0 21 rfl rfl)
theorem dX2_unlike_24 : decode cX2_unlike 24 = .ok (.iload 4, 2) := dk_21 4 (dk_at dksX2_unlike_1 0 rfl rfl)
theorem dX2_unlike_26 : decode cX2_unlike 26 = .ok (.iaload, 1) := dk_46 (dk_at dksX2_unlike_1 2 rfl rfl)
theorem dX2_unlike_27 : decode cX2_unlike 27 = .ok (.iaload, 1) := dk_46 (dk_at dksX2_unlike_1 3 rfl rfl)
theorem dX2_unlike_28 : decode cX2_unlike 28 = .ok (.iload_n 1, 1) := dk_27 (dk_at dksX2_unlike_1 4 rfl rfl)
theorem dX2_unlike_29 : decode cX2_unlike 29 = .ok (.iload 4, 2) := dk_21 4 (dk_at dksX2_unlike_1 5 rfl rfl)
theorem dX2_unlike_31 : decode cX2_unlike 31 = .ok (.imul, 1) := dk_104 (dk_at dksX2_unlike_1 7 rfl rfl)
theorem dX2_unlike_32 : decode cX2_unlike 32 = .ok (.isub, 1) := dk_100 (dk_at dksX2_unlike_1 8 rfl rfl)
theorem dX2_unlike_33 : decode cX2_unlike 33 = .ok (.istore 5, 2) := dk_54 5 (dk_at dksX2_unlike_1 9 rfl rfl)
theorem dX2_unlike_35 : decode cX2_unlike 35 = .ok (.iload 4, 2) := dk_21 4 (dk_at dksX2_unlike_1 11 rfl rfl)
theorem dX2_unlike_37 : decode cX2_unlike 37 = .ok (.ifCond .eq 9, 3) := dk_153 0 9 (dk_at dksX2_unlike_1 13 rfl rfl)
theorem dX2_unlike_40 : decode cX2_unlike 40 = .ok (.iload 5, 2) := dk_21 5 (dk_at dksX2_unlike_1 16 rfl rfl)
theorem dX2_unlike_42 : decode cX2_unlike 42 = .ok (.iload_n 2, 1) := dk_28 (dk_at dksX2_unlike_1 18 rfl rfl)
theorem dX2_unlike_43 : decode cX2_unlike 43 = .ok (.if_icmp .le 6, 3) := dk_164 0 6 (dk_at dksX2_unlike_1 19 rfl rfl)
theorem dX2_unlike_46 : decode cX2_unlike 46 = .ok (.iload 5, 2) := dk_21 5 (dk_at dksX2_unlike_1 22 rfl rfl)
theorem dX2_unlike_48 : decode cX2_unlike 48 = .ok (.istore_n 2, 1) := dk_61 (dk_at dksX2_unlike_2 0 rfl rfl)
theorem dX2_unlike_49 : decode cX2_unlike 49 = .ok (.iload 4, 2) := dk_21 4 (dk_at dksX2_unlike_2 1 rfl rfl)
theorem dX2_unlike_51 : decode cX2_unlike 51 = .ok (.ifCond .eq 9, 3) := dk_153 0 9 (dk_at dksX2_unlike_2 3 rfl rfl)
theorem dX2_unlike_54 : decode cX2_unlike 54 = .ok (.iload 5, 2) := dk_21 5 (dk_at dksX2_unlike_2 6 rfl rfl)
theorem dX2_unlike_56 : decode cX2_unlike 56 = .ok (.iload_n 3, 1) := dk_29 (dk_at dksX2_unlike_2 8 rfl rfl)
theorem dX2_unlike_57 : decode cX2_unlike 57 = .ok (.if_icmp .ge 6, 3) := dk_162 0 6 (dk_at dksX2_unlike_2 9 rfl rfl)
theorem dX2_unlike_60 : decode cX2_unlike 60 = .ok (.iload 5, 2) := dk_21 5 (dk_at dksX2_unlike_2 12 rfl rfl)
theorem dX2_unlike_62 : decode cX2_unlike 62 = .ok (.istore_n 3, 1) := dk_62 (dk_at dksX2_unlike_2 14 rfl rfl)
theorem dX2_unlike_63 : decode cX2_unlike 63 = .ok (.iinc 4 1, 3) := dk_132 4 1 (dk_at dksX2_unlike_2 15 rfl rfl)
theorem dX2_unlike_66 : decode cX2_unlike 66 = .ok (.goto (-59), 3) := dk_167 255 197 (dk_at dksX2_unlike_2 18 rfl rfl)
theorem dX2_unlike_69 : decode cX2_unlike 69 = .ok (.iload_n 2, 1) := dk_28 (dk_at dksX2_unlike_2 21 rfl rfl)
theorem dX2_unlike_70 : decode cX2_unlike 70 = .ok (.iload_n 3, 1) := dk_29 (dk_at dksX2_unlike_2 22 rfl rfl)
theorem dX2_unlike_71 : decode cX2_unlike 71 = .ok (.isub, 1) := dk_100 (dk_at dksX2_unlike_2 23 rfl rfl)
theorem dX2_unlike_72 : decode cX2_unlike 72 = .ok (.ireturn, 1) := dk_172 (dk_at dksX2_unlike_3 0 rfl rfl)
abbrev cX2_nextOrder : ByteArray := prog_31_method_63_code
def yX2_nextOrder : MethodName := ⟨RX2, "nextOrder", "()Z"⟩
def dkwX2_nextOrder_4 : List UInt8 := [21, 4, 182, 1, 67, 132, 3, 1, 132, 4, 255, 167, 255, 237, 4, 172]
abbrev dktX2_nextOrder_4 : List UInt8 := dkwX2_nextOrder_4 ++ []
def dkwX2_nextOrder_3 : List UInt8 := [182, 1, 67, 27, 4, 96, 62, 42, 180, 0, 125, 4, 100, 54, 4, 29, 21, 4, 162, 0, 19, 42, 29]
abbrev dktX2_nextOrder_3 : List UInt8 := dkwX2_nextOrder_3 ++ dktX2_nextOrder_4
def dkwX2_nextOrder_2 : List UInt8 := [180, 0, 115, 28, 46, 42, 180, 0, 115, 27, 46, 162, 0, 9, 132, 2, 255, 167, 255, 238, 42, 27, 28]
abbrev dktX2_nextOrder_2 : List UInt8 := dkwX2_nextOrder_2 ++ dktX2_nextOrder_3
def dkwX2_nextOrder_1 : List UInt8 := [46, 164, 0, 9, 132, 1, 255, 167, 255, 232, 27, 156, 0, 5, 3, 172, 42, 180, 0, 125, 4, 100, 61, 42]
abbrev dktX2_nextOrder_1 : List UInt8 := dkwX2_nextOrder_1 ++ dktX2_nextOrder_2
def dkwX2_nextOrder_0 : List UInt8 := [42, 180, 0, 125, 5, 100, 60, 27, 155, 0, 26, 42, 180, 0, 115, 27, 46, 42, 180, 0, 115, 27, 4, 96]
abbrev dktX2_nextOrder_0 : List UInt8 := dkwX2_nextOrder_0 ++ dktX2_nextOrder_1
theorem dksX2_nextOrder_0 : cX2_nextOrder.data.toList.drop 0 = dktX2_nextOrder_0 := by decide +kernel
theorem dksX2_nextOrder_1 : cX2_nextOrder.data.toList.drop 24 = dktX2_nextOrder_1 := dk_seg dksX2_nextOrder_0 24 rfl rfl
theorem dksX2_nextOrder_2 : cX2_nextOrder.data.toList.drop 48 = dktX2_nextOrder_2 := dk_seg dksX2_nextOrder_1 24 rfl rfl
theorem dksX2_nextOrder_3 : cX2_nextOrder.data.toList.drop 71 = dktX2_nextOrder_3 := dk_seg dksX2_nextOrder_2 23 rfl rfl
theorem dksX2_nextOrder_4 : cX2_nextOrder.data.toList.drop 94 = dktX2_nextOrder_4 := dk_seg dksX2_nextOrder_3 23 rfl rfl
theorem dX2_nextOrder_0 : decode cX2_nextOrder 0 = .ok (.aload_n 0, 1) := dk_42 (dk_at dksX2_nextOrder_0 0 rfl rfl)
theorem dX2_nextOrder_1 : decode cX2_nextOrder 1 = .ok (.getfield 125, 3) := dk_180 0 125 (dk_at dksX2_nextOrder_0 1 rfl rfl)
theorem dX2_nextOrder_4 : decode cX2_nextOrder 4 = .ok (.iconst 2, 1) := dk_5 (dk_at dksX2_nextOrder_0 4 rfl rfl)
theorem dX2_nextOrder_5 : decode cX2_nextOrder 5 = .ok (.isub, 1) := dk_100 (dk_at dksX2_nextOrder_0 5 rfl rfl)
theorem dX2_nextOrder_6 : decode cX2_nextOrder 6 = .ok (.istore_n 1, 1) := dk_60 (dk_at dksX2_nextOrder_0 6 rfl rfl)
theorem dX2_nextOrder_7 : decode cX2_nextOrder 7 = .ok (.iload_n 1, 1) := dk_27 (dk_at dksX2_nextOrder_0 7 rfl rfl)
theorem dX2_nextOrder_8 : decode cX2_nextOrder 8 = .ok (.ifCond .lt 26, 3) := dk_155 0 26 (dk_at dksX2_nextOrder_0 8 rfl rfl)
theorem dX2_nextOrder_11 : decode cX2_nextOrder 11 = .ok (.aload_n 0, 1) := dk_42 (dk_at dksX2_nextOrder_0 11 rfl rfl)
theorem dX2_nextOrder_12 : decode cX2_nextOrder 12 = .ok (.getfield 115, 3) := dk_180 0 115 (dk_at dksX2_nextOrder_0 12 rfl rfl)
theorem dX2_nextOrder_15 : decode cX2_nextOrder 15 = .ok (.iload_n 1, 1) := dk_27 (dk_at dksX2_nextOrder_0 15 rfl rfl)
theorem dX2_nextOrder_16 : decode cX2_nextOrder 16 = .ok (.iaload, 1) := dk_46 (dk_at dksX2_nextOrder_0 16 rfl rfl)
theorem dX2_nextOrder_17 : decode cX2_nextOrder 17 = .ok (.aload_n 0, 1) := dk_42 (dk_at dksX2_nextOrder_0 17 rfl rfl)
theorem dX2_nextOrder_18 : decode cX2_nextOrder 18 = .ok (.getfield 115, 3) := dk_180 0 115 (dk_at dksX2_nextOrder_0 18 rfl rfl)
theorem dX2_nextOrder_21 : decode cX2_nextOrder 21 = .ok (.iload_n 1, 1) := dk_27 (dk_at dksX2_nextOrder_0 21 rfl rfl)
theorem dX2_nextOrder_22 : decode cX2_nextOrder 22 = .ok (.iconst 1, 1) := dk_4 (dk_at dksX2_nextOrder_0 22 rfl rfl)
theorem dX2_nextOrder_23 : decode cX2_nextOrder 23 = .ok (.iadd, 1) := dk_96 (dk_at dksX2_nextOrder_0 23 rfl rfl)
theorem dX2_nextOrder_24 : decode cX2_nextOrder 24 = .ok (.iaload, 1) := dk_46 (dk_at dksX2_nextOrder_1 0 rfl rfl)
theorem dX2_nextOrder_25 : decode cX2_nextOrder 25 = .ok (.if_icmp .le 9, 3) := dk_164 0 9 (dk_at dksX2_nextOrder_1 1 rfl rfl)
theorem dX2_nextOrder_28 : decode cX2_nextOrder 28 = .ok (.iinc 1 (-1), 3) := dk_132 1 255 (dk_at dksX2_nextOrder_1 4 rfl rfl)
theorem dX2_nextOrder_31 : decode cX2_nextOrder 31 = .ok (.goto (-24), 3) := dk_167 255 232 (dk_at dksX2_nextOrder_1 7 rfl rfl)
theorem dX2_nextOrder_34 : decode cX2_nextOrder 34 = .ok (.iload_n 1, 1) := dk_27 (dk_at dksX2_nextOrder_1 10 rfl rfl)
theorem dX2_nextOrder_35 : decode cX2_nextOrder 35 = .ok (.ifCond .ge 5, 3) := dk_156 0 5 (dk_at dksX2_nextOrder_1 11 rfl rfl)
theorem dX2_nextOrder_38 : decode cX2_nextOrder 38 = .ok (.iconst 0, 1) := dk_3 (dk_at dksX2_nextOrder_1 14 rfl rfl)
theorem dX2_nextOrder_39 : decode cX2_nextOrder 39 = .ok (.ireturn, 1) := dk_172 (dk_at dksX2_nextOrder_1 15 rfl rfl)
theorem dX2_nextOrder_40 : decode cX2_nextOrder 40 = .ok (.aload_n 0, 1) := dk_42 (dk_at dksX2_nextOrder_1 16 rfl rfl)
theorem dX2_nextOrder_41 : decode cX2_nextOrder 41 = .ok (.getfield 125, 3) := dk_180 0 125 (dk_at dksX2_nextOrder_1 17 rfl rfl)
theorem dX2_nextOrder_44 : decode cX2_nextOrder 44 = .ok (.iconst 1, 1) := dk_4 (dk_at dksX2_nextOrder_1 20 rfl rfl)
theorem dX2_nextOrder_45 : decode cX2_nextOrder 45 = .ok (.isub, 1) := dk_100 (dk_at dksX2_nextOrder_1 21 rfl rfl)
theorem dX2_nextOrder_46 : decode cX2_nextOrder 46 = .ok (.istore_n 2, 1) := dk_61 (dk_at dksX2_nextOrder_1 22 rfl rfl)
theorem dX2_nextOrder_47 : decode cX2_nextOrder 47 = .ok (.aload_n 0, 1) := dk_42 (dk_at dksX2_nextOrder_1 23 rfl rfl)
theorem dX2_nextOrder_48 : decode cX2_nextOrder 48 = .ok (.getfield 115, 3) := dk_180 0 115 (dk_at dksX2_nextOrder_2 0 rfl rfl)
theorem dX2_nextOrder_51 : decode cX2_nextOrder 51 = .ok (.iload_n 2, 1) := dk_28 (dk_at dksX2_nextOrder_2 3 rfl rfl)
theorem dX2_nextOrder_52 : decode cX2_nextOrder 52 = .ok (.iaload, 1) := dk_46 (dk_at dksX2_nextOrder_2 4 rfl rfl)
theorem dX2_nextOrder_53 : decode cX2_nextOrder 53 = .ok (.aload_n 0, 1) := dk_42 (dk_at dksX2_nextOrder_2 5 rfl rfl)
theorem dX2_nextOrder_54 : decode cX2_nextOrder 54 = .ok (.getfield 115, 3) := dk_180 0 115 (dk_at dksX2_nextOrder_2 6 rfl rfl)
theorem dX2_nextOrder_57 : decode cX2_nextOrder 57 = .ok (.iload_n 1, 1) := dk_27 (dk_at dksX2_nextOrder_2 9 rfl rfl)
theorem dX2_nextOrder_58 : decode cX2_nextOrder 58 = .ok (.iaload, 1) := dk_46 (dk_at dksX2_nextOrder_2 10 rfl rfl)
theorem dX2_nextOrder_59 : decode cX2_nextOrder 59 = .ok (.if_icmp .ge 9, 3) := dk_162 0 9 (dk_at dksX2_nextOrder_2 11 rfl rfl)
theorem dX2_nextOrder_62 : decode cX2_nextOrder 62 = .ok (.iinc 2 (-1), 3) := dk_132 2 255 (dk_at dksX2_nextOrder_2 14 rfl rfl)
theorem dX2_nextOrder_65 : decode cX2_nextOrder 65 = .ok (.goto (-18), 3) := dk_167 255 238 (dk_at dksX2_nextOrder_2 17 rfl rfl)
theorem dX2_nextOrder_68 : decode cX2_nextOrder 68 = .ok (.aload_n 0, 1) := dk_42 (dk_at dksX2_nextOrder_2 20 rfl rfl)
theorem dX2_nextOrder_69 : decode cX2_nextOrder 69 = .ok (.iload_n 1, 1) := dk_27 (dk_at dksX2_nextOrder_2 21 rfl rfl)
theorem dX2_nextOrder_70 : decode cX2_nextOrder 70 = .ok (.iload_n 2, 1) := dk_28 (dk_at dksX2_nextOrder_2 22 rfl rfl)
theorem dX2_nextOrder_71 : decode cX2_nextOrder 71 = .ok (.invokevirtual 323, 3) := dk_182 1 67 (dk_at dksX2_nextOrder_3 0 rfl rfl)
theorem dX2_nextOrder_74 : decode cX2_nextOrder 74 = .ok (.iload_n 1, 1) := dk_27 (dk_at dksX2_nextOrder_3 3 rfl rfl)
theorem dX2_nextOrder_75 : decode cX2_nextOrder 75 = .ok (.iconst 1, 1) := dk_4 (dk_at dksX2_nextOrder_3 4 rfl rfl)
theorem dX2_nextOrder_76 : decode cX2_nextOrder 76 = .ok (.iadd, 1) := dk_96 (dk_at dksX2_nextOrder_3 5 rfl rfl)
theorem dX2_nextOrder_77 : decode cX2_nextOrder 77 = .ok (.istore_n 3, 1) := dk_62 (dk_at dksX2_nextOrder_3 6 rfl rfl)
theorem dX2_nextOrder_78 : decode cX2_nextOrder 78 = .ok (.aload_n 0, 1) := dk_42 (dk_at dksX2_nextOrder_3 7 rfl rfl)
theorem dX2_nextOrder_79 : decode cX2_nextOrder 79 = .ok (.getfield 125, 3) := dk_180 0 125 (dk_at dksX2_nextOrder_3 8 rfl rfl)
theorem dX2_nextOrder_82 : decode cX2_nextOrder 82 = .ok (.iconst 1, 1) := dk_4 (dk_at dksX2_nextOrder_3 11 rfl rfl)
theorem dX2_nextOrder_83 : decode cX2_nextOrder 83 = .ok (.isub, 1) := dk_100 (dk_at dksX2_nextOrder_3 12 rfl rfl)
theorem dX2_nextOrder_84 : decode cX2_nextOrder 84 = .ok (.istore 4, 2) := dk_54 4 (dk_at dksX2_nextOrder_3 13 rfl rfl)
theorem dX2_nextOrder_86 : decode cX2_nextOrder 86 = .ok (.iload_n 3, 1) := dk_29 (dk_at dksX2_nextOrder_3 15 rfl rfl)
theorem dX2_nextOrder_87 : decode cX2_nextOrder 87 = .ok (.iload 4, 2) := dk_21 4 (dk_at dksX2_nextOrder_3 16 rfl rfl)
theorem dX2_nextOrder_89 : decode cX2_nextOrder 89 = .ok (.if_icmp .ge 19, 3) := dk_162 0 19 (dk_at dksX2_nextOrder_3 18 rfl rfl)
theorem dX2_nextOrder_92 : decode cX2_nextOrder 92 = .ok (.aload_n 0, 1) := dk_42 (dk_at dksX2_nextOrder_3 21 rfl rfl)
theorem dX2_nextOrder_93 : decode cX2_nextOrder 93 = .ok (.iload_n 3, 1) := dk_29 (dk_at dksX2_nextOrder_3 22 rfl rfl)
theorem dX2_nextOrder_94 : decode cX2_nextOrder 94 = .ok (.iload 4, 2) := dk_21 4 (dk_at dksX2_nextOrder_4 0 rfl rfl)
theorem dX2_nextOrder_96 : decode cX2_nextOrder 96 = .ok (.invokevirtual 323, 3) := dk_182 1 67 (dk_at dksX2_nextOrder_4 2 rfl rfl)
theorem dX2_nextOrder_99 : decode cX2_nextOrder 99 = .ok (.iinc 3 1, 3) := dk_132 3 1 (dk_at dksX2_nextOrder_4 5 rfl rfl)
theorem dX2_nextOrder_102 : decode cX2_nextOrder 102 = .ok (.iinc 4 (-1), 3) := dk_132 4 255 (dk_at dksX2_nextOrder_4 8 rfl rfl)
theorem dX2_nextOrder_105 : decode cX2_nextOrder 105 = .ok (.goto (-19), 3) := dk_167 255 237 (dk_at dksX2_nextOrder_4 11 rfl rfl)
theorem dX2_nextOrder_108 : decode cX2_nextOrder 108 = .ok (.iconst 1, 1) := dk_4 (dk_at dksX2_nextOrder_4 14 rfl rfl)
theorem dX2_nextOrder_109 : decode cX2_nextOrder 109 = .ok (.ireturn, 1) := dk_172 (dk_at dksX2_nextOrder_4 15 rfl rfl)
abbrev cX2_exchange : ByteArray := prog_31_method_64_code
def yX2_exchange : MethodName := ⟨RX2, "exchange", "(II)V"⟩
def dkwX2_exchange_1 : List UInt8 := [29, 79, 177]
abbrev dktX2_exchange_1 : List UInt8 := dkwX2_exchange_1 ++ []
def dkwX2_exchange_0 : List UInt8 := [42, 180, 0, 115, 27, 46, 62, 42, 180, 0, 115, 27, 42, 180, 0, 115, 28, 46, 79, 42, 180, 0, 115, 28]
abbrev dktX2_exchange_0 : List UInt8 := dkwX2_exchange_0 ++ dktX2_exchange_1
theorem dksX2_exchange_0 : cX2_exchange.data.toList.drop 0 = dktX2_exchange_0 := by decide +kernel
theorem dksX2_exchange_1 : cX2_exchange.data.toList.drop 24 = dktX2_exchange_1 := dk_seg dksX2_exchange_0 24 rfl rfl
theorem dX2_exchange_0 : decode cX2_exchange 0 = .ok (.aload_n 0, 1) := dk_42 (dk_at dksX2_exchange_0 0 rfl rfl)
theorem dX2_exchange_1 : decode cX2_exchange 1 = .ok (.getfield 115, 3) := dk_180 0 115 (dk_at dksX2_exchange_0 1 rfl rfl)
theorem dX2_exchange_4 : decode cX2_exchange 4 = .ok (.iload_n 1, 1) := dk_27 (dk_at dksX2_exchange_0 4 rfl rfl)
theorem dX2_exchange_5 : decode cX2_exchange 5 = .ok (.iaload, 1) := dk_46 (dk_at dksX2_exchange_0 5 rfl rfl)
theorem dX2_exchange_6 : decode cX2_exchange 6 = .ok (.istore_n 3, 1) := dk_62 (dk_at dksX2_exchange_0 6 rfl rfl)
theorem dX2_exchange_7 : decode cX2_exchange 7 = .ok (.aload_n 0, 1) := dk_42 (dk_at dksX2_exchange_0 7 rfl rfl)
theorem dX2_exchange_8 : decode cX2_exchange 8 = .ok (.getfield 115, 3) := dk_180 0 115 (dk_at dksX2_exchange_0 8 rfl rfl)
theorem dX2_exchange_11 : decode cX2_exchange 11 = .ok (.iload_n 1, 1) := dk_27 (dk_at dksX2_exchange_0 11 rfl rfl)
theorem dX2_exchange_12 : decode cX2_exchange 12 = .ok (.aload_n 0, 1) := dk_42 (dk_at dksX2_exchange_0 12 rfl rfl)
theorem dX2_exchange_13 : decode cX2_exchange 13 = .ok (.getfield 115, 3) := dk_180 0 115 (dk_at dksX2_exchange_0 13 rfl rfl)
theorem dX2_exchange_16 : decode cX2_exchange 16 = .ok (.iload_n 2, 1) := dk_28 (dk_at dksX2_exchange_0 16 rfl rfl)
theorem dX2_exchange_17 : decode cX2_exchange 17 = .ok (.iaload, 1) := dk_46 (dk_at dksX2_exchange_0 17 rfl rfl)
theorem dX2_exchange_18 : decode cX2_exchange 18 = .ok (.iastore, 1) := dk_79 (dk_at dksX2_exchange_0 18 rfl rfl)
theorem dX2_exchange_19 : decode cX2_exchange 19 = .ok (.aload_n 0, 1) := dk_42 (dk_at dksX2_exchange_0 19 rfl rfl)
theorem dX2_exchange_20 : decode cX2_exchange 20 = .ok (.getfield 115, 3) := dk_180 0 115 (dk_at dksX2_exchange_0 20 rfl rfl)
theorem dX2_exchange_23 : decode cX2_exchange 23 = .ok (.iload_n 2, 1) := dk_28 (dk_at dksX2_exchange_0 23 rfl rfl)
theorem dX2_exchange_24 : decode cX2_exchange 24 = .ok (.iload_n 3, 1) := dk_29 (dk_at dksX2_exchange_1 0 rfl rfl)
theorem dX2_exchange_25 : decode cX2_exchange 25 = .ok (.iastore, 1) := dk_79 (dk_at dksX2_exchange_1 1 rfl rfl)
theorem dX2_exchange_26 : decode cX2_exchange 26 = .ok (.return_, 1) := dk_177 (dk_at dksX2_exchange_1 2 rfl rfl)
abbrev cX2_lift : ByteArray := prog_31_method_66_code
def yX2_lift : MethodName := ⟨RX2, "lift", "(I)I"⟩
def dkwX2_lift_7 : List UInt8 := [167, 255, 117, 27, 154, 0, 7, 28, 167, 0, 4, 29, 172]
abbrev dktX2_lift_7 : List UInt8 := dkwX2_lift_7 ++ []
def dkwX2_lift_6 : List UInt8 := [167, 0, 13, 21, 7, 54, 4, 21, 5, 61, 21, 6, 62, 132, 6, 1, 167, 255, 135, 132, 5, 1]
abbrev dktX2_lift_6 : List UInt8 := dkwX2_lift_6 ++ dktX2_lift_7
def dkwX2_lift_5 : List UInt8 := [132, 8, 1, 167, 255, 221, 21, 7, 155, 0, 29, 28, 16, 254, 159, 0, 13, 21, 7, 21, 4, 161, 0, 6]
abbrev dktX2_lift_5 : List UInt8 := dkwX2_lift_5 ++ dktX2_lift_6
def dkwX2_lift_4 : List UInt8 := [21, 6, 21, 8, 122, 4, 126, 4, 160, 0, 15, 21, 7, 42, 180, 0, 18, 21, 8, 46, 96, 54, 7]
abbrev dktX2_lift_4 : List UInt8 := dkwX2_lift_4 ++ dktX2_lift_5
def dkwX2_lift_3 : List UInt8 := [16, 253, 42, 180, 0, 18, 21, 5, 46, 104, 54, 7, 3, 54, 8, 21, 8, 42, 180, 0, 125, 162, 0, 32]
abbrev dktX2_lift_3 : List UInt8 := dkwX2_lift_3 ++ dktX2_lift_4
def dkwX2_lift_2 : List UInt8 := [21, 6, 184, 1, 77, 6, 160, 0, 101, 21, 6, 21, 5, 122, 4, 126, 4, 160, 0, 6, 167, 0, 87]
abbrev dktX2_lift_2 : List UInt8 := dkwX2_lift_2 ++ dktX2_lift_3
def dkwX2_lift_1 : List UInt8 := [21, 5, 42, 180, 0, 125, 162, 0, 136, 3, 54, 6, 21, 6, 4, 42, 180, 0, 125, 120, 162, 0, 116]
abbrev dktX2_lift_1 : List UInt8 := dkwX2_lift_1 ++ dktX2_lift_2
def dkwX2_lift_0 : List UInt8 := [27, 3, 4, 184, 0, 128, 154, 0, 5, 2, 172, 16, 254, 61, 16, 254, 62, 3, 54, 4, 3, 54, 5]
abbrev dktX2_lift_0 : List UInt8 := dkwX2_lift_0 ++ dktX2_lift_1
theorem dksX2_lift_0 : cX2_lift.data.toList.drop 0 = dktX2_lift_0 := by decide +kernel
theorem dksX2_lift_1 : cX2_lift.data.toList.drop 23 = dktX2_lift_1 := dk_seg dksX2_lift_0 23 rfl rfl
theorem dksX2_lift_2 : cX2_lift.data.toList.drop 46 = dktX2_lift_2 := dk_seg dksX2_lift_1 23 rfl rfl
theorem dksX2_lift_3 : cX2_lift.data.toList.drop 69 = dktX2_lift_3 := dk_seg dksX2_lift_2 23 rfl rfl
theorem dksX2_lift_4 : cX2_lift.data.toList.drop 93 = dktX2_lift_4 := dk_seg dksX2_lift_3 24 rfl rfl
theorem dksX2_lift_5 : cX2_lift.data.toList.drop 116 = dktX2_lift_5 := dk_seg dksX2_lift_4 23 rfl rfl
theorem dksX2_lift_6 : cX2_lift.data.toList.drop 140 = dktX2_lift_6 := dk_seg dksX2_lift_5 24 rfl rfl
theorem dksX2_lift_7 : cX2_lift.data.toList.drop 162 = dktX2_lift_7 := dk_seg dksX2_lift_6 22 rfl rfl
theorem dX2_lift_0 : decode cX2_lift 0 = .ok (.iload_n 1, 1) := dk_27 (dk_at dksX2_lift_0 0 rfl rfl)
theorem dX2_lift_1 : decode cX2_lift 1 = .ok (.iconst 0, 1) := dk_3 (dk_at dksX2_lift_0 1 rfl rfl)
theorem dX2_lift_2 : decode cX2_lift 2 = .ok (.iconst 1, 1) := dk_4 (dk_at dksX2_lift_0 2 rfl rfl)
theorem dX2_lift_3 : decode cX2_lift 3 = .ok (.invokestatic 128, 3) := dk_184 0 128 (dk_at dksX2_lift_0 3 rfl rfl)
theorem dX2_lift_6 : decode cX2_lift 6 = .ok (.ifCond .ne 5, 3) := dk_154 0 5 (dk_at dksX2_lift_0 6 rfl rfl)
theorem dX2_lift_9 : decode cX2_lift 9 = .ok (.iconst (-1), 1) := dk_2 (dk_at dksX2_lift_0 9 rfl rfl)
theorem dX2_lift_10 : decode cX2_lift 10 = .ok (.ireturn, 1) := dk_172 (dk_at dksX2_lift_0 10 rfl rfl)
theorem dX2_lift_11 : decode cX2_lift 11 = .ok (.bipush (-2), 2) := dk_16 254 (dk_at dksX2_lift_0 11 rfl rfl)
theorem dX2_lift_13 : decode cX2_lift 13 = .ok (.istore_n 2, 1) := dk_61 (dk_at dksX2_lift_0 13 rfl rfl)
theorem dX2_lift_14 : decode cX2_lift 14 = .ok (.bipush (-2), 2) := dk_16 254 (dk_at dksX2_lift_0 14 rfl rfl)
theorem dX2_lift_16 : decode cX2_lift 16 = .ok (.istore_n 3, 1) := dk_62 (dk_at dksX2_lift_0 16 rfl rfl)
theorem dX2_lift_17 : decode cX2_lift 17 = .ok (.iconst 0, 1) := dk_3 (dk_at dksX2_lift_0 17 rfl rfl)
theorem dX2_lift_18 : decode cX2_lift 18 = .ok (.istore 4, 2) := dk_54 4 (dk_at dksX2_lift_0 18 rfl rfl)
theorem dX2_lift_20 : decode cX2_lift 20 = .ok (.iconst 0, 1) := dk_3 (dk_at dksX2_lift_0 20 rfl rfl)
theorem dX2_lift_21 : decode cX2_lift 21 = .ok (.istore 5, 2) := dk_54 5 (dk_at dksX2_lift_0 21 rfl rfl)
theorem dX2_lift_23 : decode cX2_lift 23 = .ok (.iload 5, 2) := dk_21 5 (dk_at dksX2_lift_1 0 rfl rfl)
theorem dX2_lift_25 : decode cX2_lift 25 = .ok (.aload_n 0, 1) := dk_42 (dk_at dksX2_lift_1 2 rfl rfl)
theorem dX2_lift_26 : decode cX2_lift 26 = .ok (.getfield 125, 3) := dk_180 0 125 (dk_at dksX2_lift_1 3 rfl rfl)
theorem dX2_lift_29 : decode cX2_lift 29 = .ok (.if_icmp .ge 136, 3) := dk_162 0 136 (dk_at dksX2_lift_1 6 rfl rfl)
theorem dX2_lift_32 : decode cX2_lift 32 = .ok (.iconst 0, 1) := dk_3 (dk_at dksX2_lift_1 9 rfl rfl)
theorem dX2_lift_33 : decode cX2_lift 33 = .ok (.istore 6, 2) := dk_54 6 (dk_at dksX2_lift_1 10 rfl rfl)
theorem dX2_lift_35 : decode cX2_lift 35 = .ok (.iload 6, 2) := dk_21 6 (dk_at dksX2_lift_1 12 rfl rfl)
theorem dX2_lift_37 : decode cX2_lift 37 = .ok (.iconst 1, 1) := dk_4 (dk_at dksX2_lift_1 14 rfl rfl)
theorem dX2_lift_38 : decode cX2_lift 38 = .ok (.aload_n 0, 1) := dk_42 (dk_at dksX2_lift_1 15 rfl rfl)
theorem dX2_lift_39 : decode cX2_lift 39 = .ok (.getfield 125, 3) := dk_180 0 125 (dk_at dksX2_lift_1 16 rfl rfl)
theorem dX2_lift_42 : decode cX2_lift 42 = .ok (.ishl, 1) := dk_120 (dk_at dksX2_lift_1 19 rfl rfl)
theorem dX2_lift_43 : decode cX2_lift 43 = .ok (.if_icmp .ge 116, 3) := dk_162 0 116 (dk_at dksX2_lift_1 20 rfl rfl)
theorem dX2_lift_46 : decode cX2_lift 46 = .ok (.iload 6, 2) := dk_21 6 (dk_at dksX2_lift_2 0 rfl rfl)
theorem dX2_lift_48 : decode cX2_lift 48 = .ok (.invokestatic 333, 3) := dk_184 1 77 (dk_at dksX2_lift_2 2 rfl rfl)
theorem dX2_lift_51 : decode cX2_lift 51 = .ok (.iconst 3, 1) := dk_6 (dk_at dksX2_lift_2 5 rfl rfl)
theorem dX2_lift_52 : decode cX2_lift 52 = .ok (.if_icmp .ne 101, 3) := dk_160 0 101 (dk_at dksX2_lift_2 6 rfl rfl)
theorem dX2_lift_55 : decode cX2_lift 55 = .ok (.iload 6, 2) := dk_21 6 (dk_at dksX2_lift_2 9 rfl rfl)
theorem dX2_lift_57 : decode cX2_lift 57 = .ok (.iload 5, 2) := dk_21 5 (dk_at dksX2_lift_2 11 rfl rfl)
theorem dX2_lift_59 : decode cX2_lift 59 = .ok (.ishr, 1) := dk_122 (dk_at dksX2_lift_2 13 rfl rfl)
theorem dX2_lift_60 : decode cX2_lift 60 = .ok (.iconst 1, 1) := dk_4 (dk_at dksX2_lift_2 14 rfl rfl)
theorem dX2_lift_61 : decode cX2_lift 61 = .ok (.iand, 1) := dk_126 (dk_at dksX2_lift_2 15 rfl rfl)
theorem dX2_lift_62 : decode cX2_lift 62 = .ok (.iconst 1, 1) := dk_4 (dk_at dksX2_lift_2 16 rfl rfl)
theorem dX2_lift_63 : decode cX2_lift 63 = .ok (.if_icmp .ne 6, 3) := dk_160 0 6 (dk_at dksX2_lift_2 17 rfl rfl)
theorem dX2_lift_66 : decode cX2_lift 66 = .ok (.goto 87, 3) := dk_167 0 87 (dk_at dksX2_lift_2 20 rfl rfl)
theorem dX2_lift_69 : decode cX2_lift 69 = .ok (.bipush (-3), 2) := dk_16 253 (dk_at dksX2_lift_3 0 rfl rfl)
theorem dX2_lift_71 : decode cX2_lift 71 = .ok (.aload_n 0, 1) := dk_42 (dk_at dksX2_lift_3 2 rfl rfl)
theorem dX2_lift_72 : decode cX2_lift 72 = .ok (.getfield 18, 3) := dk_180 0 18 (dk_at dksX2_lift_3 3 rfl rfl)
theorem dX2_lift_75 : decode cX2_lift 75 = .ok (.iload 5, 2) := dk_21 5 (dk_at dksX2_lift_3 6 rfl rfl)
theorem dX2_lift_77 : decode cX2_lift 77 = .ok (.iaload, 1) := dk_46 (dk_at dksX2_lift_3 8 rfl rfl)
theorem dX2_lift_78 : decode cX2_lift 78 = .ok (.imul, 1) := dk_104 (dk_at dksX2_lift_3 9 rfl rfl)
theorem dX2_lift_79 : decode cX2_lift 79 = .ok (.istore 7, 2) := dk_54 7 (dk_at dksX2_lift_3 10 rfl rfl)
theorem dX2_lift_81 : decode cX2_lift 81 = .ok (.iconst 0, 1) := dk_3 (dk_at dksX2_lift_3 12 rfl rfl)
theorem dX2_lift_82 : decode cX2_lift 82 = .ok (.istore 8, 2) := dk_54 8 (dk_at dksX2_lift_3 13 rfl rfl)
theorem dX2_lift_84 : decode cX2_lift 84 = .ok (.iload 8, 2) := dk_21 8 (dk_at dksX2_lift_3 15 rfl rfl)
theorem dX2_lift_86 : decode cX2_lift 86 = .ok (.aload_n 0, 1) := dk_42 (dk_at dksX2_lift_3 17 rfl rfl)
theorem dX2_lift_87 : decode cX2_lift 87 = .ok (.getfield 125, 3) := dk_180 0 125 (dk_at dksX2_lift_3 18 rfl rfl)
theorem dX2_lift_90 : decode cX2_lift 90 = .ok (.if_icmp .ge 32, 3) := dk_162 0 32 (dk_at dksX2_lift_3 21 rfl rfl)
theorem dX2_lift_93 : decode cX2_lift 93 = .ok (.iload 6, 2) := dk_21 6 (dk_at dksX2_lift_4 0 rfl rfl)
theorem dX2_lift_95 : decode cX2_lift 95 = .ok (.iload 8, 2) := dk_21 8 (dk_at dksX2_lift_4 2 rfl rfl)
theorem dX2_lift_97 : decode cX2_lift 97 = .ok (.ishr, 1) := dk_122 (dk_at dksX2_lift_4 4 rfl rfl)
theorem dX2_lift_98 : decode cX2_lift 98 = .ok (.iconst 1, 1) := dk_4 (dk_at dksX2_lift_4 5 rfl rfl)
theorem dX2_lift_99 : decode cX2_lift 99 = .ok (.iand, 1) := dk_126 (dk_at dksX2_lift_4 6 rfl rfl)
theorem dX2_lift_100 : decode cX2_lift 100 = .ok (.iconst 1, 1) := dk_4 (dk_at dksX2_lift_4 7 rfl rfl)
theorem dX2_lift_101 : decode cX2_lift 101 = .ok (.if_icmp .ne 15, 3) := dk_160 0 15 (dk_at dksX2_lift_4 8 rfl rfl)
theorem dX2_lift_104 : decode cX2_lift 104 = .ok (.iload 7, 2) := dk_21 7 (dk_at dksX2_lift_4 11 rfl rfl)
theorem dX2_lift_106 : decode cX2_lift 106 = .ok (.aload_n 0, 1) := dk_42 (dk_at dksX2_lift_4 13 rfl rfl)
theorem dX2_lift_107 : decode cX2_lift 107 = .ok (.getfield 18, 3) := dk_180 0 18 (dk_at dksX2_lift_4 14 rfl rfl)
theorem dX2_lift_110 : decode cX2_lift 110 = .ok (.iload 8, 2) := dk_21 8 (dk_at dksX2_lift_4 17 rfl rfl)
theorem dX2_lift_112 : decode cX2_lift 112 = .ok (.iaload, 1) := dk_46 (dk_at dksX2_lift_4 19 rfl rfl)
theorem dX2_lift_113 : decode cX2_lift 113 = .ok (.iadd, 1) := dk_96 (dk_at dksX2_lift_4 20 rfl rfl)
theorem dX2_lift_114 : decode cX2_lift 114 = .ok (.istore 7, 2) := dk_54 7 (dk_at dksX2_lift_4 21 rfl rfl)
theorem dX2_lift_116 : decode cX2_lift 116 = .ok (.iinc 8 1, 3) := dk_132 8 1 (dk_at dksX2_lift_5 0 rfl rfl)
theorem dX2_lift_119 : decode cX2_lift 119 = .ok (.goto (-35), 3) := dk_167 255 221 (dk_at dksX2_lift_5 3 rfl rfl)
theorem dX2_lift_122 : decode cX2_lift 122 = .ok (.iload 7, 2) := dk_21 7 (dk_at dksX2_lift_5 6 rfl rfl)
theorem dX2_lift_124 : decode cX2_lift 124 = .ok (.ifCond .lt 29, 3) := dk_155 0 29 (dk_at dksX2_lift_5 8 rfl rfl)
theorem dX2_lift_127 : decode cX2_lift 127 = .ok (.iload_n 2, 1) := dk_28 (dk_at dksX2_lift_5 11 rfl rfl)
theorem dX2_lift_128 : decode cX2_lift 128 = .ok (.bipush (-2), 2) := dk_16 254 (dk_at dksX2_lift_5 12 rfl rfl)
theorem dX2_lift_130 : decode cX2_lift 130 = .ok (.if_icmp .eq 13, 3) := dk_159 0 13 (dk_at dksX2_lift_5 14 rfl rfl)
theorem dX2_lift_133 : decode cX2_lift 133 = .ok (.iload 7, 2) := dk_21 7 (dk_at dksX2_lift_5 17 rfl rfl)
theorem dX2_lift_135 : decode cX2_lift 135 = .ok (.iload 4, 2) := dk_21 4 (dk_at dksX2_lift_5 19 rfl rfl)
theorem dX2_lift_137 : decode cX2_lift 137 = .ok (.if_icmp .lt 6, 3) := dk_161 0 6 (dk_at dksX2_lift_5 21 rfl rfl)
theorem dX2_lift_140 : decode cX2_lift 140 = .ok (.goto 13, 3) := dk_167 0 13 (dk_at dksX2_lift_6 0 rfl rfl)
theorem dX2_lift_143 : decode cX2_lift 143 = .ok (.iload 7, 2) := dk_21 7 (dk_at dksX2_lift_6 3 rfl rfl)
theorem dX2_lift_145 : decode cX2_lift 145 = .ok (.istore 4, 2) := dk_54 4 (dk_at dksX2_lift_6 5 rfl rfl)
theorem dX2_lift_147 : decode cX2_lift 147 = .ok (.iload 5, 2) := dk_21 5 (dk_at dksX2_lift_6 7 rfl rfl)
theorem dX2_lift_149 : decode cX2_lift 149 = .ok (.istore_n 2, 1) := dk_61 (dk_at dksX2_lift_6 9 rfl rfl)
theorem dX2_lift_150 : decode cX2_lift 150 = .ok (.iload 6, 2) := dk_21 6 (dk_at dksX2_lift_6 10 rfl rfl)
theorem dX2_lift_152 : decode cX2_lift 152 = .ok (.istore_n 3, 1) := dk_62 (dk_at dksX2_lift_6 12 rfl rfl)
theorem dX2_lift_153 : decode cX2_lift 153 = .ok (.iinc 6 1, 3) := dk_132 6 1 (dk_at dksX2_lift_6 13 rfl rfl)
theorem dX2_lift_156 : decode cX2_lift 156 = .ok (.goto (-121), 3) := dk_167 255 135 (dk_at dksX2_lift_6 16 rfl rfl)
theorem dX2_lift_159 : decode cX2_lift 159 = .ok (.iinc 5 1, 3) := dk_132 5 1 (dk_at dksX2_lift_6 19 rfl rfl)
theorem dX2_lift_162 : decode cX2_lift 162 = .ok (.goto (-139), 3) := dk_167 255 117 (dk_at dksX2_lift_7 0 rfl rfl)
theorem dX2_lift_165 : decode cX2_lift 165 = .ok (.iload_n 1, 1) := dk_27 (dk_at dksX2_lift_7 3 rfl rfl)
theorem dX2_lift_166 : decode cX2_lift 166 = .ok (.ifCond .ne 7, 3) := dk_154 0 7 (dk_at dksX2_lift_7 4 rfl rfl)
theorem dX2_lift_169 : decode cX2_lift 169 = .ok (.iload_n 2, 1) := dk_28 (dk_at dksX2_lift_7 7 rfl rfl)
theorem dX2_lift_170 : decode cX2_lift 170 = .ok (.goto 4, 3) := dk_167 0 4 (dk_at dksX2_lift_7 8 rfl rfl)
theorem dX2_lift_173 : decode cX2_lift 173 = .ok (.iload_n 3, 1) := dk_29 (dk_at dksX2_lift_7 11 rfl rfl)
theorem dX2_lift_174 : decode cX2_lift 174 = .ok (.ireturn, 1) := dk_172 (dk_at dksX2_lift_7 12 rfl rfl)
abbrev cX2_star : ByteArray := prog_31_method_69_code
def yX2_star : MethodName := ⟨RX2, "star", "(I)I"⟩
def dkwX2_star_6 : List UInt8 := [167, 0, 12, 29, 153, 0, 7, 4, 167, 0, 4, 3, 172]
abbrev dktX2_star_6 : List UInt8 := dkwX2_star_6 ++ []
def dkwX2_star_5 : List UInt8 := [16, 254, 182, 1, 86, 154, 0, 5, 3, 62, 132, 4, 1, 167, 255, 186, 27, 4, 160, 0, 7, 28]
abbrev dktX2_star_5 : List UInt8 := dkwX2_star_5 ++ dktX2_star_6
def dkwX2_star_4 : List UInt8 := [21, 4, 120, 128, 61, 42, 16, 15, 42, 180, 0, 9, 21, 4, 46, 100, 42, 180, 0, 15, 21, 4, 46]
abbrev dktX2_star_4 : List UInt8 := dkwX2_star_4 ++ dktX2_star_5
def dkwX2_star_3 : List UInt8 := [42, 180, 0, 9, 21, 4, 46, 42, 180, 0, 15, 21, 4, 46, 21, 4, 182, 1, 86, 153, 0, 10, 28, 4]
abbrev dktX2_star_3 : List UInt8 := dkwX2_star_3 ++ dktX2_star_4
def dkwX2_star_2 : List UInt8 := [184, 1, 82, 184, 0, 243, 172, 3, 61, 4, 62, 3, 54, 4, 21, 4, 42, 180, 0, 125, 162, 0, 67, 42]
abbrev dktX2_star_2 : List UInt8 := dkwX2_star_2 ++ dktX2_star_3
def dkwX2_star_1 : List UInt8 := [167, 0, 28, 42, 180, 0, 9, 42, 180, 0, 125, 184, 1, 82, 42, 180, 0, 15, 42, 180, 0, 125]
abbrev dktX2_star_1 : List UInt8 := dkwX2_star_1 ++ dktX2_star_2
def dkwX2_star_0 : List UInt8 := [27, 3, 5, 184, 0, 128, 154, 0, 5, 2, 172, 27, 154, 0, 40, 42, 180, 0, 125, 154, 0, 7, 3]
abbrev dktX2_star_0 : List UInt8 := dkwX2_star_0 ++ dktX2_star_1
theorem dksX2_star_0 : cX2_star.data.toList.drop 0 = dktX2_star_0 := by decide +kernel
theorem dksX2_star_1 : cX2_star.data.toList.drop 23 = dktX2_star_1 := dk_seg dksX2_star_0 23 rfl rfl
theorem dksX2_star_2 : cX2_star.data.toList.drop 45 = dktX2_star_2 := dk_seg dksX2_star_1 22 rfl rfl
theorem dksX2_star_3 : cX2_star.data.toList.drop 69 = dktX2_star_3 := dk_seg dksX2_star_2 24 rfl rfl
theorem dksX2_star_4 : cX2_star.data.toList.drop 93 = dktX2_star_4 := dk_seg dksX2_star_3 24 rfl rfl
theorem dksX2_star_5 : cX2_star.data.toList.drop 116 = dktX2_star_5 := dk_seg dksX2_star_4 23 rfl rfl
theorem dksX2_star_6 : cX2_star.data.toList.drop 138 = dktX2_star_6 := dk_seg dksX2_star_5 22 rfl rfl
theorem dX2_star_0 : decode cX2_star 0 = .ok (.iload_n 1, 1) := dk_27 (dk_at dksX2_star_0 0 rfl rfl)
theorem dX2_star_1 : decode cX2_star 1 = .ok (.iconst 0, 1) := dk_3 (dk_at dksX2_star_0 1 rfl rfl)
theorem dX2_star_2 : decode cX2_star 2 = .ok (.iconst 2, 1) := dk_5 (dk_at dksX2_star_0 2 rfl rfl)
theorem dX2_star_3 : decode cX2_star 3 = .ok (.invokestatic 128, 3) := dk_184 0 128 (dk_at dksX2_star_0 3 rfl rfl)
theorem dX2_star_6 : decode cX2_star 6 = .ok (.ifCond .ne 5, 3) := dk_154 0 5 (dk_at dksX2_star_0 6 rfl rfl)
theorem dX2_star_9 : decode cX2_star 9 = .ok (.iconst (-1), 1) := dk_2 (dk_at dksX2_star_0 9 rfl rfl)
theorem dX2_star_10 : decode cX2_star 10 = .ok (.ireturn, 1) := dk_172 (dk_at dksX2_star_0 10 rfl rfl)
theorem dX2_star_11 : decode cX2_star 11 = .ok (.iload_n 1, 1) := dk_27 (dk_at dksX2_star_0 11 rfl rfl)
theorem dX2_star_12 : decode cX2_star 12 = .ok (.ifCond .ne 40, 3) := dk_154 0 40 (dk_at dksX2_star_0 12 rfl rfl)
theorem dX2_star_15 : decode cX2_star 15 = .ok (.aload_n 0, 1) := dk_42 (dk_at dksX2_star_0 15 rfl rfl)
theorem dX2_star_16 : decode cX2_star 16 = .ok (.getfield 125, 3) := dk_180 0 125 (dk_at dksX2_star_0 16 rfl rfl)
theorem dX2_star_19 : decode cX2_star 19 = .ok (.ifCond .ne 7, 3) := dk_154 0 7 (dk_at dksX2_star_0 19 rfl rfl)
theorem dX2_star_22 : decode cX2_star 22 = .ok (.iconst 0, 1) := dk_3 (dk_at dksX2_star_0 22 rfl rfl)
theorem dX2_star_23 : decode cX2_star 23 = .ok (.goto 28, 3) := dk_167 0 28 (dk_at dksX2_star_1 0 rfl rfl)
theorem dX2_star_26 : decode cX2_star 26 = .ok (.aload_n 0, 1) := dk_42 (dk_at dksX2_star_1 3 rfl rfl)
theorem dX2_star_27 : decode cX2_star 27 = .ok (.getfield 9, 3) := dk_180 0 9 (dk_at dksX2_star_1 4 rfl rfl)
theorem dX2_star_30 : decode cX2_star 30 = .ok (.aload_n 0, 1) := dk_42 (dk_at dksX2_star_1 7 rfl rfl)
theorem dX2_star_31 : decode cX2_star 31 = .ok (.getfield 125, 3) := dk_180 0 125 (dk_at dksX2_star_1 8 rfl rfl)
theorem dX2_star_34 : decode cX2_star 34 = .ok (.invokestatic 338, 3) := dk_184 1 82 (dk_at dksX2_star_1 11 rfl rfl)
theorem dX2_star_37 : decode cX2_star 37 = .ok (.aload_n 0, 1) := dk_42 (dk_at dksX2_star_1 14 rfl rfl)
theorem dX2_star_38 : decode cX2_star 38 = .ok (.getfield 15, 3) := dk_180 0 15 (dk_at dksX2_star_1 15 rfl rfl)
theorem dX2_star_41 : decode cX2_star 41 = .ok (.aload_n 0, 1) := dk_42 (dk_at dksX2_star_1 18 rfl rfl)
theorem dX2_star_42 : decode cX2_star 42 = .ok (.getfield 125, 3) := dk_180 0 125 (dk_at dksX2_star_1 19 rfl rfl)
theorem dX2_star_45 : decode cX2_star 45 = .ok (.invokestatic 338, 3) := dk_184 1 82 (dk_at dksX2_star_2 0 rfl rfl)
theorem dX2_star_48 : decode cX2_star 48 = .ok (.invokestatic 243, 3) := dk_184 0 243 (dk_at dksX2_star_2 3 rfl rfl)
theorem dX2_star_51 : decode cX2_star 51 = .ok (.ireturn, 1) := dk_172 (dk_at dksX2_star_2 6 rfl rfl)
theorem dX2_star_52 : decode cX2_star 52 = .ok (.iconst 0, 1) := dk_3 (dk_at dksX2_star_2 7 rfl rfl)
theorem dX2_star_53 : decode cX2_star 53 = .ok (.istore_n 2, 1) := dk_61 (dk_at dksX2_star_2 8 rfl rfl)
theorem dX2_star_54 : decode cX2_star 54 = .ok (.iconst 1, 1) := dk_4 (dk_at dksX2_star_2 9 rfl rfl)
theorem dX2_star_55 : decode cX2_star 55 = .ok (.istore_n 3, 1) := dk_62 (dk_at dksX2_star_2 10 rfl rfl)
theorem dX2_star_56 : decode cX2_star 56 = .ok (.iconst 0, 1) := dk_3 (dk_at dksX2_star_2 11 rfl rfl)
theorem dX2_star_57 : decode cX2_star 57 = .ok (.istore 4, 2) := dk_54 4 (dk_at dksX2_star_2 12 rfl rfl)
theorem dX2_star_59 : decode cX2_star 59 = .ok (.iload 4, 2) := dk_21 4 (dk_at dksX2_star_2 14 rfl rfl)
theorem dX2_star_61 : decode cX2_star 61 = .ok (.aload_n 0, 1) := dk_42 (dk_at dksX2_star_2 16 rfl rfl)
theorem dX2_star_62 : decode cX2_star 62 = .ok (.getfield 125, 3) := dk_180 0 125 (dk_at dksX2_star_2 17 rfl rfl)
theorem dX2_star_65 : decode cX2_star 65 = .ok (.if_icmp .ge 67, 3) := dk_162 0 67 (dk_at dksX2_star_2 20 rfl rfl)
theorem dX2_star_68 : decode cX2_star 68 = .ok (.aload_n 0, 1) := dk_42 (dk_at dksX2_star_2 23 rfl rfl)
theorem dX2_star_69 : decode cX2_star 69 = .ok (.aload_n 0, 1) := dk_42 (dk_at dksX2_star_3 0 rfl rfl)
theorem dX2_star_70 : decode cX2_star 70 = .ok (.getfield 9, 3) := dk_180 0 9 (dk_at dksX2_star_3 1 rfl rfl)
theorem dX2_star_73 : decode cX2_star 73 = .ok (.iload 4, 2) := dk_21 4 (dk_at dksX2_star_3 4 rfl rfl)
theorem dX2_star_75 : decode cX2_star 75 = .ok (.iaload, 1) := dk_46 (dk_at dksX2_star_3 6 rfl rfl)
theorem dX2_star_76 : decode cX2_star 76 = .ok (.aload_n 0, 1) := dk_42 (dk_at dksX2_star_3 7 rfl rfl)
theorem dX2_star_77 : decode cX2_star 77 = .ok (.getfield 15, 3) := dk_180 0 15 (dk_at dksX2_star_3 8 rfl rfl)
theorem dX2_star_80 : decode cX2_star 80 = .ok (.iload 4, 2) := dk_21 4 (dk_at dksX2_star_3 11 rfl rfl)
theorem dX2_star_82 : decode cX2_star 82 = .ok (.iaload, 1) := dk_46 (dk_at dksX2_star_3 13 rfl rfl)
theorem dX2_star_83 : decode cX2_star 83 = .ok (.iload 4, 2) := dk_21 4 (dk_at dksX2_star_3 14 rfl rfl)
theorem dX2_star_85 : decode cX2_star 85 = .ok (.invokevirtual 342, 3) := dk_182 1 86 (dk_at dksX2_star_3 16 rfl rfl)
theorem dX2_star_88 : decode cX2_star 88 = .ok (.ifCond .eq 10, 3) := dk_153 0 10 (dk_at dksX2_star_3 19 rfl rfl)
theorem dX2_star_91 : decode cX2_star 91 = .ok (.iload_n 2, 1) := dk_28 (dk_at dksX2_star_3 22 rfl rfl)
theorem dX2_star_92 : decode cX2_star 92 = .ok (.iconst 1, 1) := dk_4 (dk_at dksX2_star_3 23 rfl rfl)
theorem dX2_star_93 : decode cX2_star 93 = .ok (.iload 4, 2) := dk_21 4 (dk_at dksX2_star_4 0 rfl rfl)
theorem dX2_star_95 : decode cX2_star 95 = .ok (.ishl, 1) := dk_120 (dk_at dksX2_star_4 2 rfl rfl)
theorem dX2_star_96 : decode cX2_star 96 = .ok (.ior, 1) := dk_128 (dk_at dksX2_star_4 3 rfl rfl)
theorem dX2_star_97 : decode cX2_star 97 = .ok (.istore_n 2, 1) := dk_61 (dk_at dksX2_star_4 4 rfl rfl)
theorem dX2_star_98 : decode cX2_star 98 = .ok (.aload_n 0, 1) := dk_42 (dk_at dksX2_star_4 5 rfl rfl)
theorem dX2_star_99 : decode cX2_star 99 = .ok (.bipush 15, 2) := dk_16 15 (dk_at dksX2_star_4 6 rfl rfl)
theorem dX2_star_101 : decode cX2_star 101 = .ok (.aload_n 0, 1) := dk_42 (dk_at dksX2_star_4 8 rfl rfl)
theorem dX2_star_102 : decode cX2_star 102 = .ok (.getfield 9, 3) := dk_180 0 9 (dk_at dksX2_star_4 9 rfl rfl)
theorem dX2_star_105 : decode cX2_star 105 = .ok (.iload 4, 2) := dk_21 4 (dk_at dksX2_star_4 12 rfl rfl)
theorem dX2_star_107 : decode cX2_star 107 = .ok (.iaload, 1) := dk_46 (dk_at dksX2_star_4 14 rfl rfl)
theorem dX2_star_108 : decode cX2_star 108 = .ok (.isub, 1) := dk_100 (dk_at dksX2_star_4 15 rfl rfl)
theorem dX2_star_109 : decode cX2_star 109 = .ok (.aload_n 0, 1) := dk_42 (dk_at dksX2_star_4 16 rfl rfl)
theorem dX2_star_110 : decode cX2_star 110 = .ok (.getfield 15, 3) := dk_180 0 15 (dk_at dksX2_star_4 17 rfl rfl)
theorem dX2_star_113 : decode cX2_star 113 = .ok (.iload 4, 2) := dk_21 4 (dk_at dksX2_star_4 20 rfl rfl)
theorem dX2_star_115 : decode cX2_star 115 = .ok (.iaload, 1) := dk_46 (dk_at dksX2_star_4 22 rfl rfl)
theorem dX2_star_116 : decode cX2_star 116 = .ok (.bipush (-2), 2) := dk_16 254 (dk_at dksX2_star_5 0 rfl rfl)
theorem dX2_star_118 : decode cX2_star 118 = .ok (.invokevirtual 342, 3) := dk_182 1 86 (dk_at dksX2_star_5 2 rfl rfl)
theorem dX2_star_121 : decode cX2_star 121 = .ok (.ifCond .ne 5, 3) := dk_154 0 5 (dk_at dksX2_star_5 5 rfl rfl)
theorem dX2_star_124 : decode cX2_star 124 = .ok (.iconst 0, 1) := dk_3 (dk_at dksX2_star_5 8 rfl rfl)
theorem dX2_star_125 : decode cX2_star 125 = .ok (.istore_n 3, 1) := dk_62 (dk_at dksX2_star_5 9 rfl rfl)
theorem dX2_star_126 : decode cX2_star 126 = .ok (.iinc 4 1, 3) := dk_132 4 1 (dk_at dksX2_star_5 10 rfl rfl)
theorem dX2_star_129 : decode cX2_star 129 = .ok (.goto (-70), 3) := dk_167 255 186 (dk_at dksX2_star_5 13 rfl rfl)
theorem dX2_star_132 : decode cX2_star 132 = .ok (.iload_n 1, 1) := dk_27 (dk_at dksX2_star_5 16 rfl rfl)
theorem dX2_star_133 : decode cX2_star 133 = .ok (.iconst 1, 1) := dk_4 (dk_at dksX2_star_5 17 rfl rfl)
theorem dX2_star_134 : decode cX2_star 134 = .ok (.if_icmp .ne 7, 3) := dk_160 0 7 (dk_at dksX2_star_5 18 rfl rfl)
theorem dX2_star_137 : decode cX2_star 137 = .ok (.iload_n 2, 1) := dk_28 (dk_at dksX2_star_5 21 rfl rfl)
theorem dX2_star_138 : decode cX2_star 138 = .ok (.goto 12, 3) := dk_167 0 12 (dk_at dksX2_star_6 0 rfl rfl)
theorem dX2_star_141 : decode cX2_star 141 = .ok (.iload_n 3, 1) := dk_29 (dk_at dksX2_star_6 3 rfl rfl)
theorem dX2_star_142 : decode cX2_star 142 = .ok (.ifCond .eq 7, 3) := dk_153 0 7 (dk_at dksX2_star_6 4 rfl rfl)
theorem dX2_star_145 : decode cX2_star 145 = .ok (.iconst 1, 1) := dk_4 (dk_at dksX2_star_6 7 rfl rfl)
theorem dX2_star_146 : decode cX2_star 146 = .ok (.goto 4, 3) := dk_167 0 4 (dk_at dksX2_star_6 8 rfl rfl)
theorem dX2_star_149 : decode cX2_star 149 = .ok (.iconst 0, 1) := dk_3 (dk_at dksX2_star_6 11 rfl rfl)
theorem dX2_star_150 : decode cX2_star 150 = .ok (.ireturn, 1) := dk_172 (dk_at dksX2_star_6 12 rfl rfl)
abbrev cX2_span : ByteArray := prog_31_method_67_code
def yX2_span : MethodName := ⟨RX2, "span", "([II)I"⟩
def dkwX2_span_2 : List UInt8 := [172]
abbrev dktX2_span_2 : List UInt8 := dkwX2_span_2 ++ []
def dkwX2_span_1 : List UInt8 := [184, 0, 232, 61, 29, 42, 21, 4, 46, 184, 0, 243, 62, 132, 4, 1, 167, 255, 229, 29, 28, 100, 4, 96]
abbrev dktX2_span_1 : List UInt8 := dkwX2_span_1 ++ dktX2_span_2
def dkwX2_span_0 : List UInt8 := [42, 3, 46, 61, 42, 3, 46, 62, 4, 54, 4, 21, 4, 27, 162, 0, 27, 28, 42, 21, 4, 46]
abbrev dktX2_span_0 : List UInt8 := dkwX2_span_0 ++ dktX2_span_1
theorem dksX2_span_0 : cX2_span.data.toList.drop 0 = dktX2_span_0 := by decide +kernel
theorem dksX2_span_1 : cX2_span.data.toList.drop 22 = dktX2_span_1 := dk_seg dksX2_span_0 22 rfl rfl
theorem dksX2_span_2 : cX2_span.data.toList.drop 46 = dktX2_span_2 := dk_seg dksX2_span_1 24 rfl rfl
theorem dX2_span_0 : decode cX2_span 0 = .ok (.aload_n 0, 1) := dk_42 (dk_at dksX2_span_0 0 rfl rfl)
theorem dX2_span_1 : decode cX2_span 1 = .ok (.iconst 0, 1) := dk_3 (dk_at dksX2_span_0 1 rfl rfl)
theorem dX2_span_2 : decode cX2_span 2 = .ok (.iaload, 1) := dk_46 (dk_at dksX2_span_0 2 rfl rfl)
theorem dX2_span_3 : decode cX2_span 3 = .ok (.istore_n 2, 1) := dk_61 (dk_at dksX2_span_0 3 rfl rfl)
theorem dX2_span_4 : decode cX2_span 4 = .ok (.aload_n 0, 1) := dk_42 (dk_at dksX2_span_0 4 rfl rfl)
theorem dX2_span_5 : decode cX2_span 5 = .ok (.iconst 0, 1) := dk_3 (dk_at dksX2_span_0 5 rfl rfl)
theorem dX2_span_6 : decode cX2_span 6 = .ok (.iaload, 1) := dk_46 (dk_at dksX2_span_0 6 rfl rfl)
theorem dX2_span_7 : decode cX2_span 7 = .ok (.istore_n 3, 1) := dk_62 (dk_at dksX2_span_0 7 rfl rfl)
theorem dX2_span_8 : decode cX2_span 8 = .ok (.iconst 1, 1) := dk_4 (dk_at dksX2_span_0 8 rfl rfl)
theorem dX2_span_9 : decode cX2_span 9 = .ok (.istore 4, 2) := dk_54 4 (dk_at dksX2_span_0 9 rfl rfl)
theorem dX2_span_11 : decode cX2_span 11 = .ok (.iload 4, 2) := dk_21 4 (dk_at dksX2_span_0 11 rfl rfl)
theorem dX2_span_13 : decode cX2_span 13 = .ok (.iload_n 1, 1) := dk_27 (dk_at dksX2_span_0 13 rfl rfl)
theorem dX2_span_14 : decode cX2_span 14 = .ok (.if_icmp .ge 27, 3) := dk_162 0 27 (dk_at dksX2_span_0 14 rfl rfl)
theorem dX2_span_17 : decode cX2_span 17 = .ok (.iload_n 2, 1) := dk_28 (dk_at dksX2_span_0 17 rfl rfl)
theorem dX2_span_18 : decode cX2_span 18 = .ok (.aload_n 0, 1) := dk_42 (dk_at dksX2_span_0 18 rfl rfl)
theorem dX2_span_19 : decode cX2_span 19 = .ok (.iload 4, 2) := dk_21 4 (dk_at dksX2_span_0 19 rfl rfl)
theorem dX2_span_21 : decode cX2_span 21 = .ok (.iaload, 1) := dk_46 (dk_at dksX2_span_0 21 rfl rfl)
theorem dX2_span_22 : decode cX2_span 22 = .ok (.invokestatic 232, 3) := dk_184 0 232 (dk_at dksX2_span_1 0 rfl rfl)
theorem dX2_span_25 : decode cX2_span 25 = .ok (.istore_n 2, 1) := dk_61 (dk_at dksX2_span_1 3 rfl rfl)
theorem dX2_span_26 : decode cX2_span 26 = .ok (.iload_n 3, 1) := dk_29 (dk_at dksX2_span_1 4 rfl rfl)
theorem dX2_span_27 : decode cX2_span 27 = .ok (.aload_n 0, 1) := dk_42 (dk_at dksX2_span_1 5 rfl rfl)
theorem dX2_span_28 : decode cX2_span 28 = .ok (.iload 4, 2) := dk_21 4 (dk_at dksX2_span_1 6 rfl rfl)
theorem dX2_span_30 : decode cX2_span 30 = .ok (.iaload, 1) := dk_46 (dk_at dksX2_span_1 8 rfl rfl)
theorem dX2_span_31 : decode cX2_span 31 = .ok (.invokestatic 243, 3) := dk_184 0 243 (dk_at dksX2_span_1 9 rfl rfl)
theorem dX2_span_34 : decode cX2_span 34 = .ok (.istore_n 3, 1) := dk_62 (dk_at dksX2_span_1 12 rfl rfl)
theorem dX2_span_35 : decode cX2_span 35 = .ok (.iinc 4 1, 3) := dk_132 4 1 (dk_at dksX2_span_1 13 rfl rfl)
theorem dX2_span_38 : decode cX2_span 38 = .ok (.goto (-27), 3) := dk_167 255 229 (dk_at dksX2_span_1 16 rfl rfl)
theorem dX2_span_41 : decode cX2_span 41 = .ok (.iload_n 3, 1) := dk_29 (dk_at dksX2_span_1 19 rfl rfl)
theorem dX2_span_42 : decode cX2_span 42 = .ok (.iload_n 2, 1) := dk_28 (dk_at dksX2_span_1 20 rfl rfl)
theorem dX2_span_43 : decode cX2_span 43 = .ok (.isub, 1) := dk_100 (dk_at dksX2_span_1 21 rfl rfl)
theorem dX2_span_44 : decode cX2_span 44 = .ok (.iconst 1, 1) := dk_4 (dk_at dksX2_span_1 22 rfl rfl)
theorem dX2_span_45 : decode cX2_span 45 = .ok (.iadd, 1) := dk_96 (dk_at dksX2_span_1 23 rfl rfl)
theorem dX2_span_46 : decode cX2_span 46 = .ok (.ireturn, 1) := dk_172 (dk_at dksX2_span_2 0 rfl rfl)
abbrev cX2_isAt : ByteArray := prog_31_method_68_code
def yX2_isAt : MethodName := ⟨RX2, "isAt", "(III)Z"⟩
def dkwX2_isAt_2 : List UInt8 := [3, 172]
abbrev dktX2_isAt_2 : List UInt8 := dkwX2_isAt_2 ++ []
def dkwX2_isAt_1 : List UInt8 := [46, 27, 160, 0, 16, 42, 180, 0, 15, 21, 4, 46, 28, 160, 0, 5, 4, 172, 132, 4, 1, 167, 255, 214]
abbrev dktX2_isAt_1 : List UInt8 := dkwX2_isAt_1 ++ dktX2_isAt_2
def dkwX2_isAt_0 : List UInt8 := [3, 54, 4, 21, 4, 42, 180, 0, 125, 162, 0, 39, 21, 4, 29, 159, 0, 27, 42, 180, 0, 9, 21, 4]
abbrev dktX2_isAt_0 : List UInt8 := dkwX2_isAt_0 ++ dktX2_isAt_1
theorem dksX2_isAt_0 : cX2_isAt.data.toList.drop 0 = dktX2_isAt_0 := by decide +kernel
theorem dksX2_isAt_1 : cX2_isAt.data.toList.drop 24 = dktX2_isAt_1 := dk_seg dksX2_isAt_0 24 rfl rfl
theorem dksX2_isAt_2 : cX2_isAt.data.toList.drop 48 = dktX2_isAt_2 := dk_seg dksX2_isAt_1 24 rfl rfl
theorem dX2_isAt_0 : decode cX2_isAt 0 = .ok (.iconst 0, 1) := dk_3 (dk_at dksX2_isAt_0 0 rfl rfl)
theorem dX2_isAt_1 : decode cX2_isAt 1 = .ok (.istore 4, 2) := dk_54 4 (dk_at dksX2_isAt_0 1 rfl rfl)
theorem dX2_isAt_3 : decode cX2_isAt 3 = .ok (.iload 4, 2) := dk_21 4 (dk_at dksX2_isAt_0 3 rfl rfl)
theorem dX2_isAt_5 : decode cX2_isAt 5 = .ok (.aload_n 0, 1) := dk_42 (dk_at dksX2_isAt_0 5 rfl rfl)
theorem dX2_isAt_6 : decode cX2_isAt 6 = .ok (.getfield 125, 3) := dk_180 0 125 (dk_at dksX2_isAt_0 6 rfl rfl)
theorem dX2_isAt_9 : decode cX2_isAt 9 = .ok (.if_icmp .ge 39, 3) := dk_162 0 39 (dk_at dksX2_isAt_0 9 rfl rfl)
theorem dX2_isAt_12 : decode cX2_isAt 12 = .ok (.iload 4, 2) := dk_21 4 (dk_at dksX2_isAt_0 12 rfl rfl)
theorem dX2_isAt_14 : decode cX2_isAt 14 = .ok (.iload_n 3, 1) := dk_29 (dk_at dksX2_isAt_0 14 rfl rfl)
theorem dX2_isAt_15 : decode cX2_isAt 15 = .ok (.if_icmp .eq 27, 3) := dk_159 0 27 (dk_at dksX2_isAt_0 15 rfl rfl)
theorem dX2_isAt_18 : decode cX2_isAt 18 = .ok (.aload_n 0, 1) := dk_42 (dk_at dksX2_isAt_0 18 rfl rfl)
theorem dX2_isAt_19 : decode cX2_isAt 19 = .ok (.getfield 9, 3) := dk_180 0 9 (dk_at dksX2_isAt_0 19 rfl rfl)
theorem dX2_isAt_22 : decode cX2_isAt 22 = .ok (.iload 4, 2) := dk_21 4 (dk_at dksX2_isAt_0 22 rfl rfl)
theorem dX2_isAt_24 : decode cX2_isAt 24 = .ok (.iaload, 1) := dk_46 (dk_at dksX2_isAt_1 0 rfl rfl)
theorem dX2_isAt_25 : decode cX2_isAt 25 = .ok (.iload_n 1, 1) := dk_27 (dk_at dksX2_isAt_1 1 rfl rfl)
theorem dX2_isAt_26 : decode cX2_isAt 26 = .ok (.if_icmp .ne 16, 3) := dk_160 0 16 (dk_at dksX2_isAt_1 2 rfl rfl)
theorem dX2_isAt_29 : decode cX2_isAt 29 = .ok (.aload_n 0, 1) := dk_42 (dk_at dksX2_isAt_1 5 rfl rfl)
theorem dX2_isAt_30 : decode cX2_isAt 30 = .ok (.getfield 15, 3) := dk_180 0 15 (dk_at dksX2_isAt_1 6 rfl rfl)
theorem dX2_isAt_33 : decode cX2_isAt 33 = .ok (.iload 4, 2) := dk_21 4 (dk_at dksX2_isAt_1 9 rfl rfl)
theorem dX2_isAt_35 : decode cX2_isAt 35 = .ok (.iaload, 1) := dk_46 (dk_at dksX2_isAt_1 11 rfl rfl)
theorem dX2_isAt_36 : decode cX2_isAt 36 = .ok (.iload_n 2, 1) := dk_28 (dk_at dksX2_isAt_1 12 rfl rfl)
theorem dX2_isAt_37 : decode cX2_isAt 37 = .ok (.if_icmp .ne 5, 3) := dk_160 0 5 (dk_at dksX2_isAt_1 13 rfl rfl)
theorem dX2_isAt_40 : decode cX2_isAt 40 = .ok (.iconst 1, 1) := dk_4 (dk_at dksX2_isAt_1 16 rfl rfl)
theorem dX2_isAt_41 : decode cX2_isAt 41 = .ok (.ireturn, 1) := dk_172 (dk_at dksX2_isAt_1 17 rfl rfl)
theorem dX2_isAt_42 : decode cX2_isAt 42 = .ok (.iinc 4 1, 3) := dk_132 4 1 (dk_at dksX2_isAt_1 18 rfl rfl)
theorem dX2_isAt_45 : decode cX2_isAt 45 = .ok (.goto (-42), 3) := dk_167 255 214 (dk_at dksX2_isAt_1 21 rfl rfl)
theorem dX2_isAt_48 : decode cX2_isAt 48 = .ok (.iconst 0, 1) := dk_3 (dk_at dksX2_isAt_2 0 rfl rfl)
theorem dX2_isAt_49 : decode cX2_isAt 49 = .ok (.ireturn, 1) := dk_172 (dk_at dksX2_isAt_2 1 rfl rfl)
abbrev cX2_judge : ByteArray := prog_31_method_73_code
def yX2_judge : MethodName := ⟨RX2, "judge", "(I)I"⟩
def dkwX2_judge_1 : List UInt8 := [16, 10, 108, 182, 1, 35, 42, 27, 182, 1, 95, 172]
abbrev dktX2_judge_1 : List UInt8 := dkwX2_judge_1 ++ []
def dkwX2_judge_0 : List UInt8 := [27, 184, 1, 89, 154, 0, 5, 2, 172, 42, 27, 182, 1, 92, 61, 28, 156, 0, 5, 28, 172, 42, 27]
abbrev dktX2_judge_0 : List UInt8 := dkwX2_judge_0 ++ dktX2_judge_1
theorem dksX2_judge_0 : cX2_judge.data.toList.drop 0 = dktX2_judge_0 := by decide +kernel
theorem dksX2_judge_1 : cX2_judge.data.toList.drop 23 = dktX2_judge_1 := dk_seg dksX2_judge_0 23 rfl rfl
theorem dX2_judge_0 : decode cX2_judge 0 = .ok (.iload_n 1, 1) := dk_27 (dk_at dksX2_judge_0 0 rfl rfl)
theorem dX2_judge_1 : decode cX2_judge 1 = .ok (.invokestatic 345, 3) := dk_184 1 89 (dk_at dksX2_judge_0 1 rfl rfl)
theorem dX2_judge_4 : decode cX2_judge 4 = .ok (.ifCond .ne 5, 3) := dk_154 0 5 (dk_at dksX2_judge_0 4 rfl rfl)
theorem dX2_judge_7 : decode cX2_judge 7 = .ok (.iconst (-1), 1) := dk_2 (dk_at dksX2_judge_0 7 rfl rfl)
theorem dX2_judge_8 : decode cX2_judge 8 = .ok (.ireturn, 1) := dk_172 (dk_at dksX2_judge_0 8 rfl rfl)
theorem dX2_judge_9 : decode cX2_judge 9 = .ok (.aload_n 0, 1) := dk_42 (dk_at dksX2_judge_0 9 rfl rfl)
theorem dX2_judge_10 : decode cX2_judge 10 = .ok (.iload_n 1, 1) := dk_27 (dk_at dksX2_judge_0 10 rfl rfl)
theorem dX2_judge_11 : decode cX2_judge 11 = .ok (.invokevirtual 348, 3) := dk_182 1 92 (dk_at dksX2_judge_0 11 rfl rfl)
theorem dX2_judge_14 : decode cX2_judge 14 = .ok (.istore_n 2, 1) := dk_61 (dk_at dksX2_judge_0 14 rfl rfl)
theorem dX2_judge_15 : decode cX2_judge 15 = .ok (.iload_n 2, 1) := dk_28 (dk_at dksX2_judge_0 15 rfl rfl)
theorem dX2_judge_16 : decode cX2_judge 16 = .ok (.ifCond .ge 5, 3) := dk_156 0 5 (dk_at dksX2_judge_0 16 rfl rfl)
theorem dX2_judge_19 : decode cX2_judge 19 = .ok (.iload_n 2, 1) := dk_28 (dk_at dksX2_judge_0 19 rfl rfl)
theorem dX2_judge_20 : decode cX2_judge 20 = .ok (.ireturn, 1) := dk_172 (dk_at dksX2_judge_0 20 rfl rfl)
theorem dX2_judge_21 : decode cX2_judge 21 = .ok (.aload_n 0, 1) := dk_42 (dk_at dksX2_judge_0 21 rfl rfl)
theorem dX2_judge_22 : decode cX2_judge 22 = .ok (.iload_n 1, 1) := dk_27 (dk_at dksX2_judge_0 22 rfl rfl)
theorem dX2_judge_23 : decode cX2_judge 23 = .ok (.bipush 10, 2) := dk_16 10 (dk_at dksX2_judge_1 0 rfl rfl)
theorem dX2_judge_25 : decode cX2_judge 25 = .ok (.idiv, 1) := dk_108 (dk_at dksX2_judge_1 2 rfl rfl)
theorem dX2_judge_26 : decode cX2_judge 26 = .ok (.invokevirtual 291, 3) := dk_182 1 35 (dk_at dksX2_judge_1 3 rfl rfl)
theorem dX2_judge_29 : decode cX2_judge 29 = .ok (.aload_n 0, 1) := dk_42 (dk_at dksX2_judge_1 6 rfl rfl)
theorem dX2_judge_30 : decode cX2_judge 30 = .ok (.iload_n 1, 1) := dk_27 (dk_at dksX2_judge_1 7 rfl rfl)
theorem dX2_judge_31 : decode cX2_judge 31 = .ok (.invokevirtual 351, 3) := dk_182 1 95 (dk_at dksX2_judge_1 8 rfl rfl)
theorem dX2_judge_34 : decode cX2_judge 34 = .ok (.ireturn, 1) := dk_172 (dk_at dksX2_judge_1 11 rfl rfl)
abbrev cX2_areShelves : ByteArray := prog_31_method_70_code
def yX2_areShelves : MethodName := ⟨RX2, "areShelves", "(I)Z"⟩
def dkwX2_areShelves_1 : List UInt8 := [4, 167, 0, 4, 3, 172]
abbrev dktX2_areShelves_1 : List UInt8 := dkwX2_areShelves_1 ++ []
def dkwX2_areShelves_0 : List UInt8 := [26, 155, 0, 27, 26, 16, 10, 108, 184, 0, 140, 153, 0, 17, 26, 16, 10, 112, 184, 0, 140, 153, 0, 7]
abbrev dktX2_areShelves_0 : List UInt8 := dkwX2_areShelves_0 ++ dktX2_areShelves_1
theorem dksX2_areShelves_0 : cX2_areShelves.data.toList.drop 0 = dktX2_areShelves_0 := by decide +kernel
theorem dksX2_areShelves_1 : cX2_areShelves.data.toList.drop 24 = dktX2_areShelves_1 := dk_seg dksX2_areShelves_0 24 rfl rfl
theorem dX2_areShelves_0 : decode cX2_areShelves 0 = .ok (.iload_n 0, 1) := dk_26 (dk_at dksX2_areShelves_0 0 rfl rfl)
theorem dX2_areShelves_1 : decode cX2_areShelves 1 = .ok (.ifCond .lt 27, 3) := dk_155 0 27 (dk_at dksX2_areShelves_0 1 rfl rfl)
theorem dX2_areShelves_4 : decode cX2_areShelves 4 = .ok (.iload_n 0, 1) := dk_26 (dk_at dksX2_areShelves_0 4 rfl rfl)
theorem dX2_areShelves_5 : decode cX2_areShelves 5 = .ok (.bipush 10, 2) := dk_16 10 (dk_at dksX2_areShelves_0 5 rfl rfl)
theorem dX2_areShelves_7 : decode cX2_areShelves 7 = .ok (.idiv, 1) := dk_108 (dk_at dksX2_areShelves_0 7 rfl rfl)
theorem dX2_areShelves_8 : decode cX2_areShelves 8 = .ok (.invokestatic 140, 3) := dk_184 0 140 (dk_at dksX2_areShelves_0 8 rfl rfl)
theorem dX2_areShelves_11 : decode cX2_areShelves 11 = .ok (.ifCond .eq 17, 3) := dk_153 0 17 (dk_at dksX2_areShelves_0 11 rfl rfl)
theorem dX2_areShelves_14 : decode cX2_areShelves 14 = .ok (.iload_n 0, 1) := dk_26 (dk_at dksX2_areShelves_0 14 rfl rfl)
theorem dX2_areShelves_15 : decode cX2_areShelves 15 = .ok (.bipush 10, 2) := dk_16 10 (dk_at dksX2_areShelves_0 15 rfl rfl)
theorem dX2_areShelves_17 : decode cX2_areShelves 17 = .ok (.irem, 1) := dk_112 (dk_at dksX2_areShelves_0 17 rfl rfl)
theorem dX2_areShelves_18 : decode cX2_areShelves 18 = .ok (.invokestatic 140, 3) := dk_184 0 140 (dk_at dksX2_areShelves_0 18 rfl rfl)
theorem dX2_areShelves_21 : decode cX2_areShelves 21 = .ok (.ifCond .eq 7, 3) := dk_153 0 7 (dk_at dksX2_areShelves_0 21 rfl rfl)
theorem dX2_areShelves_24 : decode cX2_areShelves 24 = .ok (.iconst 1, 1) := dk_4 (dk_at dksX2_areShelves_1 0 rfl rfl)
theorem dX2_areShelves_25 : decode cX2_areShelves 25 = .ok (.goto 4, 3) := dk_167 0 4 (dk_at dksX2_areShelves_1 1 rfl rfl)
theorem dX2_areShelves_28 : decode cX2_areShelves 28 = .ok (.iconst 0, 1) := dk_3 (dk_at dksX2_areShelves_1 4 rfl rfl)
theorem dX2_areShelves_29 : decode cX2_areShelves 29 = .ok (.ireturn, 1) := dk_172 (dk_at dksX2_areShelves_1 5 rfl rfl)
abbrev cX2_noRipples : ByteArray := prog_31_method_71_code
def yX2_noRipples : MethodName := ⟨RX2, "noRipples", "(I)I"⟩
def dkwX2_noRipples_2 : List UInt8 := [16, 10, 112, 46, 4, 159, 0, 8, 16, 244, 167, 0, 4, 3, 172]
abbrev dktX2_noRipples_2 : List UInt8 := dkwX2_noRipples_2 ++ []
def dkwX2_noRipples_1 : List UInt8 := [160, 0, 6, 16, 245, 172, 42, 180, 0, 93, 27, 16, 10, 108, 46, 154, 0, 16, 42, 180, 0, 93, 27]
abbrev dktX2_noRipples_1 : List UInt8 := dkwX2_noRipples_1 ++ dktX2_noRipples_2
def dkwX2_noRipples_0 : List UInt8 := [42, 180, 0, 93, 27, 16, 10, 108, 46, 2, 159, 0, 16, 42, 180, 0, 93, 27, 16, 10, 112, 46, 2]
abbrev dktX2_noRipples_0 : List UInt8 := dkwX2_noRipples_0 ++ dktX2_noRipples_1
theorem dksX2_noRipples_0 : cX2_noRipples.data.toList.drop 0 = dktX2_noRipples_0 := by decide +kernel
theorem dksX2_noRipples_1 : cX2_noRipples.data.toList.drop 23 = dktX2_noRipples_1 := dk_seg dksX2_noRipples_0 23 rfl rfl
theorem dksX2_noRipples_2 : cX2_noRipples.data.toList.drop 46 = dktX2_noRipples_2 := dk_seg dksX2_noRipples_1 23 rfl rfl
theorem dX2_noRipples_0 : decode cX2_noRipples 0 = .ok (.aload_n 0, 1) := dk_42 (dk_at dksX2_noRipples_0 0 rfl rfl)
theorem dX2_noRipples_1 : decode cX2_noRipples 1 = .ok (.getfield 93, 3) := dk_180 0 93 (dk_at dksX2_noRipples_0 1 rfl rfl)
theorem dX2_noRipples_4 : decode cX2_noRipples 4 = .ok (.iload_n 1, 1) := dk_27 (dk_at dksX2_noRipples_0 4 rfl rfl)
theorem dX2_noRipples_5 : decode cX2_noRipples 5 = .ok (.bipush 10, 2) := dk_16 10 (dk_at dksX2_noRipples_0 5 rfl rfl)
theorem dX2_noRipples_7 : decode cX2_noRipples 7 = .ok (.idiv, 1) := dk_108 (dk_at dksX2_noRipples_0 7 rfl rfl)
theorem dX2_noRipples_8 : decode cX2_noRipples 8 = .ok (.iaload, 1) := dk_46 (dk_at dksX2_noRipples_0 8 rfl rfl)
theorem dX2_noRipples_9 : decode cX2_noRipples 9 = .ok (.iconst (-1), 1) := dk_2 (dk_at dksX2_noRipples_0 9 rfl rfl)
theorem dX2_noRipples_10 : decode cX2_noRipples 10 = .ok (.if_icmp .eq 16, 3) := dk_159 0 16 (dk_at dksX2_noRipples_0 10 rfl rfl)
theorem dX2_noRipples_13 : decode cX2_noRipples 13 = .ok (.aload_n 0, 1) := dk_42 (dk_at dksX2_noRipples_0 13 rfl rfl)
theorem dX2_noRipples_14 : decode cX2_noRipples 14 = .ok (.getfield 93, 3) := dk_180 0 93 (dk_at dksX2_noRipples_0 14 rfl rfl)
theorem dX2_noRipples_17 : decode cX2_noRipples 17 = .ok (.iload_n 1, 1) := dk_27 (dk_at dksX2_noRipples_0 17 rfl rfl)
theorem dX2_noRipples_18 : decode cX2_noRipples 18 = .ok (.bipush 10, 2) := dk_16 10 (dk_at dksX2_noRipples_0 18 rfl rfl)
theorem dX2_noRipples_20 : decode cX2_noRipples 20 = .ok (.irem, 1) := dk_112 (dk_at dksX2_noRipples_0 20 rfl rfl)
theorem dX2_noRipples_21 : decode cX2_noRipples 21 = .ok (.iaload, 1) := dk_46 (dk_at dksX2_noRipples_0 21 rfl rfl)
theorem dX2_noRipples_22 : decode cX2_noRipples 22 = .ok (.iconst (-1), 1) := dk_2 (dk_at dksX2_noRipples_0 22 rfl rfl)
theorem dX2_noRipples_23 : decode cX2_noRipples 23 = .ok (.if_icmp .ne 6, 3) := dk_160 0 6 (dk_at dksX2_noRipples_1 0 rfl rfl)
theorem dX2_noRipples_26 : decode cX2_noRipples 26 = .ok (.bipush (-11), 2) := dk_16 245 (dk_at dksX2_noRipples_1 3 rfl rfl)
theorem dX2_noRipples_28 : decode cX2_noRipples 28 = .ok (.ireturn, 1) := dk_172 (dk_at dksX2_noRipples_1 5 rfl rfl)
theorem dX2_noRipples_29 : decode cX2_noRipples 29 = .ok (.aload_n 0, 1) := dk_42 (dk_at dksX2_noRipples_1 6 rfl rfl)
theorem dX2_noRipples_30 : decode cX2_noRipples 30 = .ok (.getfield 93, 3) := dk_180 0 93 (dk_at dksX2_noRipples_1 7 rfl rfl)
theorem dX2_noRipples_33 : decode cX2_noRipples 33 = .ok (.iload_n 1, 1) := dk_27 (dk_at dksX2_noRipples_1 10 rfl rfl)
theorem dX2_noRipples_34 : decode cX2_noRipples 34 = .ok (.bipush 10, 2) := dk_16 10 (dk_at dksX2_noRipples_1 11 rfl rfl)
theorem dX2_noRipples_36 : decode cX2_noRipples 36 = .ok (.idiv, 1) := dk_108 (dk_at dksX2_noRipples_1 13 rfl rfl)
theorem dX2_noRipples_37 : decode cX2_noRipples 37 = .ok (.iaload, 1) := dk_46 (dk_at dksX2_noRipples_1 14 rfl rfl)
theorem dX2_noRipples_38 : decode cX2_noRipples 38 = .ok (.ifCond .ne 16, 3) := dk_154 0 16 (dk_at dksX2_noRipples_1 15 rfl rfl)
theorem dX2_noRipples_41 : decode cX2_noRipples 41 = .ok (.aload_n 0, 1) := dk_42 (dk_at dksX2_noRipples_1 18 rfl rfl)
theorem dX2_noRipples_42 : decode cX2_noRipples 42 = .ok (.getfield 93, 3) := dk_180 0 93 (dk_at dksX2_noRipples_1 19 rfl rfl)
theorem dX2_noRipples_45 : decode cX2_noRipples 45 = .ok (.iload_n 1, 1) := dk_27 (dk_at dksX2_noRipples_1 22 rfl rfl)
theorem dX2_noRipples_46 : decode cX2_noRipples 46 = .ok (.bipush 10, 2) := dk_16 10 (dk_at dksX2_noRipples_2 0 rfl rfl)
theorem dX2_noRipples_48 : decode cX2_noRipples 48 = .ok (.irem, 1) := dk_112 (dk_at dksX2_noRipples_2 2 rfl rfl)
theorem dX2_noRipples_49 : decode cX2_noRipples 49 = .ok (.iaload, 1) := dk_46 (dk_at dksX2_noRipples_2 3 rfl rfl)
theorem dX2_noRipples_50 : decode cX2_noRipples 50 = .ok (.iconst 1, 1) := dk_4 (dk_at dksX2_noRipples_2 4 rfl rfl)
theorem dX2_noRipples_51 : decode cX2_noRipples 51 = .ok (.if_icmp .eq 8, 3) := dk_159 0 8 (dk_at dksX2_noRipples_2 5 rfl rfl)
theorem dX2_noRipples_54 : decode cX2_noRipples 54 = .ok (.bipush (-12), 2) := dk_16 244 (dk_at dksX2_noRipples_2 8 rfl rfl)
theorem dX2_noRipples_56 : decode cX2_noRipples 56 = .ok (.goto 4, 3) := dk_167 0 4 (dk_at dksX2_noRipples_2 10 rfl rfl)
theorem dX2_noRipples_59 : decode cX2_noRipples 59 = .ok (.iconst 0, 1) := dk_3 (dk_at dksX2_noRipples_2 13 rfl rfl)
theorem dX2_noRipples_60 : decode cX2_noRipples 60 = .ok (.ireturn, 1) := dk_172 (dk_at dksX2_noRipples_2 14 rfl rfl)
abbrev cX2_wrong : ByteArray := prog_31_method_72_code
def yX2_wrong : MethodName := ⟨RX2, "wrong", "(I)I"⟩
def dkwX2_wrong_2 : List UInt8 := [182, 1, 29, 133, 148, 153, 0, 5, 28, 172, 132, 2, 1, 167, 255, 204, 16, 254, 172]
abbrev dktX2_wrong_2 : List UInt8 := dkwX2_wrong_2 ++ []
def dkwX2_wrong_1 : List UInt8 := [46, 162, 0, 37, 42, 180, 0, 99, 16, 60, 27, 16, 10, 112, 104, 28, 96, 47, 42, 28, 4, 96]
abbrev dktX2_wrong_1 : List UInt8 := dkwX2_wrong_1 ++ dktX2_wrong_2
def dkwX2_wrong_0 : List UInt8 := [42, 3, 182, 1, 22, 3, 61, 28, 42, 180, 0, 253, 162, 0, 50, 28, 42, 180, 0, 96, 27, 16, 10, 112]
abbrev dktX2_wrong_0 : List UInt8 := dkwX2_wrong_0 ++ dktX2_wrong_1
theorem dksX2_wrong_0 : cX2_wrong.data.toList.drop 0 = dktX2_wrong_0 := by decide +kernel
theorem dksX2_wrong_1 : cX2_wrong.data.toList.drop 24 = dktX2_wrong_1 := dk_seg dksX2_wrong_0 24 rfl rfl
theorem dksX2_wrong_2 : cX2_wrong.data.toList.drop 46 = dktX2_wrong_2 := dk_seg dksX2_wrong_1 22 rfl rfl
theorem dX2_wrong_0 : decode cX2_wrong 0 = .ok (.aload_n 0, 1) := dk_42 (dk_at dksX2_wrong_0 0 rfl rfl)
theorem dX2_wrong_1 : decode cX2_wrong 1 = .ok (.iconst 0, 1) := dk_3 (dk_at dksX2_wrong_0 1 rfl rfl)
theorem dX2_wrong_2 : decode cX2_wrong 2 = .ok (.invokevirtual 278, 3) := dk_182 1 22 (dk_at dksX2_wrong_0 2 rfl rfl)
theorem dX2_wrong_5 : decode cX2_wrong 5 = .ok (.iconst 0, 1) := dk_3 (dk_at dksX2_wrong_0 5 rfl rfl)
theorem dX2_wrong_6 : decode cX2_wrong 6 = .ok (.istore_n 2, 1) := dk_61 (dk_at dksX2_wrong_0 6 rfl rfl)
theorem dX2_wrong_7 : decode cX2_wrong 7 = .ok (.iload_n 2, 1) := dk_28 (dk_at dksX2_wrong_0 7 rfl rfl)
theorem dX2_wrong_8 : decode cX2_wrong 8 = .ok (.aload_n 0, 1) := dk_42 (dk_at dksX2_wrong_0 8 rfl rfl)
theorem dX2_wrong_9 : decode cX2_wrong 9 = .ok (.getfield 253, 3) := dk_180 0 253 (dk_at dksX2_wrong_0 9 rfl rfl)
theorem dX2_wrong_12 : decode cX2_wrong 12 = .ok (.if_icmp .ge 50, 3) := dk_162 0 50 (dk_at dksX2_wrong_0 12 rfl rfl)
theorem dX2_wrong_15 : decode cX2_wrong 15 = .ok (.iload_n 2, 1) := dk_28 (dk_at dksX2_wrong_0 15 rfl rfl)
theorem dX2_wrong_16 : decode cX2_wrong 16 = .ok (.aload_n 0, 1) := dk_42 (dk_at dksX2_wrong_0 16 rfl rfl)
theorem dX2_wrong_17 : decode cX2_wrong 17 = .ok (.getfield 96, 3) := dk_180 0 96 (dk_at dksX2_wrong_0 17 rfl rfl)
theorem dX2_wrong_20 : decode cX2_wrong 20 = .ok (.iload_n 1, 1) := dk_27 (dk_at dksX2_wrong_0 20 rfl rfl)
theorem dX2_wrong_21 : decode cX2_wrong 21 = .ok (.bipush 10, 2) := dk_16 10 (dk_at dksX2_wrong_0 21 rfl rfl)
theorem dX2_wrong_23 : decode cX2_wrong 23 = .ok (.irem, 1) := dk_112 (dk_at dksX2_wrong_0 23 rfl rfl)
theorem dX2_wrong_24 : decode cX2_wrong 24 = .ok (.iaload, 1) := dk_46 (dk_at dksX2_wrong_1 0 rfl rfl)
theorem dX2_wrong_25 : decode cX2_wrong 25 = .ok (.if_icmp .ge 37, 3) := dk_162 0 37 (dk_at dksX2_wrong_1 1 rfl rfl)
theorem dX2_wrong_28 : decode cX2_wrong 28 = .ok (.aload_n 0, 1) := dk_42 (dk_at dksX2_wrong_1 4 rfl rfl)
theorem dX2_wrong_29 : decode cX2_wrong 29 = .ok (.getfield 99, 3) := dk_180 0 99 (dk_at dksX2_wrong_1 5 rfl rfl)
theorem dX2_wrong_32 : decode cX2_wrong 32 = .ok (.bipush 60, 2) := dk_16 60 (dk_at dksX2_wrong_1 8 rfl rfl)
theorem dX2_wrong_34 : decode cX2_wrong 34 = .ok (.iload_n 1, 1) := dk_27 (dk_at dksX2_wrong_1 10 rfl rfl)
theorem dX2_wrong_35 : decode cX2_wrong 35 = .ok (.bipush 10, 2) := dk_16 10 (dk_at dksX2_wrong_1 11 rfl rfl)
theorem dX2_wrong_37 : decode cX2_wrong 37 = .ok (.irem, 1) := dk_112 (dk_at dksX2_wrong_1 13 rfl rfl)
theorem dX2_wrong_38 : decode cX2_wrong 38 = .ok (.imul, 1) := dk_104 (dk_at dksX2_wrong_1 14 rfl rfl)
theorem dX2_wrong_39 : decode cX2_wrong 39 = .ok (.iload_n 2, 1) := dk_28 (dk_at dksX2_wrong_1 15 rfl rfl)
theorem dX2_wrong_40 : decode cX2_wrong 40 = .ok (.iadd, 1) := dk_96 (dk_at dksX2_wrong_1 16 rfl rfl)
theorem dX2_wrong_41 : decode cX2_wrong 41 = .ok (.laload, 1) := dk_47 (dk_at dksX2_wrong_1 17 rfl rfl)
theorem dX2_wrong_42 : decode cX2_wrong 42 = .ok (.aload_n 0, 1) := dk_42 (dk_at dksX2_wrong_1 18 rfl rfl)
theorem dX2_wrong_43 : decode cX2_wrong 43 = .ok (.iload_n 2, 1) := dk_28 (dk_at dksX2_wrong_1 19 rfl rfl)
theorem dX2_wrong_44 : decode cX2_wrong 44 = .ok (.iconst 1, 1) := dk_4 (dk_at dksX2_wrong_1 20 rfl rfl)
theorem dX2_wrong_45 : decode cX2_wrong 45 = .ok (.iadd, 1) := dk_96 (dk_at dksX2_wrong_1 21 rfl rfl)
theorem dX2_wrong_46 : decode cX2_wrong 46 = .ok (.invokevirtual 285, 3) := dk_182 1 29 (dk_at dksX2_wrong_2 0 rfl rfl)
theorem dX2_wrong_49 : decode cX2_wrong 49 = .ok (.i2l, 1) := dk_133 (dk_at dksX2_wrong_2 3 rfl rfl)
theorem dX2_wrong_50 : decode cX2_wrong 50 = .ok (.lcmp, 1) := dk_148 (dk_at dksX2_wrong_2 4 rfl rfl)
theorem dX2_wrong_51 : decode cX2_wrong 51 = .ok (.ifCond .eq 5, 3) := dk_153 0 5 (dk_at dksX2_wrong_2 5 rfl rfl)
theorem dX2_wrong_54 : decode cX2_wrong 54 = .ok (.iload_n 2, 1) := dk_28 (dk_at dksX2_wrong_2 8 rfl rfl)
theorem dX2_wrong_55 : decode cX2_wrong 55 = .ok (.ireturn, 1) := dk_172 (dk_at dksX2_wrong_2 9 rfl rfl)
theorem dX2_wrong_56 : decode cX2_wrong 56 = .ok (.iinc 2 1, 3) := dk_132 2 1 (dk_at dksX2_wrong_2 10 rfl rfl)
theorem dX2_wrong_59 : decode cX2_wrong 59 = .ok (.goto (-52), 3) := dk_167 255 204 (dk_at dksX2_wrong_2 13 rfl rfl)
theorem dX2_wrong_62 : decode cX2_wrong 62 = .ok (.bipush (-2), 2) := dk_16 254 (dk_at dksX2_wrong_2 16 rfl rfl)
theorem dX2_wrong_64 : decode cX2_wrong 64 = .ok (.ireturn, 1) := dk_172 (dk_at dksX2_wrong_2 18 rfl rfl)
abbrev cX2_whoLed : ByteArray := prog_31_method_74_code
def yX2_whoLed : MethodName := ⟨RX2, "whoLed", "(I)I"⟩
def dkwX2_whoLed_4 : List UInt8 := [172]
abbrev dktX2_whoLed_4 : List UInt8 := dkwX2_whoLed_4 ++ []
def dkwX2_whoLed_3 : List UInt8 := [21, 4, 4, 21, 5, 120, 128, 54, 4, 132, 5, 1, 167, 255, 217, 42, 180, 0, 30, 3, 29, 79, 21, 4]
abbrev dktX2_whoLed_3 : List UInt8 := dkwX2_whoLed_3 ++ dktX2_whoLed_4
def dkwX2_whoLed_2 : List UInt8 := [180, 0, 125, 162, 0, 36, 42, 180, 0, 30, 3, 21, 5, 79, 42, 27, 182, 1, 95, 16, 254, 160, 0, 12]
abbrev dktX2_whoLed_2 : List UInt8 := dkwX2_whoLed_2 ++ dktX2_whoLed_3
def dkwX2_whoLed_1 : List UInt8 := [16, 10, 108, 182, 1, 35, 42, 180, 0, 30, 3, 46, 62, 3, 54, 4, 3, 54, 5, 21, 5, 42]
abbrev dktX2_whoLed_1 : List UInt8 := dkwX2_whoLed_1 ++ dktX2_whoLed_2
def dkwX2_whoLed_0 : List UInt8 := [27, 184, 1, 89, 154, 0, 5, 2, 172, 42, 27, 182, 1, 92, 61, 28, 156, 0, 5, 28, 172, 42, 27]
abbrev dktX2_whoLed_0 : List UInt8 := dkwX2_whoLed_0 ++ dktX2_whoLed_1
theorem dksX2_whoLed_0 : cX2_whoLed.data.toList.drop 0 = dktX2_whoLed_0 := by decide +kernel
theorem dksX2_whoLed_1 : cX2_whoLed.data.toList.drop 23 = dktX2_whoLed_1 := dk_seg dksX2_whoLed_0 23 rfl rfl
theorem dksX2_whoLed_2 : cX2_whoLed.data.toList.drop 45 = dktX2_whoLed_2 := dk_seg dksX2_whoLed_1 22 rfl rfl
theorem dksX2_whoLed_3 : cX2_whoLed.data.toList.drop 69 = dktX2_whoLed_3 := dk_seg dksX2_whoLed_2 24 rfl rfl
theorem dksX2_whoLed_4 : cX2_whoLed.data.toList.drop 93 = dktX2_whoLed_4 := dk_seg dksX2_whoLed_3 24 rfl rfl
theorem dX2_whoLed_0 : decode cX2_whoLed 0 = .ok (.iload_n 1, 1) := dk_27 (dk_at dksX2_whoLed_0 0 rfl rfl)
theorem dX2_whoLed_1 : decode cX2_whoLed 1 = .ok (.invokestatic 345, 3) := dk_184 1 89 (dk_at dksX2_whoLed_0 1 rfl rfl)
theorem dX2_whoLed_4 : decode cX2_whoLed 4 = .ok (.ifCond .ne 5, 3) := dk_154 0 5 (dk_at dksX2_whoLed_0 4 rfl rfl)
theorem dX2_whoLed_7 : decode cX2_whoLed 7 = .ok (.iconst (-1), 1) := dk_2 (dk_at dksX2_whoLed_0 7 rfl rfl)
theorem dX2_whoLed_8 : decode cX2_whoLed 8 = .ok (.ireturn, 1) := dk_172 (dk_at dksX2_whoLed_0 8 rfl rfl)
theorem dX2_whoLed_9 : decode cX2_whoLed 9 = .ok (.aload_n 0, 1) := dk_42 (dk_at dksX2_whoLed_0 9 rfl rfl)
theorem dX2_whoLed_10 : decode cX2_whoLed 10 = .ok (.iload_n 1, 1) := dk_27 (dk_at dksX2_whoLed_0 10 rfl rfl)
theorem dX2_whoLed_11 : decode cX2_whoLed 11 = .ok (.invokevirtual 348, 3) := dk_182 1 92 (dk_at dksX2_whoLed_0 11 rfl rfl)
theorem dX2_whoLed_14 : decode cX2_whoLed 14 = .ok (.istore_n 2, 1) := dk_61 (dk_at dksX2_whoLed_0 14 rfl rfl)
theorem dX2_whoLed_15 : decode cX2_whoLed 15 = .ok (.iload_n 2, 1) := dk_28 (dk_at dksX2_whoLed_0 15 rfl rfl)
theorem dX2_whoLed_16 : decode cX2_whoLed 16 = .ok (.ifCond .ge 5, 3) := dk_156 0 5 (dk_at dksX2_whoLed_0 16 rfl rfl)
theorem dX2_whoLed_19 : decode cX2_whoLed 19 = .ok (.iload_n 2, 1) := dk_28 (dk_at dksX2_whoLed_0 19 rfl rfl)
theorem dX2_whoLed_20 : decode cX2_whoLed 20 = .ok (.ireturn, 1) := dk_172 (dk_at dksX2_whoLed_0 20 rfl rfl)
theorem dX2_whoLed_21 : decode cX2_whoLed 21 = .ok (.aload_n 0, 1) := dk_42 (dk_at dksX2_whoLed_0 21 rfl rfl)
theorem dX2_whoLed_22 : decode cX2_whoLed 22 = .ok (.iload_n 1, 1) := dk_27 (dk_at dksX2_whoLed_0 22 rfl rfl)
theorem dX2_whoLed_23 : decode cX2_whoLed 23 = .ok (.bipush 10, 2) := dk_16 10 (dk_at dksX2_whoLed_1 0 rfl rfl)
theorem dX2_whoLed_25 : decode cX2_whoLed 25 = .ok (.idiv, 1) := dk_108 (dk_at dksX2_whoLed_1 2 rfl rfl)
theorem dX2_whoLed_26 : decode cX2_whoLed 26 = .ok (.invokevirtual 291, 3) := dk_182 1 35 (dk_at dksX2_whoLed_1 3 rfl rfl)
theorem dX2_whoLed_29 : decode cX2_whoLed 29 = .ok (.aload_n 0, 1) := dk_42 (dk_at dksX2_whoLed_1 6 rfl rfl)
theorem dX2_whoLed_30 : decode cX2_whoLed 30 = .ok (.getfield 30, 3) := dk_180 0 30 (dk_at dksX2_whoLed_1 7 rfl rfl)
theorem dX2_whoLed_33 : decode cX2_whoLed 33 = .ok (.iconst 0, 1) := dk_3 (dk_at dksX2_whoLed_1 10 rfl rfl)
theorem dX2_whoLed_34 : decode cX2_whoLed 34 = .ok (.iaload, 1) := dk_46 (dk_at dksX2_whoLed_1 11 rfl rfl)
theorem dX2_whoLed_35 : decode cX2_whoLed 35 = .ok (.istore_n 3, 1) := dk_62 (dk_at dksX2_whoLed_1 12 rfl rfl)
theorem dX2_whoLed_36 : decode cX2_whoLed 36 = .ok (.iconst 0, 1) := dk_3 (dk_at dksX2_whoLed_1 13 rfl rfl)
theorem dX2_whoLed_37 : decode cX2_whoLed 37 = .ok (.istore 4, 2) := dk_54 4 (dk_at dksX2_whoLed_1 14 rfl rfl)
theorem dX2_whoLed_39 : decode cX2_whoLed 39 = .ok (.iconst 0, 1) := dk_3 (dk_at dksX2_whoLed_1 16 rfl rfl)
theorem dX2_whoLed_40 : decode cX2_whoLed 40 = .ok (.istore 5, 2) := dk_54 5 (dk_at dksX2_whoLed_1 17 rfl rfl)
theorem dX2_whoLed_42 : decode cX2_whoLed 42 = .ok (.iload 5, 2) := dk_21 5 (dk_at dksX2_whoLed_1 19 rfl rfl)
theorem dX2_whoLed_44 : decode cX2_whoLed 44 = .ok (.aload_n 0, 1) := dk_42 (dk_at dksX2_whoLed_1 21 rfl rfl)
theorem dX2_whoLed_45 : decode cX2_whoLed 45 = .ok (.getfield 125, 3) := dk_180 0 125 (dk_at dksX2_whoLed_2 0 rfl rfl)
theorem dX2_whoLed_48 : decode cX2_whoLed 48 = .ok (.if_icmp .ge 36, 3) := dk_162 0 36 (dk_at dksX2_whoLed_2 3 rfl rfl)
theorem dX2_whoLed_51 : decode cX2_whoLed 51 = .ok (.aload_n 0, 1) := dk_42 (dk_at dksX2_whoLed_2 6 rfl rfl)
theorem dX2_whoLed_52 : decode cX2_whoLed 52 = .ok (.getfield 30, 3) := dk_180 0 30 (dk_at dksX2_whoLed_2 7 rfl rfl)
theorem dX2_whoLed_55 : decode cX2_whoLed 55 = .ok (.iconst 0, 1) := dk_3 (dk_at dksX2_whoLed_2 10 rfl rfl)
theorem dX2_whoLed_56 : decode cX2_whoLed 56 = .ok (.iload 5, 2) := dk_21 5 (dk_at dksX2_whoLed_2 11 rfl rfl)
theorem dX2_whoLed_58 : decode cX2_whoLed 58 = .ok (.iastore, 1) := dk_79 (dk_at dksX2_whoLed_2 13 rfl rfl)
theorem dX2_whoLed_59 : decode cX2_whoLed 59 = .ok (.aload_n 0, 1) := dk_42 (dk_at dksX2_whoLed_2 14 rfl rfl)
theorem dX2_whoLed_60 : decode cX2_whoLed 60 = .ok (.iload_n 1, 1) := dk_27 (dk_at dksX2_whoLed_2 15 rfl rfl)
theorem dX2_whoLed_61 : decode cX2_whoLed 61 = .ok (.invokevirtual 351, 3) := dk_182 1 95 (dk_at dksX2_whoLed_2 16 rfl rfl)
theorem dX2_whoLed_64 : decode cX2_whoLed 64 = .ok (.bipush (-2), 2) := dk_16 254 (dk_at dksX2_whoLed_2 19 rfl rfl)
theorem dX2_whoLed_66 : decode cX2_whoLed 66 = .ok (.if_icmp .ne 12, 3) := dk_160 0 12 (dk_at dksX2_whoLed_2 21 rfl rfl)
theorem dX2_whoLed_69 : decode cX2_whoLed 69 = .ok (.iload 4, 2) := dk_21 4 (dk_at dksX2_whoLed_3 0 rfl rfl)
theorem dX2_whoLed_71 : decode cX2_whoLed 71 = .ok (.iconst 1, 1) := dk_4 (dk_at dksX2_whoLed_3 2 rfl rfl)
theorem dX2_whoLed_72 : decode cX2_whoLed 72 = .ok (.iload 5, 2) := dk_21 5 (dk_at dksX2_whoLed_3 3 rfl rfl)
theorem dX2_whoLed_74 : decode cX2_whoLed 74 = .ok (.ishl, 1) := dk_120 (dk_at dksX2_whoLed_3 5 rfl rfl)
theorem dX2_whoLed_75 : decode cX2_whoLed 75 = .ok (.ior, 1) := dk_128 (dk_at dksX2_whoLed_3 6 rfl rfl)
theorem dX2_whoLed_76 : decode cX2_whoLed 76 = .ok (.istore 4, 2) := dk_54 4 (dk_at dksX2_whoLed_3 7 rfl rfl)
theorem dX2_whoLed_78 : decode cX2_whoLed 78 = .ok (.iinc 5 1, 3) := dk_132 5 1 (dk_at dksX2_whoLed_3 9 rfl rfl)
theorem dX2_whoLed_81 : decode cX2_whoLed 81 = .ok (.goto (-39), 3) := dk_167 255 217 (dk_at dksX2_whoLed_3 12 rfl rfl)
theorem dX2_whoLed_84 : decode cX2_whoLed 84 = .ok (.aload_n 0, 1) := dk_42 (dk_at dksX2_whoLed_3 15 rfl rfl)
theorem dX2_whoLed_85 : decode cX2_whoLed 85 = .ok (.getfield 30, 3) := dk_180 0 30 (dk_at dksX2_whoLed_3 16 rfl rfl)
theorem dX2_whoLed_88 : decode cX2_whoLed 88 = .ok (.iconst 0, 1) := dk_3 (dk_at dksX2_whoLed_3 19 rfl rfl)
theorem dX2_whoLed_89 : decode cX2_whoLed 89 = .ok (.iload_n 3, 1) := dk_29 (dk_at dksX2_whoLed_3 20 rfl rfl)
theorem dX2_whoLed_90 : decode cX2_whoLed 90 = .ok (.iastore, 1) := dk_79 (dk_at dksX2_whoLed_3 21 rfl rfl)
theorem dX2_whoLed_91 : decode cX2_whoLed 91 = .ok (.iload 4, 2) := dk_21 4 (dk_at dksX2_whoLed_3 22 rfl rfl)
theorem dX2_whoLed_93 : decode cX2_whoLed 93 = .ok (.ireturn, 1) := dk_172 (dk_at dksX2_whoLed_4 0 rfl rfl)
abbrev cX2_later : ByteArray := prog_31_method_75_code
def yX2_later : MethodName := ⟨RX2, "later", "(II)I"⟩
def dkwX2_later_4 : List UInt8 := [21, 5, 172]
abbrev dktX2_later_4 : List UInt8 := dkwX2_later_4 ++ []
def dkwX2_later_3 : List UInt8 := [16, 254, 160, 0, 7, 21, 6, 54, 5, 132, 6, 255, 167, 255, 226, 42, 180, 0, 27, 28, 21, 4, 79]
abbrev dktX2_later_3 : List UInt8 := dkwX2_later_3 ++ dktX2_later_4
def dkwX2_later_2 : List UInt8 := [54, 5, 16, 99, 54, 6, 21, 6, 155, 0, 31, 42, 180, 0, 27, 28, 21, 6, 79, 42, 27, 182, 1, 95]
abbrev dktX2_later_2 : List UInt8 := dkwX2_later_2 ++ dktX2_later_3
def dkwX2_later_1 : List UInt8 := [156, 0, 5, 29, 172, 42, 27, 16, 10, 108, 182, 1, 35, 42, 180, 0, 27, 28, 46, 54, 4, 16, 254]
abbrev dktX2_later_1 : List UInt8 := dkwX2_later_1 ++ dktX2_later_2
def dkwX2_later_0 : List UInt8 := [27, 184, 1, 89, 153, 0, 11, 42, 28, 182, 0, 132, 154, 0, 5, 2, 172, 42, 27, 182, 1, 92, 62, 29]
abbrev dktX2_later_0 : List UInt8 := dkwX2_later_0 ++ dktX2_later_1
theorem dksX2_later_0 : cX2_later.data.toList.drop 0 = dktX2_later_0 := by decide +kernel
theorem dksX2_later_1 : cX2_later.data.toList.drop 24 = dktX2_later_1 := dk_seg dksX2_later_0 24 rfl rfl
theorem dksX2_later_2 : cX2_later.data.toList.drop 47 = dktX2_later_2 := dk_seg dksX2_later_1 23 rfl rfl
theorem dksX2_later_3 : cX2_later.data.toList.drop 71 = dktX2_later_3 := dk_seg dksX2_later_2 24 rfl rfl
theorem dksX2_later_4 : cX2_later.data.toList.drop 94 = dktX2_later_4 := dk_seg dksX2_later_3 23 rfl rfl
theorem dX2_later_0 : decode cX2_later 0 = .ok (.iload_n 1, 1) := dk_27 (dk_at dksX2_later_0 0 rfl rfl)
theorem dX2_later_1 : decode cX2_later 1 = .ok (.invokestatic 345, 3) := dk_184 1 89 (dk_at dksX2_later_0 1 rfl rfl)
theorem dX2_later_4 : decode cX2_later 4 = .ok (.ifCond .eq 11, 3) := dk_153 0 11 (dk_at dksX2_later_0 4 rfl rfl)
theorem dX2_later_7 : decode cX2_later 7 = .ok (.aload_n 0, 1) := dk_42 (dk_at dksX2_later_0 7 rfl rfl)
theorem dX2_later_8 : decode cX2_later 8 = .ok (.iload_n 2, 1) := dk_28 (dk_at dksX2_later_0 8 rfl rfl)
theorem dX2_later_9 : decode cX2_later 9 = .ok (.invokevirtual 132, 3) := dk_182 0 132 (dk_at dksX2_later_0 9 rfl rfl)
theorem dX2_later_12 : decode cX2_later 12 = .ok (.ifCond .ne 5, 3) := dk_154 0 5 (dk_at dksX2_later_0 12 rfl rfl)
theorem dX2_later_15 : decode cX2_later 15 = .ok (.iconst (-1), 1) := dk_2 (dk_at dksX2_later_0 15 rfl rfl)
theorem dX2_later_16 : decode cX2_later 16 = .ok (.ireturn, 1) := dk_172 (dk_at dksX2_later_0 16 rfl rfl)
theorem dX2_later_17 : decode cX2_later 17 = .ok (.aload_n 0, 1) := dk_42 (dk_at dksX2_later_0 17 rfl rfl)
theorem dX2_later_18 : decode cX2_later 18 = .ok (.iload_n 1, 1) := dk_27 (dk_at dksX2_later_0 18 rfl rfl)
theorem dX2_later_19 : decode cX2_later 19 = .ok (.invokevirtual 348, 3) := dk_182 1 92 (dk_at dksX2_later_0 19 rfl rfl)
theorem dX2_later_22 : decode cX2_later 22 = .ok (.istore_n 3, 1) := dk_62 (dk_at dksX2_later_0 22 rfl rfl)
theorem dX2_later_23 : decode cX2_later 23 = .ok (.iload_n 3, 1) := dk_29 (dk_at dksX2_later_0 23 rfl rfl)
theorem dX2_later_24 : decode cX2_later 24 = .ok (.ifCond .ge 5, 3) := dk_156 0 5 (dk_at dksX2_later_1 0 rfl rfl)
theorem dX2_later_27 : decode cX2_later 27 = .ok (.iload_n 3, 1) := dk_29 (dk_at dksX2_later_1 3 rfl rfl)
theorem dX2_later_28 : decode cX2_later 28 = .ok (.ireturn, 1) := dk_172 (dk_at dksX2_later_1 4 rfl rfl)
theorem dX2_later_29 : decode cX2_later 29 = .ok (.aload_n 0, 1) := dk_42 (dk_at dksX2_later_1 5 rfl rfl)
theorem dX2_later_30 : decode cX2_later 30 = .ok (.iload_n 1, 1) := dk_27 (dk_at dksX2_later_1 6 rfl rfl)
theorem dX2_later_31 : decode cX2_later 31 = .ok (.bipush 10, 2) := dk_16 10 (dk_at dksX2_later_1 7 rfl rfl)
theorem dX2_later_33 : decode cX2_later 33 = .ok (.idiv, 1) := dk_108 (dk_at dksX2_later_1 9 rfl rfl)
theorem dX2_later_34 : decode cX2_later 34 = .ok (.invokevirtual 291, 3) := dk_182 1 35 (dk_at dksX2_later_1 10 rfl rfl)
theorem dX2_later_37 : decode cX2_later 37 = .ok (.aload_n 0, 1) := dk_42 (dk_at dksX2_later_1 13 rfl rfl)
theorem dX2_later_38 : decode cX2_later 38 = .ok (.getfield 27, 3) := dk_180 0 27 (dk_at dksX2_later_1 14 rfl rfl)
theorem dX2_later_41 : decode cX2_later 41 = .ok (.iload_n 2, 1) := dk_28 (dk_at dksX2_later_1 17 rfl rfl)
theorem dX2_later_42 : decode cX2_later 42 = .ok (.iaload, 1) := dk_46 (dk_at dksX2_later_1 18 rfl rfl)
theorem dX2_later_43 : decode cX2_later 43 = .ok (.istore 4, 2) := dk_54 4 (dk_at dksX2_later_1 19 rfl rfl)
theorem dX2_later_45 : decode cX2_later 45 = .ok (.bipush (-2), 2) := dk_16 254 (dk_at dksX2_later_1 21 rfl rfl)
theorem dX2_later_47 : decode cX2_later 47 = .ok (.istore 5, 2) := dk_54 5 (dk_at dksX2_later_2 0 rfl rfl)
theorem dX2_later_49 : decode cX2_later 49 = .ok (.bipush 99, 2) := dk_16 99 (dk_at dksX2_later_2 2 rfl rfl)
theorem dX2_later_51 : decode cX2_later 51 = .ok (.istore 6, 2) := dk_54 6 (dk_at dksX2_later_2 4 rfl rfl)
theorem dX2_later_53 : decode cX2_later 53 = .ok (.iload 6, 2) := dk_21 6 (dk_at dksX2_later_2 6 rfl rfl)
theorem dX2_later_55 : decode cX2_later 55 = .ok (.ifCond .lt 31, 3) := dk_155 0 31 (dk_at dksX2_later_2 8 rfl rfl)
theorem dX2_later_58 : decode cX2_later 58 = .ok (.aload_n 0, 1) := dk_42 (dk_at dksX2_later_2 11 rfl rfl)
theorem dX2_later_59 : decode cX2_later 59 = .ok (.getfield 27, 3) := dk_180 0 27 (dk_at dksX2_later_2 12 rfl rfl)
theorem dX2_later_62 : decode cX2_later 62 = .ok (.iload_n 2, 1) := dk_28 (dk_at dksX2_later_2 15 rfl rfl)
theorem dX2_later_63 : decode cX2_later 63 = .ok (.iload 6, 2) := dk_21 6 (dk_at dksX2_later_2 16 rfl rfl)
theorem dX2_later_65 : decode cX2_later 65 = .ok (.iastore, 1) := dk_79 (dk_at dksX2_later_2 18 rfl rfl)
theorem dX2_later_66 : decode cX2_later 66 = .ok (.aload_n 0, 1) := dk_42 (dk_at dksX2_later_2 19 rfl rfl)
theorem dX2_later_67 : decode cX2_later 67 = .ok (.iload_n 1, 1) := dk_27 (dk_at dksX2_later_2 20 rfl rfl)
theorem dX2_later_68 : decode cX2_later 68 = .ok (.invokevirtual 351, 3) := dk_182 1 95 (dk_at dksX2_later_2 21 rfl rfl)
theorem dX2_later_71 : decode cX2_later 71 = .ok (.bipush (-2), 2) := dk_16 254 (dk_at dksX2_later_3 0 rfl rfl)
theorem dX2_later_73 : decode cX2_later 73 = .ok (.if_icmp .ne 7, 3) := dk_160 0 7 (dk_at dksX2_later_3 2 rfl rfl)
theorem dX2_later_76 : decode cX2_later 76 = .ok (.iload 6, 2) := dk_21 6 (dk_at dksX2_later_3 5 rfl rfl)
theorem dX2_later_78 : decode cX2_later 78 = .ok (.istore 5, 2) := dk_54 5 (dk_at dksX2_later_3 7 rfl rfl)
theorem dX2_later_80 : decode cX2_later 80 = .ok (.iinc 6 (-1), 3) := dk_132 6 255 (dk_at dksX2_later_3 9 rfl rfl)
theorem dX2_later_83 : decode cX2_later 83 = .ok (.goto (-30), 3) := dk_167 255 226 (dk_at dksX2_later_3 12 rfl rfl)
theorem dX2_later_86 : decode cX2_later 86 = .ok (.aload_n 0, 1) := dk_42 (dk_at dksX2_later_3 15 rfl rfl)
theorem dX2_later_87 : decode cX2_later 87 = .ok (.getfield 27, 3) := dk_180 0 27 (dk_at dksX2_later_3 16 rfl rfl)
theorem dX2_later_90 : decode cX2_later 90 = .ok (.iload_n 2, 1) := dk_28 (dk_at dksX2_later_3 19 rfl rfl)
theorem dX2_later_91 : decode cX2_later 91 = .ok (.iload 4, 2) := dk_21 4 (dk_at dksX2_later_3 20 rfl rfl)
theorem dX2_later_93 : decode cX2_later 93 = .ok (.iastore, 1) := dk_79 (dk_at dksX2_later_3 22 rfl rfl)
theorem dX2_later_94 : decode cX2_later 94 = .ok (.iload 5, 2) := dk_21 5 (dk_at dksX2_later_4 0 rfl rfl)
theorem dX2_later_96 : decode cX2_later 96 = .ok (.ireturn, 1) := dk_172 (dk_at dksX2_later_4 2 rfl rfl)
abbrev cX2_quicker : ByteArray := prog_31_method_76_code
def yX2_quicker : MethodName := ⟨RX2, "quicker", "(II)I"⟩
def dkwX2_quicker_4 : List UInt8 := [21, 4, 79, 21, 5, 172]
abbrev dktX2_quicker_4 : List UInt8 := dkwX2_quicker_4 ++ []
def dkwX2_quicker_3 : List UInt8 := [182, 1, 95, 16, 254, 160, 0, 7, 21, 6, 54, 5, 132, 6, 255, 167, 255, 224, 42, 180, 0, 24, 28]
abbrev dktX2_quicker_3 : List UInt8 := dkwX2_quicker_3 ++ dktX2_quicker_4
def dkwX2_quicker_2 : List UInt8 := [54, 5, 16, 9, 54, 6, 21, 6, 16, 247, 161, 0, 31, 42, 180, 0, 24, 28, 21, 6, 79, 42, 27]
abbrev dktX2_quicker_2 : List UInt8 := dkwX2_quicker_2 ++ dktX2_quicker_3
def dkwX2_quicker_1 : List UInt8 := [29, 156, 0, 5, 29, 172, 42, 27, 16, 10, 108, 182, 1, 35, 42, 180, 0, 24, 28, 46, 54, 4, 16, 157]
abbrev dktX2_quicker_1 : List UInt8 := dkwX2_quicker_1 ++ dktX2_quicker_2
def dkwX2_quicker_0 : List UInt8 := [27, 184, 1, 89, 153, 0, 11, 42, 28, 182, 0, 132, 154, 0, 6, 18, 152, 172, 42, 27, 182, 1, 92, 62]
abbrev dktX2_quicker_0 : List UInt8 := dkwX2_quicker_0 ++ dktX2_quicker_1
theorem dksX2_quicker_0 : cX2_quicker.data.toList.drop 0 = dktX2_quicker_0 := by decide +kernel
theorem dksX2_quicker_1 : cX2_quicker.data.toList.drop 24 = dktX2_quicker_1 := dk_seg dksX2_quicker_0 24 rfl rfl
theorem dksX2_quicker_2 : cX2_quicker.data.toList.drop 48 = dktX2_quicker_2 := dk_seg dksX2_quicker_1 24 rfl rfl
theorem dksX2_quicker_3 : cX2_quicker.data.toList.drop 71 = dktX2_quicker_3 := dk_seg dksX2_quicker_2 23 rfl rfl
theorem dksX2_quicker_4 : cX2_quicker.data.toList.drop 94 = dktX2_quicker_4 := dk_seg dksX2_quicker_3 23 rfl rfl
theorem dX2_quicker_0 : decode cX2_quicker 0 = .ok (.iload_n 1, 1) := dk_27 (dk_at dksX2_quicker_0 0 rfl rfl)
theorem dX2_quicker_1 : decode cX2_quicker 1 = .ok (.invokestatic 345, 3) := dk_184 1 89 (dk_at dksX2_quicker_0 1 rfl rfl)
theorem dX2_quicker_4 : decode cX2_quicker 4 = .ok (.ifCond .eq 11, 3) := dk_153 0 11 (dk_at dksX2_quicker_0 4 rfl rfl)
theorem dX2_quicker_7 : decode cX2_quicker 7 = .ok (.aload_n 0, 1) := dk_42 (dk_at dksX2_quicker_0 7 rfl rfl)
theorem dX2_quicker_8 : decode cX2_quicker 8 = .ok (.iload_n 2, 1) := dk_28 (dk_at dksX2_quicker_0 8 rfl rfl)
theorem dX2_quicker_9 : decode cX2_quicker 9 = .ok (.invokevirtual 132, 3) := dk_182 0 132 (dk_at dksX2_quicker_0 9 rfl rfl)
theorem dX2_quicker_12 : decode cX2_quicker 12 = .ok (.ifCond .ne 6, 3) := dk_154 0 6 (dk_at dksX2_quicker_0 12 rfl rfl)
theorem dX2_quicker_15 : decode cX2_quicker 15 = .ok (.ldc 152, 2) := dk_18 152 (dk_at dksX2_quicker_0 15 rfl rfl)
theorem dX2_quicker_17 : decode cX2_quicker 17 = .ok (.ireturn, 1) := dk_172 (dk_at dksX2_quicker_0 17 rfl rfl)
theorem dX2_quicker_18 : decode cX2_quicker 18 = .ok (.aload_n 0, 1) := dk_42 (dk_at dksX2_quicker_0 18 rfl rfl)
theorem dX2_quicker_19 : decode cX2_quicker 19 = .ok (.iload_n 1, 1) := dk_27 (dk_at dksX2_quicker_0 19 rfl rfl)
theorem dX2_quicker_20 : decode cX2_quicker 20 = .ok (.invokevirtual 348, 3) := dk_182 1 92 (dk_at dksX2_quicker_0 20 rfl rfl)
theorem dX2_quicker_23 : decode cX2_quicker 23 = .ok (.istore_n 3, 1) := dk_62 (dk_at dksX2_quicker_0 23 rfl rfl)
theorem dX2_quicker_24 : decode cX2_quicker 24 = .ok (.iload_n 3, 1) := dk_29 (dk_at dksX2_quicker_1 0 rfl rfl)
theorem dX2_quicker_25 : decode cX2_quicker 25 = .ok (.ifCond .ge 5, 3) := dk_156 0 5 (dk_at dksX2_quicker_1 1 rfl rfl)
theorem dX2_quicker_28 : decode cX2_quicker 28 = .ok (.iload_n 3, 1) := dk_29 (dk_at dksX2_quicker_1 4 rfl rfl)
theorem dX2_quicker_29 : decode cX2_quicker 29 = .ok (.ireturn, 1) := dk_172 (dk_at dksX2_quicker_1 5 rfl rfl)
theorem dX2_quicker_30 : decode cX2_quicker 30 = .ok (.aload_n 0, 1) := dk_42 (dk_at dksX2_quicker_1 6 rfl rfl)
theorem dX2_quicker_31 : decode cX2_quicker 31 = .ok (.iload_n 1, 1) := dk_27 (dk_at dksX2_quicker_1 7 rfl rfl)
theorem dX2_quicker_32 : decode cX2_quicker 32 = .ok (.bipush 10, 2) := dk_16 10 (dk_at dksX2_quicker_1 8 rfl rfl)
theorem dX2_quicker_34 : decode cX2_quicker 34 = .ok (.idiv, 1) := dk_108 (dk_at dksX2_quicker_1 10 rfl rfl)
theorem dX2_quicker_35 : decode cX2_quicker 35 = .ok (.invokevirtual 291, 3) := dk_182 1 35 (dk_at dksX2_quicker_1 11 rfl rfl)
theorem dX2_quicker_38 : decode cX2_quicker 38 = .ok (.aload_n 0, 1) := dk_42 (dk_at dksX2_quicker_1 14 rfl rfl)
theorem dX2_quicker_39 : decode cX2_quicker 39 = .ok (.getfield 24, 3) := dk_180 0 24 (dk_at dksX2_quicker_1 15 rfl rfl)
theorem dX2_quicker_42 : decode cX2_quicker 42 = .ok (.iload_n 2, 1) := dk_28 (dk_at dksX2_quicker_1 18 rfl rfl)
theorem dX2_quicker_43 : decode cX2_quicker 43 = .ok (.iaload, 1) := dk_46 (dk_at dksX2_quicker_1 19 rfl rfl)
theorem dX2_quicker_44 : decode cX2_quicker 44 = .ok (.istore 4, 2) := dk_54 4 (dk_at dksX2_quicker_1 20 rfl rfl)
theorem dX2_quicker_46 : decode cX2_quicker 46 = .ok (.bipush (-99), 2) := dk_16 157 (dk_at dksX2_quicker_1 22 rfl rfl)
theorem dX2_quicker_48 : decode cX2_quicker 48 = .ok (.istore 5, 2) := dk_54 5 (dk_at dksX2_quicker_2 0 rfl rfl)
theorem dX2_quicker_50 : decode cX2_quicker 50 = .ok (.bipush 9, 2) := dk_16 9 (dk_at dksX2_quicker_2 2 rfl rfl)
theorem dX2_quicker_52 : decode cX2_quicker 52 = .ok (.istore 6, 2) := dk_54 6 (dk_at dksX2_quicker_2 4 rfl rfl)
theorem dX2_quicker_54 : decode cX2_quicker 54 = .ok (.iload 6, 2) := dk_21 6 (dk_at dksX2_quicker_2 6 rfl rfl)
theorem dX2_quicker_56 : decode cX2_quicker 56 = .ok (.bipush (-9), 2) := dk_16 247 (dk_at dksX2_quicker_2 8 rfl rfl)
theorem dX2_quicker_58 : decode cX2_quicker 58 = .ok (.if_icmp .lt 31, 3) := dk_161 0 31 (dk_at dksX2_quicker_2 10 rfl rfl)
theorem dX2_quicker_61 : decode cX2_quicker 61 = .ok (.aload_n 0, 1) := dk_42 (dk_at dksX2_quicker_2 13 rfl rfl)
theorem dX2_quicker_62 : decode cX2_quicker 62 = .ok (.getfield 24, 3) := dk_180 0 24 (dk_at dksX2_quicker_2 14 rfl rfl)
theorem dX2_quicker_65 : decode cX2_quicker 65 = .ok (.iload_n 2, 1) := dk_28 (dk_at dksX2_quicker_2 17 rfl rfl)
theorem dX2_quicker_66 : decode cX2_quicker 66 = .ok (.iload 6, 2) := dk_21 6 (dk_at dksX2_quicker_2 18 rfl rfl)
theorem dX2_quicker_68 : decode cX2_quicker 68 = .ok (.iastore, 1) := dk_79 (dk_at dksX2_quicker_2 20 rfl rfl)
theorem dX2_quicker_69 : decode cX2_quicker 69 = .ok (.aload_n 0, 1) := dk_42 (dk_at dksX2_quicker_2 21 rfl rfl)
theorem dX2_quicker_70 : decode cX2_quicker 70 = .ok (.iload_n 1, 1) := dk_27 (dk_at dksX2_quicker_2 22 rfl rfl)
theorem dX2_quicker_71 : decode cX2_quicker 71 = .ok (.invokevirtual 351, 3) := dk_182 1 95 (dk_at dksX2_quicker_3 0 rfl rfl)
theorem dX2_quicker_74 : decode cX2_quicker 74 = .ok (.bipush (-2), 2) := dk_16 254 (dk_at dksX2_quicker_3 3 rfl rfl)
theorem dX2_quicker_76 : decode cX2_quicker 76 = .ok (.if_icmp .ne 7, 3) := dk_160 0 7 (dk_at dksX2_quicker_3 5 rfl rfl)
theorem dX2_quicker_79 : decode cX2_quicker 79 = .ok (.iload 6, 2) := dk_21 6 (dk_at dksX2_quicker_3 8 rfl rfl)
theorem dX2_quicker_81 : decode cX2_quicker 81 = .ok (.istore 5, 2) := dk_54 5 (dk_at dksX2_quicker_3 10 rfl rfl)
theorem dX2_quicker_83 : decode cX2_quicker 83 = .ok (.iinc 6 (-1), 3) := dk_132 6 255 (dk_at dksX2_quicker_3 12 rfl rfl)
theorem dX2_quicker_86 : decode cX2_quicker 86 = .ok (.goto (-32), 3) := dk_167 255 224 (dk_at dksX2_quicker_3 15 rfl rfl)
theorem dX2_quicker_89 : decode cX2_quicker 89 = .ok (.aload_n 0, 1) := dk_42 (dk_at dksX2_quicker_3 18 rfl rfl)
theorem dX2_quicker_90 : decode cX2_quicker 90 = .ok (.getfield 24, 3) := dk_180 0 24 (dk_at dksX2_quicker_3 19 rfl rfl)
theorem dX2_quicker_93 : decode cX2_quicker 93 = .ok (.iload_n 2, 1) := dk_28 (dk_at dksX2_quicker_3 22 rfl rfl)
theorem dX2_quicker_94 : decode cX2_quicker 94 = .ok (.iload 4, 2) := dk_21 4 (dk_at dksX2_quicker_4 0 rfl rfl)
theorem dX2_quicker_96 : decode cX2_quicker 96 = .ok (.iastore, 1) := dk_79 (dk_at dksX2_quicker_4 2 rfl rfl)
theorem dX2_quicker_97 : decode cX2_quicker 97 = .ok (.iload 5, 2) := dk_21 5 (dk_at dksX2_quicker_4 3 rfl rfl)
theorem dX2_quicker_99 : decode cX2_quicker 99 = .ok (.ireturn, 1) := dk_172 (dk_at dksX2_quicker_4 5 rfl rfl)
abbrev cX2_drawn : ByteArray := prog_31_method_77_code
def yX2_drawn : MethodName := ⟨RX2, "drawn", "(IIII)I"⟩
def dkwX2_drawn_6 : List UInt8 := [172]
abbrev dktX2_drawn_6 : List UInt8 := dkwX2_drawn_6 ++ []
def dkwX2_drawn_5 : List UInt8 := [154, 0, 6, 132, 7, 1, 132, 8, 1, 167, 255, 218, 21, 4, 154, 0, 8, 21, 6, 167, 0, 5, 21, 7]
abbrev dktX2_drawn_5 : List UInt8 := dkwX2_drawn_5 ++ dktX2_drawn_6
def dkwX2_drawn_4 : List UInt8 := [162, 0, 35, 42, 4, 182, 1, 22, 42, 182, 1, 26, 54, 9, 21, 6, 21, 9, 96, 54, 6, 21, 9]
abbrev dktX2_drawn_4 : List UInt8 := dkwX2_drawn_4 ++ dktX2_drawn_5
def dkwX2_drawn_3 : List UInt8 := [29, 16, 100, 112, 181, 1, 4, 3, 54, 6, 3, 54, 7, 3, 54, 8, 21, 8, 29, 16, 100, 108]
abbrev dktX2_drawn_3 : List UInt8 := dkwX2_drawn_3 ++ dktX2_drawn_4
def dkwX2_drawn_2 : List UInt8 := [182, 1, 32, 54, 5, 21, 5, 156, 0, 6, 21, 5, 172, 42, 27, 182, 1, 35, 42, 28, 181, 1, 0, 42]
abbrev dktX2_drawn_2 : List UInt8 := dkwX2_drawn_2 ++ dktX2_drawn_3
def dkwX2_drawn_1 : List UInt8 := [29, 16, 100, 112, 16, 12, 163, 0, 13, 21, 4, 3, 4, 184, 0, 128, 154, 0, 5, 2, 172, 42, 27, 3]
abbrev dktX2_drawn_1 : List UInt8 := dkwX2_drawn_1 ++ dktX2_drawn_2
def dkwX2_drawn_0 : List UInt8 := [27, 184, 0, 140, 153, 0, 39, 29, 155, 0, 35, 29, 16, 100, 108, 4, 16, 30, 184, 0, 128, 153, 0, 22]
abbrev dktX2_drawn_0 : List UInt8 := dkwX2_drawn_0 ++ dktX2_drawn_1
theorem dksX2_drawn_0 : cX2_drawn.data.toList.drop 0 = dktX2_drawn_0 := by decide +kernel
theorem dksX2_drawn_1 : cX2_drawn.data.toList.drop 24 = dktX2_drawn_1 := dk_seg dksX2_drawn_0 24 rfl rfl
theorem dksX2_drawn_2 : cX2_drawn.data.toList.drop 48 = dktX2_drawn_2 := dk_seg dksX2_drawn_1 24 rfl rfl
theorem dksX2_drawn_3 : cX2_drawn.data.toList.drop 72 = dktX2_drawn_3 := dk_seg dksX2_drawn_2 24 rfl rfl
theorem dksX2_drawn_4 : cX2_drawn.data.toList.drop 94 = dktX2_drawn_4 := dk_seg dksX2_drawn_3 22 rfl rfl
theorem dksX2_drawn_5 : cX2_drawn.data.toList.drop 117 = dktX2_drawn_5 := dk_seg dksX2_drawn_4 23 rfl rfl
theorem dksX2_drawn_6 : cX2_drawn.data.toList.drop 141 = dktX2_drawn_6 := dk_seg dksX2_drawn_5 24 rfl rfl
theorem dX2_drawn_0 : decode cX2_drawn 0 = .ok (.iload_n 1, 1) := dk_27 (dk_at dksX2_drawn_0 0 rfl rfl)
theorem dX2_drawn_1 : decode cX2_drawn 1 = .ok (.invokestatic 140, 3) := dk_184 0 140 (dk_at dksX2_drawn_0 1 rfl rfl)
theorem dX2_drawn_4 : decode cX2_drawn 4 = .ok (.ifCond .eq 39, 3) := dk_153 0 39 (dk_at dksX2_drawn_0 4 rfl rfl)
theorem dX2_drawn_7 : decode cX2_drawn 7 = .ok (.iload_n 3, 1) := dk_29 (dk_at dksX2_drawn_0 7 rfl rfl)
theorem dX2_drawn_8 : decode cX2_drawn 8 = .ok (.ifCond .lt 35, 3) := dk_155 0 35 (dk_at dksX2_drawn_0 8 rfl rfl)
theorem dX2_drawn_11 : decode cX2_drawn 11 = .ok (.iload_n 3, 1) := dk_29 (dk_at dksX2_drawn_0 11 rfl rfl)
theorem dX2_drawn_12 : decode cX2_drawn 12 = .ok (.bipush 100, 2) := dk_16 100 (dk_at dksX2_drawn_0 12 rfl rfl)
theorem dX2_drawn_14 : decode cX2_drawn 14 = .ok (.idiv, 1) := dk_108 (dk_at dksX2_drawn_0 14 rfl rfl)
theorem dX2_drawn_15 : decode cX2_drawn 15 = .ok (.iconst 1, 1) := dk_4 (dk_at dksX2_drawn_0 15 rfl rfl)
theorem dX2_drawn_16 : decode cX2_drawn 16 = .ok (.bipush 30, 2) := dk_16 30 (dk_at dksX2_drawn_0 16 rfl rfl)
theorem dX2_drawn_18 : decode cX2_drawn 18 = .ok (.invokestatic 128, 3) := dk_184 0 128 (dk_at dksX2_drawn_0 18 rfl rfl)
theorem dX2_drawn_21 : decode cX2_drawn 21 = .ok (.ifCond .eq 22, 3) := dk_153 0 22 (dk_at dksX2_drawn_0 21 rfl rfl)
theorem dX2_drawn_24 : decode cX2_drawn 24 = .ok (.iload_n 3, 1) := dk_29 (dk_at dksX2_drawn_1 0 rfl rfl)
theorem dX2_drawn_25 : decode cX2_drawn 25 = .ok (.bipush 100, 2) := dk_16 100 (dk_at dksX2_drawn_1 1 rfl rfl)
theorem dX2_drawn_27 : decode cX2_drawn 27 = .ok (.irem, 1) := dk_112 (dk_at dksX2_drawn_1 3 rfl rfl)
theorem dX2_drawn_28 : decode cX2_drawn 28 = .ok (.bipush 12, 2) := dk_16 12 (dk_at dksX2_drawn_1 4 rfl rfl)
theorem dX2_drawn_30 : decode cX2_drawn 30 = .ok (.if_icmp .gt 13, 3) := dk_163 0 13 (dk_at dksX2_drawn_1 6 rfl rfl)
theorem dX2_drawn_33 : decode cX2_drawn 33 = .ok (.iload 4, 2) := dk_21 4 (dk_at dksX2_drawn_1 9 rfl rfl)
theorem dX2_drawn_35 : decode cX2_drawn 35 = .ok (.iconst 0, 1) := dk_3 (dk_at dksX2_drawn_1 11 rfl rfl)
theorem dX2_drawn_36 : decode cX2_drawn 36 = .ok (.iconst 1, 1) := dk_4 (dk_at dksX2_drawn_1 12 rfl rfl)
theorem dX2_drawn_37 : decode cX2_drawn 37 = .ok (.invokestatic 128, 3) := dk_184 0 128 (dk_at dksX2_drawn_1 13 rfl rfl)
theorem dX2_drawn_40 : decode cX2_drawn 40 = .ok (.ifCond .ne 5, 3) := dk_154 0 5 (dk_at dksX2_drawn_1 16 rfl rfl)
theorem dX2_drawn_43 : decode cX2_drawn 43 = .ok (.iconst (-1), 1) := dk_2 (dk_at dksX2_drawn_1 19 rfl rfl)
theorem dX2_drawn_44 : decode cX2_drawn 44 = .ok (.ireturn, 1) := dk_172 (dk_at dksX2_drawn_1 20 rfl rfl)
theorem dX2_drawn_45 : decode cX2_drawn 45 = .ok (.aload_n 0, 1) := dk_42 (dk_at dksX2_drawn_1 21 rfl rfl)
theorem dX2_drawn_46 : decode cX2_drawn 46 = .ok (.iload_n 1, 1) := dk_27 (dk_at dksX2_drawn_1 22 rfl rfl)
theorem dX2_drawn_47 : decode cX2_drawn 47 = .ok (.iconst 0, 1) := dk_3 (dk_at dksX2_drawn_1 23 rfl rfl)
theorem dX2_drawn_48 : decode cX2_drawn 48 = .ok (.invokevirtual 288, 3) := dk_182 1 32 (dk_at dksX2_drawn_2 0 rfl rfl)
theorem dX2_drawn_51 : decode cX2_drawn 51 = .ok (.istore 5, 2) := dk_54 5 (dk_at dksX2_drawn_2 3 rfl rfl)
theorem dX2_drawn_53 : decode cX2_drawn 53 = .ok (.iload 5, 2) := dk_21 5 (dk_at dksX2_drawn_2 5 rfl rfl)
theorem dX2_drawn_55 : decode cX2_drawn 55 = .ok (.ifCond .ge 6, 3) := dk_156 0 6 (dk_at dksX2_drawn_2 7 rfl rfl)
theorem dX2_drawn_58 : decode cX2_drawn 58 = .ok (.iload 5, 2) := dk_21 5 (dk_at dksX2_drawn_2 10 rfl rfl)
theorem dX2_drawn_60 : decode cX2_drawn 60 = .ok (.ireturn, 1) := dk_172 (dk_at dksX2_drawn_2 12 rfl rfl)
theorem dX2_drawn_61 : decode cX2_drawn 61 = .ok (.aload_n 0, 1) := dk_42 (dk_at dksX2_drawn_2 13 rfl rfl)
theorem dX2_drawn_62 : decode cX2_drawn 62 = .ok (.iload_n 1, 1) := dk_27 (dk_at dksX2_drawn_2 14 rfl rfl)
theorem dX2_drawn_63 : decode cX2_drawn 63 = .ok (.invokevirtual 291, 3) := dk_182 1 35 (dk_at dksX2_drawn_2 15 rfl rfl)
theorem dX2_drawn_66 : decode cX2_drawn 66 = .ok (.aload_n 0, 1) := dk_42 (dk_at dksX2_drawn_2 18 rfl rfl)
theorem dX2_drawn_67 : decode cX2_drawn 67 = .ok (.iload_n 2, 1) := dk_28 (dk_at dksX2_drawn_2 19 rfl rfl)
theorem dX2_drawn_68 : decode cX2_drawn 68 = .ok (.putfield 256, 3) := dk_181 1 0 (dk_at dksX2_drawn_2 20 rfl rfl)
theorem dX2_drawn_71 : decode cX2_drawn 71 = .ok (.aload_n 0, 1) := dk_42 (dk_at dksX2_drawn_2 23 rfl rfl)
theorem dX2_drawn_72 : decode cX2_drawn 72 = .ok (.iload_n 3, 1) := dk_29 (dk_at dksX2_drawn_3 0 rfl rfl)
theorem dX2_drawn_73 : decode cX2_drawn 73 = .ok (.bipush 100, 2) := dk_16 100 (dk_at dksX2_drawn_3 1 rfl rfl)
theorem dX2_drawn_75 : decode cX2_drawn 75 = .ok (.irem, 1) := dk_112 (dk_at dksX2_drawn_3 3 rfl rfl)
theorem dX2_drawn_76 : decode cX2_drawn 76 = .ok (.putfield 260, 3) := dk_181 1 4 (dk_at dksX2_drawn_3 4 rfl rfl)
theorem dX2_drawn_79 : decode cX2_drawn 79 = .ok (.iconst 0, 1) := dk_3 (dk_at dksX2_drawn_3 7 rfl rfl)
theorem dX2_drawn_80 : decode cX2_drawn 80 = .ok (.istore 6, 2) := dk_54 6 (dk_at dksX2_drawn_3 8 rfl rfl)
theorem dX2_drawn_82 : decode cX2_drawn 82 = .ok (.iconst 0, 1) := dk_3 (dk_at dksX2_drawn_3 10 rfl rfl)
theorem dX2_drawn_83 : decode cX2_drawn 83 = .ok (.istore 7, 2) := dk_54 7 (dk_at dksX2_drawn_3 11 rfl rfl)
theorem dX2_drawn_85 : decode cX2_drawn 85 = .ok (.iconst 0, 1) := dk_3 (dk_at dksX2_drawn_3 13 rfl rfl)
theorem dX2_drawn_86 : decode cX2_drawn 86 = .ok (.istore 8, 2) := dk_54 8 (dk_at dksX2_drawn_3 14 rfl rfl)
theorem dX2_drawn_88 : decode cX2_drawn 88 = .ok (.iload 8, 2) := dk_21 8 (dk_at dksX2_drawn_3 16 rfl rfl)
theorem dX2_drawn_90 : decode cX2_drawn 90 = .ok (.iload_n 3, 1) := dk_29 (dk_at dksX2_drawn_3 18 rfl rfl)
theorem dX2_drawn_91 : decode cX2_drawn 91 = .ok (.bipush 100, 2) := dk_16 100 (dk_at dksX2_drawn_3 19 rfl rfl)
theorem dX2_drawn_93 : decode cX2_drawn 93 = .ok (.idiv, 1) := dk_108 (dk_at dksX2_drawn_3 21 rfl rfl)
theorem dX2_drawn_94 : decode cX2_drawn 94 = .ok (.if_icmp .ge 35, 3) := dk_162 0 35 (dk_at dksX2_drawn_4 0 rfl rfl)
theorem dX2_drawn_97 : decode cX2_drawn 97 = .ok (.aload_n 0, 1) := dk_42 (dk_at dksX2_drawn_4 3 rfl rfl)
theorem dX2_drawn_98 : decode cX2_drawn 98 = .ok (.iconst 1, 1) := dk_4 (dk_at dksX2_drawn_4 4 rfl rfl)
theorem dX2_drawn_99 : decode cX2_drawn 99 = .ok (.invokevirtual 278, 3) := dk_182 1 22 (dk_at dksX2_drawn_4 5 rfl rfl)
theorem dX2_drawn_102 : decode cX2_drawn 102 = .ok (.aload_n 0, 1) := dk_42 (dk_at dksX2_drawn_4 8 rfl rfl)
theorem dX2_drawn_103 : decode cX2_drawn 103 = .ok (.invokevirtual 282, 3) := dk_182 1 26 (dk_at dksX2_drawn_4 9 rfl rfl)
theorem dX2_drawn_106 : decode cX2_drawn 106 = .ok (.istore 9, 2) := dk_54 9 (dk_at dksX2_drawn_4 12 rfl rfl)
theorem dX2_drawn_108 : decode cX2_drawn 108 = .ok (.iload 6, 2) := dk_21 6 (dk_at dksX2_drawn_4 14 rfl rfl)
theorem dX2_drawn_110 : decode cX2_drawn 110 = .ok (.iload 9, 2) := dk_21 9 (dk_at dksX2_drawn_4 16 rfl rfl)
theorem dX2_drawn_112 : decode cX2_drawn 112 = .ok (.iadd, 1) := dk_96 (dk_at dksX2_drawn_4 18 rfl rfl)
theorem dX2_drawn_113 : decode cX2_drawn 113 = .ok (.istore 6, 2) := dk_54 6 (dk_at dksX2_drawn_4 19 rfl rfl)
theorem dX2_drawn_115 : decode cX2_drawn 115 = .ok (.iload 9, 2) := dk_21 9 (dk_at dksX2_drawn_4 21 rfl rfl)
theorem dX2_drawn_117 : decode cX2_drawn 117 = .ok (.ifCond .ne 6, 3) := dk_154 0 6 (dk_at dksX2_drawn_5 0 rfl rfl)
theorem dX2_drawn_120 : decode cX2_drawn 120 = .ok (.iinc 7 1, 3) := dk_132 7 1 (dk_at dksX2_drawn_5 3 rfl rfl)
theorem dX2_drawn_123 : decode cX2_drawn 123 = .ok (.iinc 8 1, 3) := dk_132 8 1 (dk_at dksX2_drawn_5 6 rfl rfl)
theorem dX2_drawn_126 : decode cX2_drawn 126 = .ok (.goto (-38), 3) := dk_167 255 218 (dk_at dksX2_drawn_5 9 rfl rfl)
theorem dX2_drawn_129 : decode cX2_drawn 129 = .ok (.iload 4, 2) := dk_21 4 (dk_at dksX2_drawn_5 12 rfl rfl)
theorem dX2_drawn_131 : decode cX2_drawn 131 = .ok (.ifCond .ne 8, 3) := dk_154 0 8 (dk_at dksX2_drawn_5 14 rfl rfl)
theorem dX2_drawn_134 : decode cX2_drawn 134 = .ok (.iload 6, 2) := dk_21 6 (dk_at dksX2_drawn_5 17 rfl rfl)
theorem dX2_drawn_136 : decode cX2_drawn 136 = .ok (.goto 5, 3) := dk_167 0 5 (dk_at dksX2_drawn_5 19 rfl rfl)
theorem dX2_drawn_139 : decode cX2_drawn 139 = .ok (.iload 7, 2) := dk_21 7 (dk_at dksX2_drawn_5 22 rfl rfl)
theorem dX2_drawn_141 : decode cX2_drawn 141 = .ok (.ireturn, 1) := dk_172 (dk_at dksX2_drawn_6 0 rfl rfl)
abbrev cX2_swim : ByteArray := prog_31_method_78_code
def yX2_swim : MethodName := ⟨RX2, "swim", "(I)I"⟩
def dkwX2_swim_8 : List UInt8 := [180, 0, 72, 7, 92, 46, 4, 96, 79, 132, 5, 1, 167, 255, 162, 29, 172]
abbrev dktX2_swim_8 : List UInt8 := dkwX2_swim_8 ++ []
def dkwX2_swim_7 : List UInt8 := [180, 0, 33, 21, 5, 46, 16, 100, 162, 0, 6, 167, 0, 21, 42, 180, 0, 33, 21, 5, 3, 79, 42]
abbrev dktX2_swim_7 : List UInt8 := dkwX2_swim_7 ++ dktX2_swim_8
def dkwX2_swim_6 : List UInt8 := [79, 42, 180, 0, 72, 6, 92, 46, 4, 96, 79, 42, 180, 0, 33, 21, 5, 92, 46, 21, 4, 96, 79, 42]
abbrev dktX2_swim_6 : List UInt8 := dkwX2_swim_6 ++ dktX2_swim_7
def dkwX2_swim_5 : List UInt8 := [180, 0, 21, 21, 5, 46, 182, 1, 51, 16, 254, 159, 0, 24, 42, 180, 0, 36, 21, 5, 92, 46, 4, 96]
abbrev dktX2_swim_5 : List UInt8 := dkwX2_swim_5 ++ dktX2_swim_6
def dkwX2_swim_4 : List UInt8 := [180, 0, 72, 5, 92, 46, 29, 96, 79, 3, 54, 5, 21, 5, 42, 180, 0, 125, 162, 0, 91, 42, 42]
abbrev dktX2_swim_4 : List UInt8 := dkwX2_swim_4 ++ dktX2_swim_5
def dkwX2_swim_3 : List UInt8 := [180, 0, 72, 3, 92, 46, 4, 96, 79, 42, 180, 0, 72, 4, 92, 46, 42, 180, 0, 253, 96, 79, 42]
abbrev dktX2_swim_3 : List UInt8 := dkwX2_swim_3 ++ dktX2_swim_4
def dkwX2_swim_2 : List UInt8 := [180, 0, 103, 21, 5, 46, 184, 1, 48, 153, 0, 6, 132, 4, 1, 132, 5, 1, 167, 255, 228, 42]
abbrev dktX2_swim_2 : List UInt8 := dkwX2_swim_2 ++ dktX2_swim_3
def dkwX2_swim_1 : List UInt8 := [182, 1, 35, 42, 182, 1, 39, 62, 3, 54, 4, 3, 54, 5, 21, 5, 42, 180, 0, 253, 162, 0, 25, 42]
abbrev dktX2_swim_1 : List UInt8 := dkwX2_swim_1 ++ dktX2_swim_2
def dkwX2_swim_0 : List UInt8 := [27, 184, 0, 140, 154, 0, 5, 2, 172, 42, 27, 3, 182, 1, 32, 61, 28, 156, 0, 5, 28, 172, 42, 27]
abbrev dktX2_swim_0 : List UInt8 := dkwX2_swim_0 ++ dktX2_swim_1
theorem dksX2_swim_0 : cX2_swim.data.toList.drop 0 = dktX2_swim_0 := by decide +kernel
theorem dksX2_swim_1 : cX2_swim.data.toList.drop 24 = dktX2_swim_1 := dk_seg dksX2_swim_0 24 rfl rfl
theorem dksX2_swim_2 : cX2_swim.data.toList.drop 48 = dktX2_swim_2 := dk_seg dksX2_swim_1 24 rfl rfl
theorem dksX2_swim_3 : cX2_swim.data.toList.drop 70 = dktX2_swim_3 := dk_seg dksX2_swim_2 22 rfl rfl
theorem dksX2_swim_4 : cX2_swim.data.toList.drop 93 = dktX2_swim_4 := dk_seg dksX2_swim_3 23 rfl rfl
theorem dksX2_swim_5 : cX2_swim.data.toList.drop 116 = dktX2_swim_5 := dk_seg dksX2_swim_4 23 rfl rfl
theorem dksX2_swim_6 : cX2_swim.data.toList.drop 140 = dktX2_swim_6 := dk_seg dksX2_swim_5 24 rfl rfl
theorem dksX2_swim_7 : cX2_swim.data.toList.drop 164 = dktX2_swim_7 := dk_seg dksX2_swim_6 24 rfl rfl
theorem dksX2_swim_8 : cX2_swim.data.toList.drop 187 = dktX2_swim_8 := dk_seg dksX2_swim_7 23 rfl rfl
theorem dX2_swim_0 : decode cX2_swim 0 = .ok (.iload_n 1, 1) := dk_27 (dk_at dksX2_swim_0 0 rfl rfl)
theorem dX2_swim_1 : decode cX2_swim 1 = .ok (.invokestatic 140, 3) := dk_184 0 140 (dk_at dksX2_swim_0 1 rfl rfl)
theorem dX2_swim_4 : decode cX2_swim 4 = .ok (.ifCond .ne 5, 3) := dk_154 0 5 (dk_at dksX2_swim_0 4 rfl rfl)
theorem dX2_swim_7 : decode cX2_swim 7 = .ok (.iconst (-1), 1) := dk_2 (dk_at dksX2_swim_0 7 rfl rfl)
theorem dX2_swim_8 : decode cX2_swim 8 = .ok (.ireturn, 1) := dk_172 (dk_at dksX2_swim_0 8 rfl rfl)
theorem dX2_swim_9 : decode cX2_swim 9 = .ok (.aload_n 0, 1) := dk_42 (dk_at dksX2_swim_0 9 rfl rfl)
theorem dX2_swim_10 : decode cX2_swim 10 = .ok (.iload_n 1, 1) := dk_27 (dk_at dksX2_swim_0 10 rfl rfl)
theorem dX2_swim_11 : decode cX2_swim 11 = .ok (.iconst 0, 1) := dk_3 (dk_at dksX2_swim_0 11 rfl rfl)
theorem dX2_swim_12 : decode cX2_swim 12 = .ok (.invokevirtual 288, 3) := dk_182 1 32 (dk_at dksX2_swim_0 12 rfl rfl)
theorem dX2_swim_15 : decode cX2_swim 15 = .ok (.istore_n 2, 1) := dk_61 (dk_at dksX2_swim_0 15 rfl rfl)
theorem dX2_swim_16 : decode cX2_swim 16 = .ok (.iload_n 2, 1) := dk_28 (dk_at dksX2_swim_0 16 rfl rfl)
theorem dX2_swim_17 : decode cX2_swim 17 = .ok (.ifCond .ge 5, 3) := dk_156 0 5 (dk_at dksX2_swim_0 17 rfl rfl)
theorem dX2_swim_20 : decode cX2_swim 20 = .ok (.iload_n 2, 1) := dk_28 (dk_at dksX2_swim_0 20 rfl rfl)
theorem dX2_swim_21 : decode cX2_swim 21 = .ok (.ireturn, 1) := dk_172 (dk_at dksX2_swim_0 21 rfl rfl)
theorem dX2_swim_22 : decode cX2_swim 22 = .ok (.aload_n 0, 1) := dk_42 (dk_at dksX2_swim_0 22 rfl rfl)
theorem dX2_swim_23 : decode cX2_swim 23 = .ok (.iload_n 1, 1) := dk_27 (dk_at dksX2_swim_0 23 rfl rfl)
theorem dX2_swim_24 : decode cX2_swim 24 = .ok (.invokevirtual 291, 3) := dk_182 1 35 (dk_at dksX2_swim_1 0 rfl rfl)
theorem dX2_swim_27 : decode cX2_swim 27 = .ok (.aload_n 0, 1) := dk_42 (dk_at dksX2_swim_1 3 rfl rfl)
theorem dX2_swim_28 : decode cX2_swim 28 = .ok (.invokevirtual 295, 3) := dk_182 1 39 (dk_at dksX2_swim_1 4 rfl rfl)
theorem dX2_swim_31 : decode cX2_swim 31 = .ok (.istore_n 3, 1) := dk_62 (dk_at dksX2_swim_1 7 rfl rfl)
theorem dX2_swim_32 : decode cX2_swim 32 = .ok (.iconst 0, 1) := dk_3 (dk_at dksX2_swim_1 8 rfl rfl)
theorem dX2_swim_33 : decode cX2_swim 33 = .ok (.istore 4, 2) := dk_54 4 (dk_at dksX2_swim_1 9 rfl rfl)
theorem dX2_swim_35 : decode cX2_swim 35 = .ok (.iconst 0, 1) := dk_3 (dk_at dksX2_swim_1 11 rfl rfl)
theorem dX2_swim_36 : decode cX2_swim 36 = .ok (.istore 5, 2) := dk_54 5 (dk_at dksX2_swim_1 12 rfl rfl)
theorem dX2_swim_38 : decode cX2_swim 38 = .ok (.iload 5, 2) := dk_21 5 (dk_at dksX2_swim_1 14 rfl rfl)
theorem dX2_swim_40 : decode cX2_swim 40 = .ok (.aload_n 0, 1) := dk_42 (dk_at dksX2_swim_1 16 rfl rfl)
theorem dX2_swim_41 : decode cX2_swim 41 = .ok (.getfield 253, 3) := dk_180 0 253 (dk_at dksX2_swim_1 17 rfl rfl)
theorem dX2_swim_44 : decode cX2_swim 44 = .ok (.if_icmp .ge 25, 3) := dk_162 0 25 (dk_at dksX2_swim_1 20 rfl rfl)
theorem dX2_swim_47 : decode cX2_swim 47 = .ok (.aload_n 0, 1) := dk_42 (dk_at dksX2_swim_1 23 rfl rfl)
theorem dX2_swim_48 : decode cX2_swim 48 = .ok (.getfield 103, 3) := dk_180 0 103 (dk_at dksX2_swim_2 0 rfl rfl)
theorem dX2_swim_51 : decode cX2_swim 51 = .ok (.iload 5, 2) := dk_21 5 (dk_at dksX2_swim_2 3 rfl rfl)
theorem dX2_swim_53 : decode cX2_swim 53 = .ok (.iaload, 1) := dk_46 (dk_at dksX2_swim_2 5 rfl rfl)
theorem dX2_swim_54 : decode cX2_swim 54 = .ok (.invokestatic 304, 3) := dk_184 1 48 (dk_at dksX2_swim_2 6 rfl rfl)
theorem dX2_swim_57 : decode cX2_swim 57 = .ok (.ifCond .eq 6, 3) := dk_153 0 6 (dk_at dksX2_swim_2 9 rfl rfl)
theorem dX2_swim_60 : decode cX2_swim 60 = .ok (.iinc 4 1, 3) := dk_132 4 1 (dk_at dksX2_swim_2 12 rfl rfl)
theorem dX2_swim_63 : decode cX2_swim 63 = .ok (.iinc 5 1, 3) := dk_132 5 1 (dk_at dksX2_swim_2 15 rfl rfl)
theorem dX2_swim_66 : decode cX2_swim 66 = .ok (.goto (-28), 3) := dk_167 255 228 (dk_at dksX2_swim_2 18 rfl rfl)
theorem dX2_swim_69 : decode cX2_swim 69 = .ok (.aload_n 0, 1) := dk_42 (dk_at dksX2_swim_2 21 rfl rfl)
theorem dX2_swim_70 : decode cX2_swim 70 = .ok (.getfield 72, 3) := dk_180 0 72 (dk_at dksX2_swim_3 0 rfl rfl)
theorem dX2_swim_73 : decode cX2_swim 73 = .ok (.iconst 0, 1) := dk_3 (dk_at dksX2_swim_3 3 rfl rfl)
theorem dX2_swim_74 : decode cX2_swim 74 = .ok (.dup2, 1) := dk_92 (dk_at dksX2_swim_3 4 rfl rfl)
theorem dX2_swim_75 : decode cX2_swim 75 = .ok (.iaload, 1) := dk_46 (dk_at dksX2_swim_3 5 rfl rfl)
theorem dX2_swim_76 : decode cX2_swim 76 = .ok (.iconst 1, 1) := dk_4 (dk_at dksX2_swim_3 6 rfl rfl)
theorem dX2_swim_77 : decode cX2_swim 77 = .ok (.iadd, 1) := dk_96 (dk_at dksX2_swim_3 7 rfl rfl)
theorem dX2_swim_78 : decode cX2_swim 78 = .ok (.iastore, 1) := dk_79 (dk_at dksX2_swim_3 8 rfl rfl)
theorem dX2_swim_79 : decode cX2_swim 79 = .ok (.aload_n 0, 1) := dk_42 (dk_at dksX2_swim_3 9 rfl rfl)
theorem dX2_swim_80 : decode cX2_swim 80 = .ok (.getfield 72, 3) := dk_180 0 72 (dk_at dksX2_swim_3 10 rfl rfl)
theorem dX2_swim_83 : decode cX2_swim 83 = .ok (.iconst 1, 1) := dk_4 (dk_at dksX2_swim_3 13 rfl rfl)
theorem dX2_swim_84 : decode cX2_swim 84 = .ok (.dup2, 1) := dk_92 (dk_at dksX2_swim_3 14 rfl rfl)
theorem dX2_swim_85 : decode cX2_swim 85 = .ok (.iaload, 1) := dk_46 (dk_at dksX2_swim_3 15 rfl rfl)
theorem dX2_swim_86 : decode cX2_swim 86 = .ok (.aload_n 0, 1) := dk_42 (dk_at dksX2_swim_3 16 rfl rfl)
theorem dX2_swim_87 : decode cX2_swim 87 = .ok (.getfield 253, 3) := dk_180 0 253 (dk_at dksX2_swim_3 17 rfl rfl)
theorem dX2_swim_90 : decode cX2_swim 90 = .ok (.iadd, 1) := dk_96 (dk_at dksX2_swim_3 20 rfl rfl)
theorem dX2_swim_91 : decode cX2_swim 91 = .ok (.iastore, 1) := dk_79 (dk_at dksX2_swim_3 21 rfl rfl)
theorem dX2_swim_92 : decode cX2_swim 92 = .ok (.aload_n 0, 1) := dk_42 (dk_at dksX2_swim_3 22 rfl rfl)
theorem dX2_swim_93 : decode cX2_swim 93 = .ok (.getfield 72, 3) := dk_180 0 72 (dk_at dksX2_swim_4 0 rfl rfl)
theorem dX2_swim_96 : decode cX2_swim 96 = .ok (.iconst 2, 1) := dk_5 (dk_at dksX2_swim_4 3 rfl rfl)
theorem dX2_swim_97 : decode cX2_swim 97 = .ok (.dup2, 1) := dk_92 (dk_at dksX2_swim_4 4 rfl rfl)
theorem dX2_swim_98 : decode cX2_swim 98 = .ok (.iaload, 1) := dk_46 (dk_at dksX2_swim_4 5 rfl rfl)
theorem dX2_swim_99 : decode cX2_swim 99 = .ok (.iload_n 3, 1) := dk_29 (dk_at dksX2_swim_4 6 rfl rfl)
theorem dX2_swim_100 : decode cX2_swim 100 = .ok (.iadd, 1) := dk_96 (dk_at dksX2_swim_4 7 rfl rfl)
theorem dX2_swim_101 : decode cX2_swim 101 = .ok (.iastore, 1) := dk_79 (dk_at dksX2_swim_4 8 rfl rfl)
theorem dX2_swim_102 : decode cX2_swim 102 = .ok (.iconst 0, 1) := dk_3 (dk_at dksX2_swim_4 9 rfl rfl)
theorem dX2_swim_103 : decode cX2_swim 103 = .ok (.istore 5, 2) := dk_54 5 (dk_at dksX2_swim_4 10 rfl rfl)
theorem dX2_swim_105 : decode cX2_swim 105 = .ok (.iload 5, 2) := dk_21 5 (dk_at dksX2_swim_4 12 rfl rfl)
theorem dX2_swim_107 : decode cX2_swim 107 = .ok (.aload_n 0, 1) := dk_42 (dk_at dksX2_swim_4 14 rfl rfl)
theorem dX2_swim_108 : decode cX2_swim 108 = .ok (.getfield 125, 3) := dk_180 0 125 (dk_at dksX2_swim_4 15 rfl rfl)
theorem dX2_swim_111 : decode cX2_swim 111 = .ok (.if_icmp .ge 91, 3) := dk_162 0 91 (dk_at dksX2_swim_4 18 rfl rfl)
theorem dX2_swim_114 : decode cX2_swim 114 = .ok (.aload_n 0, 1) := dk_42 (dk_at dksX2_swim_4 21 rfl rfl)
theorem dX2_swim_115 : decode cX2_swim 115 = .ok (.aload_n 0, 1) := dk_42 (dk_at dksX2_swim_4 22 rfl rfl)
theorem dX2_swim_116 : decode cX2_swim 116 = .ok (.getfield 21, 3) := dk_180 0 21 (dk_at dksX2_swim_5 0 rfl rfl)
theorem dX2_swim_119 : decode cX2_swim 119 = .ok (.iload 5, 2) := dk_21 5 (dk_at dksX2_swim_5 3 rfl rfl)
theorem dX2_swim_121 : decode cX2_swim 121 = .ok (.iaload, 1) := dk_46 (dk_at dksX2_swim_5 5 rfl rfl)
theorem dX2_swim_122 : decode cX2_swim 122 = .ok (.invokevirtual 307, 3) := dk_182 1 51 (dk_at dksX2_swim_5 6 rfl rfl)
theorem dX2_swim_125 : decode cX2_swim 125 = .ok (.bipush (-2), 2) := dk_16 254 (dk_at dksX2_swim_5 9 rfl rfl)
theorem dX2_swim_127 : decode cX2_swim 127 = .ok (.if_icmp .eq 24, 3) := dk_159 0 24 (dk_at dksX2_swim_5 11 rfl rfl)
theorem dX2_swim_130 : decode cX2_swim 130 = .ok (.aload_n 0, 1) := dk_42 (dk_at dksX2_swim_5 14 rfl rfl)
theorem dX2_swim_131 : decode cX2_swim 131 = .ok (.getfield 36, 3) := dk_180 0 36 (dk_at dksX2_swim_5 15 rfl rfl)
theorem dX2_swim_134 : decode cX2_swim 134 = .ok (.iload 5, 2) := dk_21 5 (dk_at dksX2_swim_5 18 rfl rfl)
theorem dX2_swim_136 : decode cX2_swim 136 = .ok (.dup2, 1) := dk_92 (dk_at dksX2_swim_5 20 rfl rfl)
theorem dX2_swim_137 : decode cX2_swim 137 = .ok (.iaload, 1) := dk_46 (dk_at dksX2_swim_5 21 rfl rfl)
theorem dX2_swim_138 : decode cX2_swim 138 = .ok (.iconst 1, 1) := dk_4 (dk_at dksX2_swim_5 22 rfl rfl)
theorem dX2_swim_139 : decode cX2_swim 139 = .ok (.iadd, 1) := dk_96 (dk_at dksX2_swim_5 23 rfl rfl)
theorem dX2_swim_140 : decode cX2_swim 140 = .ok (.iastore, 1) := dk_79 (dk_at dksX2_swim_6 0 rfl rfl)
theorem dX2_swim_141 : decode cX2_swim 141 = .ok (.aload_n 0, 1) := dk_42 (dk_at dksX2_swim_6 1 rfl rfl)
theorem dX2_swim_142 : decode cX2_swim 142 = .ok (.getfield 72, 3) := dk_180 0 72 (dk_at dksX2_swim_6 2 rfl rfl)
theorem dX2_swim_145 : decode cX2_swim 145 = .ok (.iconst 3, 1) := dk_6 (dk_at dksX2_swim_6 5 rfl rfl)
theorem dX2_swim_146 : decode cX2_swim 146 = .ok (.dup2, 1) := dk_92 (dk_at dksX2_swim_6 6 rfl rfl)
theorem dX2_swim_147 : decode cX2_swim 147 = .ok (.iaload, 1) := dk_46 (dk_at dksX2_swim_6 7 rfl rfl)
theorem dX2_swim_148 : decode cX2_swim 148 = .ok (.iconst 1, 1) := dk_4 (dk_at dksX2_swim_6 8 rfl rfl)
theorem dX2_swim_149 : decode cX2_swim 149 = .ok (.iadd, 1) := dk_96 (dk_at dksX2_swim_6 9 rfl rfl)
theorem dX2_swim_150 : decode cX2_swim 150 = .ok (.iastore, 1) := dk_79 (dk_at dksX2_swim_6 10 rfl rfl)
theorem dX2_swim_151 : decode cX2_swim 151 = .ok (.aload_n 0, 1) := dk_42 (dk_at dksX2_swim_6 11 rfl rfl)
theorem dX2_swim_152 : decode cX2_swim 152 = .ok (.getfield 33, 3) := dk_180 0 33 (dk_at dksX2_swim_6 12 rfl rfl)
theorem dX2_swim_155 : decode cX2_swim 155 = .ok (.iload 5, 2) := dk_21 5 (dk_at dksX2_swim_6 15 rfl rfl)
theorem dX2_swim_157 : decode cX2_swim 157 = .ok (.dup2, 1) := dk_92 (dk_at dksX2_swim_6 17 rfl rfl)
theorem dX2_swim_158 : decode cX2_swim 158 = .ok (.iaload, 1) := dk_46 (dk_at dksX2_swim_6 18 rfl rfl)
theorem dX2_swim_159 : decode cX2_swim 159 = .ok (.iload 4, 2) := dk_21 4 (dk_at dksX2_swim_6 19 rfl rfl)
theorem dX2_swim_161 : decode cX2_swim 161 = .ok (.iadd, 1) := dk_96 (dk_at dksX2_swim_6 21 rfl rfl)
theorem dX2_swim_162 : decode cX2_swim 162 = .ok (.iastore, 1) := dk_79 (dk_at dksX2_swim_6 22 rfl rfl)
theorem dX2_swim_163 : decode cX2_swim 163 = .ok (.aload_n 0, 1) := dk_42 (dk_at dksX2_swim_6 23 rfl rfl)
theorem dX2_swim_164 : decode cX2_swim 164 = .ok (.getfield 33, 3) := dk_180 0 33 (dk_at dksX2_swim_7 0 rfl rfl)
theorem dX2_swim_167 : decode cX2_swim 167 = .ok (.iload 5, 2) := dk_21 5 (dk_at dksX2_swim_7 3 rfl rfl)
theorem dX2_swim_169 : decode cX2_swim 169 = .ok (.iaload, 1) := dk_46 (dk_at dksX2_swim_7 5 rfl rfl)
theorem dX2_swim_170 : decode cX2_swim 170 = .ok (.bipush 100, 2) := dk_16 100 (dk_at dksX2_swim_7 6 rfl rfl)
theorem dX2_swim_172 : decode cX2_swim 172 = .ok (.if_icmp .ge 6, 3) := dk_162 0 6 (dk_at dksX2_swim_7 8 rfl rfl)
theorem dX2_swim_175 : decode cX2_swim 175 = .ok (.goto 21, 3) := dk_167 0 21 (dk_at dksX2_swim_7 11 rfl rfl)
theorem dX2_swim_178 : decode cX2_swim 178 = .ok (.aload_n 0, 1) := dk_42 (dk_at dksX2_swim_7 14 rfl rfl)
theorem dX2_swim_179 : decode cX2_swim 179 = .ok (.getfield 33, 3) := dk_180 0 33 (dk_at dksX2_swim_7 15 rfl rfl)
theorem dX2_swim_182 : decode cX2_swim 182 = .ok (.iload 5, 2) := dk_21 5 (dk_at dksX2_swim_7 18 rfl rfl)
theorem dX2_swim_184 : decode cX2_swim 184 = .ok (.iconst 0, 1) := dk_3 (dk_at dksX2_swim_7 20 rfl rfl)
theorem dX2_swim_185 : decode cX2_swim 185 = .ok (.iastore, 1) := dk_79 (dk_at dksX2_swim_7 21 rfl rfl)
theorem dX2_swim_186 : decode cX2_swim 186 = .ok (.aload_n 0, 1) := dk_42 (dk_at dksX2_swim_7 22 rfl rfl)
theorem dX2_swim_187 : decode cX2_swim 187 = .ok (.getfield 72, 3) := dk_180 0 72 (dk_at dksX2_swim_8 0 rfl rfl)
theorem dX2_swim_190 : decode cX2_swim 190 = .ok (.iconst 4, 1) := dk_7 (dk_at dksX2_swim_8 3 rfl rfl)
theorem dX2_swim_191 : decode cX2_swim 191 = .ok (.dup2, 1) := dk_92 (dk_at dksX2_swim_8 4 rfl rfl)
theorem dX2_swim_192 : decode cX2_swim 192 = .ok (.iaload, 1) := dk_46 (dk_at dksX2_swim_8 5 rfl rfl)
theorem dX2_swim_193 : decode cX2_swim 193 = .ok (.iconst 1, 1) := dk_4 (dk_at dksX2_swim_8 6 rfl rfl)
theorem dX2_swim_194 : decode cX2_swim 194 = .ok (.iadd, 1) := dk_96 (dk_at dksX2_swim_8 7 rfl rfl)
theorem dX2_swim_195 : decode cX2_swim 195 = .ok (.iastore, 1) := dk_79 (dk_at dksX2_swim_8 8 rfl rfl)
theorem dX2_swim_196 : decode cX2_swim 196 = .ok (.iinc 5 1, 3) := dk_132 5 1 (dk_at dksX2_swim_8 9 rfl rfl)
theorem dX2_swim_199 : decode cX2_swim 199 = .ok (.goto (-94), 3) := dk_167 255 162 (dk_at dksX2_swim_8 12 rfl rfl)
theorem dX2_swim_202 : decode cX2_swim 202 = .ok (.iload_n 3, 1) := dk_29 (dk_at dksX2_swim_8 15 rfl rfl)
theorem dX2_swim_203 : decode cX2_swim 203 = .ok (.ireturn, 1) := dk_172 (dk_at dksX2_swim_8 16 rfl rfl)
abbrev cX2_led : ByteArray := prog_31_method_79_code
def yX2_led : MethodName := ⟨RX2, "led", "(I)I"⟩
def dkwX2_led_0 : List UInt8 := [27, 3, 7, 184, 0, 128, 153, 0, 12, 42, 180, 0, 72, 27, 46, 167, 0, 4, 2, 172]
abbrev dktX2_led_0 : List UInt8 := dkwX2_led_0 ++ []
theorem dksX2_led_0 : cX2_led.data.toList.drop 0 = dktX2_led_0 := by decide +kernel
theorem dX2_led_0 : decode cX2_led 0 = .ok (.iload_n 1, 1) := dk_27 (dk_at dksX2_led_0 0 rfl rfl)
theorem dX2_led_1 : decode cX2_led 1 = .ok (.iconst 0, 1) := dk_3 (dk_at dksX2_led_0 1 rfl rfl)
theorem dX2_led_2 : decode cX2_led 2 = .ok (.iconst 4, 1) := dk_7 (dk_at dksX2_led_0 2 rfl rfl)
theorem dX2_led_3 : decode cX2_led 3 = .ok (.invokestatic 128, 3) := dk_184 0 128 (dk_at dksX2_led_0 3 rfl rfl)
theorem dX2_led_6 : decode cX2_led 6 = .ok (.ifCond .eq 12, 3) := dk_153 0 12 (dk_at dksX2_led_0 6 rfl rfl)
theorem dX2_led_9 : decode cX2_led 9 = .ok (.aload_n 0, 1) := dk_42 (dk_at dksX2_led_0 9 rfl rfl)
theorem dX2_led_10 : decode cX2_led 10 = .ok (.getfield 72, 3) := dk_180 0 72 (dk_at dksX2_led_0 10 rfl rfl)
theorem dX2_led_13 : decode cX2_led 13 = .ok (.iload_n 1, 1) := dk_27 (dk_at dksX2_led_0 13 rfl rfl)
theorem dX2_led_14 : decode cX2_led 14 = .ok (.iaload, 1) := dk_46 (dk_at dksX2_led_0 14 rfl rfl)
theorem dX2_led_15 : decode cX2_led 15 = .ok (.goto 4, 3) := dk_167 0 4 (dk_at dksX2_led_0 15 rfl rfl)
theorem dX2_led_18 : decode cX2_led 18 = .ok (.iconst (-1), 1) := dk_2 (dk_at dksX2_led_0 18 rfl rfl)
theorem dX2_led_19 : decode cX2_led 19 = .ok (.ireturn, 1) := dk_172 (dk_at dksX2_led_0 19 rfl rfl)
abbrev cX2_image : ByteArray := prog_31_method_80_code
def yX2_image : MethodName := ⟨RX2, "image", "()I"⟩
def dkwX2_image_3 : List UInt8 := [79, 132, 1, 1, 167, 255, 236, 42, 180, 0, 72, 3, 46, 172]
abbrev dktX2_image_3 : List UInt8 := dkwX2_image_3 ++ []
def dkwX2_image_2 : List UInt8 := [132, 1, 1, 167, 255, 223, 3, 60, 27, 8, 162, 0, 21, 42, 180, 0, 81, 27, 42, 180, 0, 72, 27, 46]
abbrev dktX2_image_2 : List UInt8 := dkwX2_image_2 ++ dktX2_image_3
def dkwX2_image_1 : List UInt8 := [180, 0, 75, 27, 42, 180, 0, 33, 27, 46, 79, 42, 180, 0, 78, 27, 42, 180, 0, 36, 27, 46, 79]
abbrev dktX2_image_1 : List UInt8 := dkwX2_image_1 ++ dktX2_image_2
def dkwX2_image_0 : List UInt8 := [42, 4, 181, 1, 98, 42, 42, 180, 0, 125, 181, 1, 101, 3, 60, 27, 16, 8, 162, 0, 33, 42]
abbrev dktX2_image_0 : List UInt8 := dkwX2_image_0 ++ dktX2_image_1
theorem dksX2_image_0 : cX2_image.data.toList.drop 0 = dktX2_image_0 := by decide +kernel
theorem dksX2_image_1 : cX2_image.data.toList.drop 22 = dktX2_image_1 := dk_seg dksX2_image_0 22 rfl rfl
theorem dksX2_image_2 : cX2_image.data.toList.drop 45 = dktX2_image_2 := dk_seg dksX2_image_1 23 rfl rfl
theorem dksX2_image_3 : cX2_image.data.toList.drop 69 = dktX2_image_3 := dk_seg dksX2_image_2 24 rfl rfl
theorem dX2_image_0 : decode cX2_image 0 = .ok (.aload_n 0, 1) := dk_42 (dk_at dksX2_image_0 0 rfl rfl)
theorem dX2_image_1 : decode cX2_image 1 = .ok (.iconst 1, 1) := dk_4 (dk_at dksX2_image_0 1 rfl rfl)
theorem dX2_image_2 : decode cX2_image 2 = .ok (.putfield 354, 3) := dk_181 1 98 (dk_at dksX2_image_0 2 rfl rfl)
theorem dX2_image_5 : decode cX2_image 5 = .ok (.aload_n 0, 1) := dk_42 (dk_at dksX2_image_0 5 rfl rfl)
theorem dX2_image_6 : decode cX2_image 6 = .ok (.aload_n 0, 1) := dk_42 (dk_at dksX2_image_0 6 rfl rfl)
theorem dX2_image_7 : decode cX2_image 7 = .ok (.getfield 125, 3) := dk_180 0 125 (dk_at dksX2_image_0 7 rfl rfl)
theorem dX2_image_10 : decode cX2_image 10 = .ok (.putfield 357, 3) := dk_181 1 101 (dk_at dksX2_image_0 10 rfl rfl)
theorem dX2_image_13 : decode cX2_image 13 = .ok (.iconst 0, 1) := dk_3 (dk_at dksX2_image_0 13 rfl rfl)
theorem dX2_image_14 : decode cX2_image 14 = .ok (.istore_n 1, 1) := dk_60 (dk_at dksX2_image_0 14 rfl rfl)
theorem dX2_image_15 : decode cX2_image 15 = .ok (.iload_n 1, 1) := dk_27 (dk_at dksX2_image_0 15 rfl rfl)
theorem dX2_image_16 : decode cX2_image 16 = .ok (.bipush 8, 2) := dk_16 8 (dk_at dksX2_image_0 16 rfl rfl)
theorem dX2_image_18 : decode cX2_image 18 = .ok (.if_icmp .ge 33, 3) := dk_162 0 33 (dk_at dksX2_image_0 18 rfl rfl)
theorem dX2_image_21 : decode cX2_image 21 = .ok (.aload_n 0, 1) := dk_42 (dk_at dksX2_image_0 21 rfl rfl)
theorem dX2_image_22 : decode cX2_image 22 = .ok (.getfield 75, 3) := dk_180 0 75 (dk_at dksX2_image_1 0 rfl rfl)
theorem dX2_image_25 : decode cX2_image 25 = .ok (.iload_n 1, 1) := dk_27 (dk_at dksX2_image_1 3 rfl rfl)
theorem dX2_image_26 : decode cX2_image 26 = .ok (.aload_n 0, 1) := dk_42 (dk_at dksX2_image_1 4 rfl rfl)
theorem dX2_image_27 : decode cX2_image 27 = .ok (.getfield 33, 3) := dk_180 0 33 (dk_at dksX2_image_1 5 rfl rfl)
theorem dX2_image_30 : decode cX2_image 30 = .ok (.iload_n 1, 1) := dk_27 (dk_at dksX2_image_1 8 rfl rfl)
theorem dX2_image_31 : decode cX2_image 31 = .ok (.iaload, 1) := dk_46 (dk_at dksX2_image_1 9 rfl rfl)
theorem dX2_image_32 : decode cX2_image 32 = .ok (.iastore, 1) := dk_79 (dk_at dksX2_image_1 10 rfl rfl)
theorem dX2_image_33 : decode cX2_image 33 = .ok (.aload_n 0, 1) := dk_42 (dk_at dksX2_image_1 11 rfl rfl)
theorem dX2_image_34 : decode cX2_image 34 = .ok (.getfield 78, 3) := dk_180 0 78 (dk_at dksX2_image_1 12 rfl rfl)
theorem dX2_image_37 : decode cX2_image 37 = .ok (.iload_n 1, 1) := dk_27 (dk_at dksX2_image_1 15 rfl rfl)
theorem dX2_image_38 : decode cX2_image 38 = .ok (.aload_n 0, 1) := dk_42 (dk_at dksX2_image_1 16 rfl rfl)
theorem dX2_image_39 : decode cX2_image 39 = .ok (.getfield 36, 3) := dk_180 0 36 (dk_at dksX2_image_1 17 rfl rfl)
theorem dX2_image_42 : decode cX2_image 42 = .ok (.iload_n 1, 1) := dk_27 (dk_at dksX2_image_1 20 rfl rfl)
theorem dX2_image_43 : decode cX2_image 43 = .ok (.iaload, 1) := dk_46 (dk_at dksX2_image_1 21 rfl rfl)
theorem dX2_image_44 : decode cX2_image 44 = .ok (.iastore, 1) := dk_79 (dk_at dksX2_image_1 22 rfl rfl)
theorem dX2_image_45 : decode cX2_image 45 = .ok (.iinc 1 1, 3) := dk_132 1 1 (dk_at dksX2_image_2 0 rfl rfl)
theorem dX2_image_48 : decode cX2_image 48 = .ok (.goto (-33), 3) := dk_167 255 223 (dk_at dksX2_image_2 3 rfl rfl)
theorem dX2_image_51 : decode cX2_image 51 = .ok (.iconst 0, 1) := dk_3 (dk_at dksX2_image_2 6 rfl rfl)
theorem dX2_image_52 : decode cX2_image 52 = .ok (.istore_n 1, 1) := dk_60 (dk_at dksX2_image_2 7 rfl rfl)
theorem dX2_image_53 : decode cX2_image 53 = .ok (.iload_n 1, 1) := dk_27 (dk_at dksX2_image_2 8 rfl rfl)
theorem dX2_image_54 : decode cX2_image 54 = .ok (.iconst 5, 1) := dk_8 (dk_at dksX2_image_2 9 rfl rfl)
theorem dX2_image_55 : decode cX2_image 55 = .ok (.if_icmp .ge 21, 3) := dk_162 0 21 (dk_at dksX2_image_2 10 rfl rfl)
theorem dX2_image_58 : decode cX2_image 58 = .ok (.aload_n 0, 1) := dk_42 (dk_at dksX2_image_2 13 rfl rfl)
theorem dX2_image_59 : decode cX2_image 59 = .ok (.getfield 81, 3) := dk_180 0 81 (dk_at dksX2_image_2 14 rfl rfl)
theorem dX2_image_62 : decode cX2_image 62 = .ok (.iload_n 1, 1) := dk_27 (dk_at dksX2_image_2 17 rfl rfl)
theorem dX2_image_63 : decode cX2_image 63 = .ok (.aload_n 0, 1) := dk_42 (dk_at dksX2_image_2 18 rfl rfl)
theorem dX2_image_64 : decode cX2_image 64 = .ok (.getfield 72, 3) := dk_180 0 72 (dk_at dksX2_image_2 19 rfl rfl)
theorem dX2_image_67 : decode cX2_image 67 = .ok (.iload_n 1, 1) := dk_27 (dk_at dksX2_image_2 22 rfl rfl)
theorem dX2_image_68 : decode cX2_image 68 = .ok (.iaload, 1) := dk_46 (dk_at dksX2_image_2 23 rfl rfl)
theorem dX2_image_69 : decode cX2_image 69 = .ok (.iastore, 1) := dk_79 (dk_at dksX2_image_3 0 rfl rfl)
theorem dX2_image_70 : decode cX2_image 70 = .ok (.iinc 1 1, 3) := dk_132 1 1 (dk_at dksX2_image_3 1 rfl rfl)
theorem dX2_image_73 : decode cX2_image 73 = .ok (.goto (-20), 3) := dk_167 255 236 (dk_at dksX2_image_3 4 rfl rfl)
theorem dX2_image_76 : decode cX2_image 76 = .ok (.aload_n 0, 1) := dk_42 (dk_at dksX2_image_3 7 rfl rfl)
theorem dX2_image_77 : decode cX2_image 77 = .ok (.getfield 72, 3) := dk_180 0 72 (dk_at dksX2_image_3 8 rfl rfl)
theorem dX2_image_80 : decode cX2_image 80 = .ok (.iconst 0, 1) := dk_3 (dk_at dksX2_image_3 11 rfl rfl)
theorem dX2_image_81 : decode cX2_image 81 = .ok (.iaload, 1) := dk_46 (dk_at dksX2_image_3 12 rfl rfl)
theorem dX2_image_82 : decode cX2_image 82 = .ok (.ireturn, 1) := dk_172 (dk_at dksX2_image_3 13 rfl rfl)
abbrev cX2_back : ByteArray := prog_31_method_81_code
def yX2_back : MethodName := ⟨RX2, "back", "()I"⟩
def dkwX2_back_4 : List UInt8 := [167, 255, 236, 42, 180, 0, 72, 3, 46, 172]
abbrev dktX2_back_4 : List UInt8 := dkwX2_back_4 ++ []
def dkwX2_back_3 : List UInt8 := [3, 60, 27, 8, 162, 0, 21, 42, 180, 0, 72, 27, 42, 180, 0, 81, 27, 46, 79, 132, 1, 1]
abbrev dktX2_back_3 : List UInt8 := dkwX2_back_3 ++ dktX2_back_4
def dkwX2_back_2 : List UInt8 := [42, 180, 1, 101, 162, 0, 12, 42, 180, 0, 78, 27, 46, 167, 0, 4, 3, 79, 132, 1, 1, 167, 255, 199]
abbrev dktX2_back_2 : List UInt8 := dkwX2_back_2 ++ dktX2_back_3
def dkwX2_back_1 : List UInt8 := [42, 180, 1, 101, 162, 0, 12, 42, 180, 0, 75, 27, 46, 167, 0, 4, 3, 79, 42, 180, 0, 36, 27, 27]
abbrev dktX2_back_1 : List UInt8 := dkwX2_back_1 ++ dktX2_back_2
def dkwX2_back_0 : List UInt8 := [42, 180, 1, 98, 154, 0, 6, 16, 251, 172, 3, 60, 27, 16, 8, 162, 0, 57, 42, 180, 0, 33, 27, 27]
abbrev dktX2_back_0 : List UInt8 := dkwX2_back_0 ++ dktX2_back_1
theorem dksX2_back_0 : cX2_back.data.toList.drop 0 = dktX2_back_0 := by decide +kernel
theorem dksX2_back_1 : cX2_back.data.toList.drop 24 = dktX2_back_1 := dk_seg dksX2_back_0 24 rfl rfl
theorem dksX2_back_2 : cX2_back.data.toList.drop 48 = dktX2_back_2 := dk_seg dksX2_back_1 24 rfl rfl
theorem dksX2_back_3 : cX2_back.data.toList.drop 72 = dktX2_back_3 := dk_seg dksX2_back_2 24 rfl rfl
theorem dksX2_back_4 : cX2_back.data.toList.drop 94 = dktX2_back_4 := dk_seg dksX2_back_3 22 rfl rfl
theorem dX2_back_0 : decode cX2_back 0 = .ok (.aload_n 0, 1) := dk_42 (dk_at dksX2_back_0 0 rfl rfl)
theorem dX2_back_1 : decode cX2_back 1 = .ok (.getfield 354, 3) := dk_180 1 98 (dk_at dksX2_back_0 1 rfl rfl)
theorem dX2_back_4 : decode cX2_back 4 = .ok (.ifCond .ne 6, 3) := dk_154 0 6 (dk_at dksX2_back_0 4 rfl rfl)
theorem dX2_back_7 : decode cX2_back 7 = .ok (.bipush (-5), 2) := dk_16 251 (dk_at dksX2_back_0 7 rfl rfl)
theorem dX2_back_9 : decode cX2_back 9 = .ok (.ireturn, 1) := dk_172 (dk_at dksX2_back_0 9 rfl rfl)
theorem dX2_back_10 : decode cX2_back 10 = .ok (.iconst 0, 1) := dk_3 (dk_at dksX2_back_0 10 rfl rfl)
theorem dX2_back_11 : decode cX2_back 11 = .ok (.istore_n 1, 1) := dk_60 (dk_at dksX2_back_0 11 rfl rfl)
theorem dX2_back_12 : decode cX2_back 12 = .ok (.iload_n 1, 1) := dk_27 (dk_at dksX2_back_0 12 rfl rfl)
theorem dX2_back_13 : decode cX2_back 13 = .ok (.bipush 8, 2) := dk_16 8 (dk_at dksX2_back_0 13 rfl rfl)
theorem dX2_back_15 : decode cX2_back 15 = .ok (.if_icmp .ge 57, 3) := dk_162 0 57 (dk_at dksX2_back_0 15 rfl rfl)
theorem dX2_back_18 : decode cX2_back 18 = .ok (.aload_n 0, 1) := dk_42 (dk_at dksX2_back_0 18 rfl rfl)
theorem dX2_back_19 : decode cX2_back 19 = .ok (.getfield 33, 3) := dk_180 0 33 (dk_at dksX2_back_0 19 rfl rfl)
theorem dX2_back_22 : decode cX2_back 22 = .ok (.iload_n 1, 1) := dk_27 (dk_at dksX2_back_0 22 rfl rfl)
theorem dX2_back_23 : decode cX2_back 23 = .ok (.iload_n 1, 1) := dk_27 (dk_at dksX2_back_0 23 rfl rfl)
theorem dX2_back_24 : decode cX2_back 24 = .ok (.aload_n 0, 1) := dk_42 (dk_at dksX2_back_1 0 rfl rfl)
theorem dX2_back_25 : decode cX2_back 25 = .ok (.getfield 357, 3) := dk_180 1 101 (dk_at dksX2_back_1 1 rfl rfl)
theorem dX2_back_28 : decode cX2_back 28 = .ok (.if_icmp .ge 12, 3) := dk_162 0 12 (dk_at dksX2_back_1 4 rfl rfl)
theorem dX2_back_31 : decode cX2_back 31 = .ok (.aload_n 0, 1) := dk_42 (dk_at dksX2_back_1 7 rfl rfl)
theorem dX2_back_32 : decode cX2_back 32 = .ok (.getfield 75, 3) := dk_180 0 75 (dk_at dksX2_back_1 8 rfl rfl)
theorem dX2_back_35 : decode cX2_back 35 = .ok (.iload_n 1, 1) := dk_27 (dk_at dksX2_back_1 11 rfl rfl)
theorem dX2_back_36 : decode cX2_back 36 = .ok (.iaload, 1) := dk_46 (dk_at dksX2_back_1 12 rfl rfl)
theorem dX2_back_37 : decode cX2_back 37 = .ok (.goto 4, 3) := dk_167 0 4 (dk_at dksX2_back_1 13 rfl rfl)
theorem dX2_back_40 : decode cX2_back 40 = .ok (.iconst 0, 1) := dk_3 (dk_at dksX2_back_1 16 rfl rfl)
theorem dX2_back_41 : decode cX2_back 41 = .ok (.iastore, 1) := dk_79 (dk_at dksX2_back_1 17 rfl rfl)
theorem dX2_back_42 : decode cX2_back 42 = .ok (.aload_n 0, 1) := dk_42 (dk_at dksX2_back_1 18 rfl rfl)
theorem dX2_back_43 : decode cX2_back 43 = .ok (.getfield 36, 3) := dk_180 0 36 (dk_at dksX2_back_1 19 rfl rfl)
theorem dX2_back_46 : decode cX2_back 46 = .ok (.iload_n 1, 1) := dk_27 (dk_at dksX2_back_1 22 rfl rfl)
theorem dX2_back_47 : decode cX2_back 47 = .ok (.iload_n 1, 1) := dk_27 (dk_at dksX2_back_1 23 rfl rfl)
theorem dX2_back_48 : decode cX2_back 48 = .ok (.aload_n 0, 1) := dk_42 (dk_at dksX2_back_2 0 rfl rfl)
theorem dX2_back_49 : decode cX2_back 49 = .ok (.getfield 357, 3) := dk_180 1 101 (dk_at dksX2_back_2 1 rfl rfl)
theorem dX2_back_52 : decode cX2_back 52 = .ok (.if_icmp .ge 12, 3) := dk_162 0 12 (dk_at dksX2_back_2 4 rfl rfl)
theorem dX2_back_55 : decode cX2_back 55 = .ok (.aload_n 0, 1) := dk_42 (dk_at dksX2_back_2 7 rfl rfl)
theorem dX2_back_56 : decode cX2_back 56 = .ok (.getfield 78, 3) := dk_180 0 78 (dk_at dksX2_back_2 8 rfl rfl)
theorem dX2_back_59 : decode cX2_back 59 = .ok (.iload_n 1, 1) := dk_27 (dk_at dksX2_back_2 11 rfl rfl)
theorem dX2_back_60 : decode cX2_back 60 = .ok (.iaload, 1) := dk_46 (dk_at dksX2_back_2 12 rfl rfl)
theorem dX2_back_61 : decode cX2_back 61 = .ok (.goto 4, 3) := dk_167 0 4 (dk_at dksX2_back_2 13 rfl rfl)
theorem dX2_back_64 : decode cX2_back 64 = .ok (.iconst 0, 1) := dk_3 (dk_at dksX2_back_2 16 rfl rfl)
theorem dX2_back_65 : decode cX2_back 65 = .ok (.iastore, 1) := dk_79 (dk_at dksX2_back_2 17 rfl rfl)
theorem dX2_back_66 : decode cX2_back 66 = .ok (.iinc 1 1, 3) := dk_132 1 1 (dk_at dksX2_back_2 18 rfl rfl)
theorem dX2_back_69 : decode cX2_back 69 = .ok (.goto (-57), 3) := dk_167 255 199 (dk_at dksX2_back_2 21 rfl rfl)
theorem dX2_back_72 : decode cX2_back 72 = .ok (.iconst 0, 1) := dk_3 (dk_at dksX2_back_3 0 rfl rfl)
theorem dX2_back_73 : decode cX2_back 73 = .ok (.istore_n 1, 1) := dk_60 (dk_at dksX2_back_3 1 rfl rfl)
theorem dX2_back_74 : decode cX2_back 74 = .ok (.iload_n 1, 1) := dk_27 (dk_at dksX2_back_3 2 rfl rfl)
theorem dX2_back_75 : decode cX2_back 75 = .ok (.iconst 5, 1) := dk_8 (dk_at dksX2_back_3 3 rfl rfl)
theorem dX2_back_76 : decode cX2_back 76 = .ok (.if_icmp .ge 21, 3) := dk_162 0 21 (dk_at dksX2_back_3 4 rfl rfl)
theorem dX2_back_79 : decode cX2_back 79 = .ok (.aload_n 0, 1) := dk_42 (dk_at dksX2_back_3 7 rfl rfl)
theorem dX2_back_80 : decode cX2_back 80 = .ok (.getfield 72, 3) := dk_180 0 72 (dk_at dksX2_back_3 8 rfl rfl)
theorem dX2_back_83 : decode cX2_back 83 = .ok (.iload_n 1, 1) := dk_27 (dk_at dksX2_back_3 11 rfl rfl)
theorem dX2_back_84 : decode cX2_back 84 = .ok (.aload_n 0, 1) := dk_42 (dk_at dksX2_back_3 12 rfl rfl)
theorem dX2_back_85 : decode cX2_back 85 = .ok (.getfield 81, 3) := dk_180 0 81 (dk_at dksX2_back_3 13 rfl rfl)
theorem dX2_back_88 : decode cX2_back 88 = .ok (.iload_n 1, 1) := dk_27 (dk_at dksX2_back_3 16 rfl rfl)
theorem dX2_back_89 : decode cX2_back 89 = .ok (.iaload, 1) := dk_46 (dk_at dksX2_back_3 17 rfl rfl)
theorem dX2_back_90 : decode cX2_back 90 = .ok (.iastore, 1) := dk_79 (dk_at dksX2_back_3 18 rfl rfl)
theorem dX2_back_91 : decode cX2_back 91 = .ok (.iinc 1 1, 3) := dk_132 1 1 (dk_at dksX2_back_3 19 rfl rfl)
theorem dX2_back_94 : decode cX2_back 94 = .ok (.goto (-20), 3) := dk_167 255 236 (dk_at dksX2_back_4 0 rfl rfl)
theorem dX2_back_97 : decode cX2_back 97 = .ok (.aload_n 0, 1) := dk_42 (dk_at dksX2_back_4 3 rfl rfl)
theorem dX2_back_98 : decode cX2_back 98 = .ok (.getfield 72, 3) := dk_180 0 72 (dk_at dksX2_back_4 4 rfl rfl)
theorem dX2_back_101 : decode cX2_back 101 = .ok (.iconst 0, 1) := dk_3 (dk_at dksX2_back_4 7 rfl rfl)
theorem dX2_back_102 : decode cX2_back 102 = .ok (.iaload, 1) := dk_46 (dk_at dksX2_back_4 8 rfl rfl)
theorem dX2_back_103 : decode cX2_back 103 = .ok (.ireturn, 1) := dk_172 (dk_at dksX2_back_4 9 rfl rfl)
abbrev cX2_body : ByteArray := prog_31_method_88_code
def yX2_body : MethodName := ⟨RX2, "body", "(I)I"⟩
def dkwX2_body_1 : List UInt8 := [42, 180, 0, 87, 42, 180, 1, 125, 27, 79, 42, 89, 180, 1, 125, 90, 4, 96, 181, 1, 125, 172]
abbrev dktX2_body_1 : List UInt8 := dkwX2_body_1 ++ []
def dkwX2_body_0 : List UInt8 := [27, 3, 16, 7, 184, 0, 128, 154, 0, 5, 2, 172, 42, 180, 1, 125, 16, 50, 160, 0, 6, 16, 253, 172]
abbrev dktX2_body_0 : List UInt8 := dkwX2_body_0 ++ dktX2_body_1
theorem dksX2_body_0 : cX2_body.data.toList.drop 0 = dktX2_body_0 := by decide +kernel
theorem dksX2_body_1 : cX2_body.data.toList.drop 24 = dktX2_body_1 := dk_seg dksX2_body_0 24 rfl rfl
theorem dX2_body_0 : decode cX2_body 0 = .ok (.iload_n 1, 1) := dk_27 (dk_at dksX2_body_0 0 rfl rfl)
theorem dX2_body_1 : decode cX2_body 1 = .ok (.iconst 0, 1) := dk_3 (dk_at dksX2_body_0 1 rfl rfl)
theorem dX2_body_2 : decode cX2_body 2 = .ok (.bipush 7, 2) := dk_16 7 (dk_at dksX2_body_0 2 rfl rfl)
theorem dX2_body_4 : decode cX2_body 4 = .ok (.invokestatic 128, 3) := dk_184 0 128 (dk_at dksX2_body_0 4 rfl rfl)
theorem dX2_body_7 : decode cX2_body 7 = .ok (.ifCond .ne 5, 3) := dk_154 0 5 (dk_at dksX2_body_0 7 rfl rfl)
theorem dX2_body_10 : decode cX2_body 10 = .ok (.iconst (-1), 1) := dk_2 (dk_at dksX2_body_0 10 rfl rfl)
theorem dX2_body_11 : decode cX2_body 11 = .ok (.ireturn, 1) := dk_172 (dk_at dksX2_body_0 11 rfl rfl)
theorem dX2_body_12 : decode cX2_body 12 = .ok (.aload_n 0, 1) := dk_42 (dk_at dksX2_body_0 12 rfl rfl)
theorem dX2_body_13 : decode cX2_body 13 = .ok (.getfield 381, 3) := dk_180 1 125 (dk_at dksX2_body_0 13 rfl rfl)
theorem dX2_body_16 : decode cX2_body 16 = .ok (.bipush 50, 2) := dk_16 50 (dk_at dksX2_body_0 16 rfl rfl)
theorem dX2_body_18 : decode cX2_body 18 = .ok (.if_icmp .ne 6, 3) := dk_160 0 6 (dk_at dksX2_body_0 18 rfl rfl)
theorem dX2_body_21 : decode cX2_body 21 = .ok (.bipush (-3), 2) := dk_16 253 (dk_at dksX2_body_0 21 rfl rfl)
theorem dX2_body_23 : decode cX2_body 23 = .ok (.ireturn, 1) := dk_172 (dk_at dksX2_body_0 23 rfl rfl)
theorem dX2_body_24 : decode cX2_body 24 = .ok (.aload_n 0, 1) := dk_42 (dk_at dksX2_body_1 0 rfl rfl)
theorem dX2_body_25 : decode cX2_body 25 = .ok (.getfield 87, 3) := dk_180 0 87 (dk_at dksX2_body_1 1 rfl rfl)
theorem dX2_body_28 : decode cX2_body 28 = .ok (.aload_n 0, 1) := dk_42 (dk_at dksX2_body_1 4 rfl rfl)
theorem dX2_body_29 : decode cX2_body 29 = .ok (.getfield 381, 3) := dk_180 1 125 (dk_at dksX2_body_1 5 rfl rfl)
theorem dX2_body_32 : decode cX2_body 32 = .ok (.iload_n 1, 1) := dk_27 (dk_at dksX2_body_1 8 rfl rfl)
theorem dX2_body_33 : decode cX2_body 33 = .ok (.iastore, 1) := dk_79 (dk_at dksX2_body_1 9 rfl rfl)
theorem dX2_body_34 : decode cX2_body 34 = .ok (.aload_n 0, 1) := dk_42 (dk_at dksX2_body_1 10 rfl rfl)
theorem dX2_body_35 : decode cX2_body 35 = .ok (.dup, 1) := dk_89 (dk_at dksX2_body_1 11 rfl rfl)
theorem dX2_body_36 : decode cX2_body 36 = .ok (.getfield 381, 3) := dk_180 1 125 (dk_at dksX2_body_1 12 rfl rfl)
theorem dX2_body_39 : decode cX2_body 39 = .ok (.dup_x1, 1) := dk_90 (dk_at dksX2_body_1 15 rfl rfl)
theorem dX2_body_40 : decode cX2_body 40 = .ok (.iconst 1, 1) := dk_4 (dk_at dksX2_body_1 16 rfl rfl)
theorem dX2_body_41 : decode cX2_body 41 = .ok (.iadd, 1) := dk_96 (dk_at dksX2_body_1 17 rfl rfl)
theorem dX2_body_42 : decode cX2_body 42 = .ok (.putfield 381, 3) := dk_181 1 125 (dk_at dksX2_body_1 18 rfl rfl)
theorem dX2_body_45 : decode cX2_body 45 = .ok (.ireturn, 1) := dk_172 (dk_at dksX2_body_1 21 rfl rfl)
abbrev cX2_act : ByteArray := prog_31_method_89_code
def yX2_act : MethodName := ⟨RX2, "act", "(III)I"⟩
def dkwX2_act_3 : List UInt8 := [5, 160, 0, 14, 42, 27, 21, 4, 29, 182, 1, 119, 167, 0, 11, 42, 27, 21, 4, 29, 182, 1, 122, 172]
abbrev dktX2_act_3 : List UInt8 := dkwX2_act_3 ++ []
def dkwX2_act_2 : List UInt8 := [29, 182, 1, 110, 167, 0, 43, 28, 4, 160, 0, 14, 42, 27, 21, 4, 29, 182, 1, 116, 167, 0, 27, 28]
abbrev dktX2_act_2 : List UInt8 := dkwX2_act_2 ++ dktX2_act_3
def dkwX2_act_1 : List UInt8 := [184, 0, 128, 154, 0, 5, 3, 172, 42, 180, 0, 87, 27, 46, 54, 4, 28, 154, 0, 14, 42, 27, 21, 4]
abbrev dktX2_act_1 : List UInt8 := dkwX2_act_1 ++ dktX2_act_2
def dkwX2_act_0 : List UInt8 := [42, 3, 181, 1, 104, 27, 3, 42, 180, 1, 125, 4, 100, 184, 0, 128, 153, 0, 12, 28, 3, 6]
abbrev dktX2_act_0 : List UInt8 := dkwX2_act_0 ++ dktX2_act_1
theorem dksX2_act_0 : cX2_act.data.toList.drop 0 = dktX2_act_0 := by decide +kernel
theorem dksX2_act_1 : cX2_act.data.toList.drop 22 = dktX2_act_1 := dk_seg dksX2_act_0 22 rfl rfl
theorem dksX2_act_2 : cX2_act.data.toList.drop 46 = dktX2_act_2 := dk_seg dksX2_act_1 24 rfl rfl
theorem dksX2_act_3 : cX2_act.data.toList.drop 70 = dktX2_act_3 := dk_seg dksX2_act_2 24 rfl rfl
theorem dX2_act_0 : decode cX2_act 0 = .ok (.aload_n 0, 1) := dk_42 (dk_at dksX2_act_0 0 rfl rfl)
theorem dX2_act_1 : decode cX2_act 1 = .ok (.iconst 0, 1) := dk_3 (dk_at dksX2_act_0 1 rfl rfl)
theorem dX2_act_2 : decode cX2_act 2 = .ok (.putfield 360, 3) := dk_181 1 104 (dk_at dksX2_act_0 2 rfl rfl)
theorem dX2_act_5 : decode cX2_act 5 = .ok (.iload_n 1, 1) := dk_27 (dk_at dksX2_act_0 5 rfl rfl)
theorem dX2_act_6 : decode cX2_act 6 = .ok (.iconst 0, 1) := dk_3 (dk_at dksX2_act_0 6 rfl rfl)
theorem dX2_act_7 : decode cX2_act 7 = .ok (.aload_n 0, 1) := dk_42 (dk_at dksX2_act_0 7 rfl rfl)
theorem dX2_act_8 : decode cX2_act 8 = .ok (.getfield 381, 3) := dk_180 1 125 (dk_at dksX2_act_0 8 rfl rfl)
theorem dX2_act_11 : decode cX2_act 11 = .ok (.iconst 1, 1) := dk_4 (dk_at dksX2_act_0 11 rfl rfl)
theorem dX2_act_12 : decode cX2_act 12 = .ok (.isub, 1) := dk_100 (dk_at dksX2_act_0 12 rfl rfl)
theorem dX2_act_13 : decode cX2_act 13 = .ok (.invokestatic 128, 3) := dk_184 0 128 (dk_at dksX2_act_0 13 rfl rfl)
theorem dX2_act_16 : decode cX2_act 16 = .ok (.ifCond .eq 12, 3) := dk_153 0 12 (dk_at dksX2_act_0 16 rfl rfl)
theorem dX2_act_19 : decode cX2_act 19 = .ok (.iload_n 2, 1) := dk_28 (dk_at dksX2_act_0 19 rfl rfl)
theorem dX2_act_20 : decode cX2_act 20 = .ok (.iconst 0, 1) := dk_3 (dk_at dksX2_act_0 20 rfl rfl)
theorem dX2_act_21 : decode cX2_act 21 = .ok (.iconst 3, 1) := dk_6 (dk_at dksX2_act_0 21 rfl rfl)
theorem dX2_act_22 : decode cX2_act 22 = .ok (.invokestatic 128, 3) := dk_184 0 128 (dk_at dksX2_act_1 0 rfl rfl)
theorem dX2_act_25 : decode cX2_act 25 = .ok (.ifCond .ne 5, 3) := dk_154 0 5 (dk_at dksX2_act_1 3 rfl rfl)
theorem dX2_act_28 : decode cX2_act 28 = .ok (.iconst 0, 1) := dk_3 (dk_at dksX2_act_1 6 rfl rfl)
theorem dX2_act_29 : decode cX2_act 29 = .ok (.ireturn, 1) := dk_172 (dk_at dksX2_act_1 7 rfl rfl)
theorem dX2_act_30 : decode cX2_act 30 = .ok (.aload_n 0, 1) := dk_42 (dk_at dksX2_act_1 8 rfl rfl)
theorem dX2_act_31 : decode cX2_act 31 = .ok (.getfield 87, 3) := dk_180 0 87 (dk_at dksX2_act_1 9 rfl rfl)
theorem dX2_act_34 : decode cX2_act 34 = .ok (.iload_n 1, 1) := dk_27 (dk_at dksX2_act_1 12 rfl rfl)
theorem dX2_act_35 : decode cX2_act 35 = .ok (.iaload, 1) := dk_46 (dk_at dksX2_act_1 13 rfl rfl)
theorem dX2_act_36 : decode cX2_act 36 = .ok (.istore 4, 2) := dk_54 4 (dk_at dksX2_act_1 14 rfl rfl)
theorem dX2_act_38 : decode cX2_act 38 = .ok (.iload_n 2, 1) := dk_28 (dk_at dksX2_act_1 16 rfl rfl)
theorem dX2_act_39 : decode cX2_act 39 = .ok (.ifCond .ne 14, 3) := dk_154 0 14 (dk_at dksX2_act_1 17 rfl rfl)
theorem dX2_act_42 : decode cX2_act 42 = .ok (.aload_n 0, 1) := dk_42 (dk_at dksX2_act_1 20 rfl rfl)
theorem dX2_act_43 : decode cX2_act 43 = .ok (.iload_n 1, 1) := dk_27 (dk_at dksX2_act_1 21 rfl rfl)
theorem dX2_act_44 : decode cX2_act 44 = .ok (.iload 4, 2) := dk_21 4 (dk_at dksX2_act_1 22 rfl rfl)
theorem dX2_act_46 : decode cX2_act 46 = .ok (.iload_n 3, 1) := dk_29 (dk_at dksX2_act_2 0 rfl rfl)
theorem dX2_act_47 : decode cX2_act 47 = .ok (.invokevirtual 366, 3) := dk_182 1 110 (dk_at dksX2_act_2 1 rfl rfl)
theorem dX2_act_50 : decode cX2_act 50 = .ok (.goto 43, 3) := dk_167 0 43 (dk_at dksX2_act_2 4 rfl rfl)
theorem dX2_act_53 : decode cX2_act 53 = .ok (.iload_n 2, 1) := dk_28 (dk_at dksX2_act_2 7 rfl rfl)
theorem dX2_act_54 : decode cX2_act 54 = .ok (.iconst 1, 1) := dk_4 (dk_at dksX2_act_2 8 rfl rfl)
theorem dX2_act_55 : decode cX2_act 55 = .ok (.if_icmp .ne 14, 3) := dk_160 0 14 (dk_at dksX2_act_2 9 rfl rfl)
theorem dX2_act_58 : decode cX2_act 58 = .ok (.aload_n 0, 1) := dk_42 (dk_at dksX2_act_2 12 rfl rfl)
theorem dX2_act_59 : decode cX2_act 59 = .ok (.iload_n 1, 1) := dk_27 (dk_at dksX2_act_2 13 rfl rfl)
theorem dX2_act_60 : decode cX2_act 60 = .ok (.iload 4, 2) := dk_21 4 (dk_at dksX2_act_2 14 rfl rfl)
theorem dX2_act_62 : decode cX2_act 62 = .ok (.iload_n 3, 1) := dk_29 (dk_at dksX2_act_2 16 rfl rfl)
theorem dX2_act_63 : decode cX2_act 63 = .ok (.invokevirtual 372, 3) := dk_182 1 116 (dk_at dksX2_act_2 17 rfl rfl)
theorem dX2_act_66 : decode cX2_act 66 = .ok (.goto 27, 3) := dk_167 0 27 (dk_at dksX2_act_2 20 rfl rfl)
theorem dX2_act_69 : decode cX2_act 69 = .ok (.iload_n 2, 1) := dk_28 (dk_at dksX2_act_2 23 rfl rfl)
theorem dX2_act_70 : decode cX2_act 70 = .ok (.iconst 2, 1) := dk_5 (dk_at dksX2_act_3 0 rfl rfl)
theorem dX2_act_71 : decode cX2_act 71 = .ok (.if_icmp .ne 14, 3) := dk_160 0 14 (dk_at dksX2_act_3 1 rfl rfl)
theorem dX2_act_74 : decode cX2_act 74 = .ok (.aload_n 0, 1) := dk_42 (dk_at dksX2_act_3 4 rfl rfl)
theorem dX2_act_75 : decode cX2_act 75 = .ok (.iload_n 1, 1) := dk_27 (dk_at dksX2_act_3 5 rfl rfl)
theorem dX2_act_76 : decode cX2_act 76 = .ok (.iload 4, 2) := dk_21 4 (dk_at dksX2_act_3 6 rfl rfl)
theorem dX2_act_78 : decode cX2_act 78 = .ok (.iload_n 3, 1) := dk_29 (dk_at dksX2_act_3 8 rfl rfl)
theorem dX2_act_79 : decode cX2_act 79 = .ok (.invokevirtual 375, 3) := dk_182 1 119 (dk_at dksX2_act_3 9 rfl rfl)
theorem dX2_act_82 : decode cX2_act 82 = .ok (.goto 11, 3) := dk_167 0 11 (dk_at dksX2_act_3 12 rfl rfl)
theorem dX2_act_85 : decode cX2_act 85 = .ok (.aload_n 0, 1) := dk_42 (dk_at dksX2_act_3 15 rfl rfl)
theorem dX2_act_86 : decode cX2_act 86 = .ok (.iload_n 1, 1) := dk_27 (dk_at dksX2_act_3 16 rfl rfl)
theorem dX2_act_87 : decode cX2_act 87 = .ok (.iload 4, 2) := dk_21 4 (dk_at dksX2_act_3 17 rfl rfl)
theorem dX2_act_89 : decode cX2_act 89 = .ok (.iload_n 3, 1) := dk_29 (dk_at dksX2_act_3 19 rfl rfl)
theorem dX2_act_90 : decode cX2_act 90 = .ok (.invokevirtual 378, 3) := dk_182 1 122 (dk_at dksX2_act_3 20 rfl rfl)
theorem dX2_act_93 : decode cX2_act 93 = .ok (.ireturn, 1) := dk_172 (dk_at dksX2_act_3 23 rfl rfl)
abbrev cX2_countsBy : ByteArray := prog_31_method_84_code
def yX2_countsBy : MethodName := ⟨RX2, "countsBy", "(III)I"⟩
def dkwX2_countsBy_4 : List UInt8 := [182, 1, 110, 172]
abbrev dktX2_countsBy_4 : List UInt8 := dkwX2_countsBy_4 ++ []
def dkwX2_countsBy_3 : List UInt8 := [172, 42, 16, 70, 182, 1, 107, 42, 27, 3, 29, 182, 1, 110, 5, 104, 172, 42, 27, 28, 184, 1, 113, 29]
abbrev dktX2_countsBy_3 : List UInt8 := dkwX2_countsBy_3 ++ dktX2_countsBy_4
def dkwX2_countsBy_2 : List UInt8 := [42, 4, 182, 1, 107, 29, 27, 96, 172, 42, 16, 20, 182, 1, 107, 42, 27, 3, 29, 182, 1, 110, 6, 96]
abbrev dktX2_countsBy_2 : List UInt8 := dkwX2_countsBy_2 ++ dktX2_countsBy_3
def dkwX2_countsBy_1 : List UInt8 := [171, 0, 0, 0, 0, 0, 76, 0, 0, 0, 3, 0, 0, 0, 0, 0, 0, 0, 35, 0, 0, 0, 1, 0, 0, 0, 44, 0, 0, 0, 6, 0, 0, 0, 60]
abbrev dktX2_countsBy_1 : List UInt8 := dkwX2_countsBy_1 ++ dktX2_countsBy_2
def dkwX2_countsBy_0 : List UInt8 := [28]
abbrev dktX2_countsBy_0 : List UInt8 := dkwX2_countsBy_0 ++ dktX2_countsBy_1
theorem dksX2_countsBy_0 : cX2_countsBy.data.toList.drop 0 = dktX2_countsBy_0 := by decide +kernel
theorem dksX2_countsBy_1 : cX2_countsBy.data.toList.drop 1 = dktX2_countsBy_1 := dk_seg dksX2_countsBy_0 1 rfl rfl
theorem dksX2_countsBy_2 : cX2_countsBy.data.toList.drop 36 = dktX2_countsBy_2 := dk_seg dksX2_countsBy_1 35 rfl rfl
theorem dksX2_countsBy_3 : cX2_countsBy.data.toList.drop 60 = dktX2_countsBy_3 := dk_seg dksX2_countsBy_2 24 rfl rfl
theorem dksX2_countsBy_4 : cX2_countsBy.data.toList.drop 84 = dktX2_countsBy_4 := dk_seg dksX2_countsBy_3 24 rfl rfl
theorem dX2_countsBy_0 : decode cX2_countsBy 0 = .ok (.iload_n 2, 1) := dk_28 (dk_at dksX2_countsBy_0 0 rfl rfl)
theorem dX2_countsBy_1 : decode cX2_countsBy 1 = .ok (.lookupswitch 76 #[(0, 35), (1, 44), (6, 60)], 35) := by decide +kernel
theorem dX2_countsBy_36 : decode cX2_countsBy 36 = .ok (.aload_n 0, 1) := dk_42 (dk_at dksX2_countsBy_2 0 rfl rfl)
theorem dX2_countsBy_37 : decode cX2_countsBy 37 = .ok (.iconst 1, 1) := dk_4 (dk_at dksX2_countsBy_2 1 rfl rfl)
theorem dX2_countsBy_38 : decode cX2_countsBy 38 = .ok (.invokevirtual 363, 3) := dk_182 1 107 (dk_at dksX2_countsBy_2 2 rfl rfl)
theorem dX2_countsBy_41 : decode cX2_countsBy 41 = .ok (.iload_n 3, 1) := dk_29 (dk_at dksX2_countsBy_2 5 rfl rfl)
theorem dX2_countsBy_42 : decode cX2_countsBy 42 = .ok (.iload_n 1, 1) := dk_27 (dk_at dksX2_countsBy_2 6 rfl rfl)
theorem dX2_countsBy_43 : decode cX2_countsBy 43 = .ok (.iadd, 1) := dk_96 (dk_at dksX2_countsBy_2 7 rfl rfl)
theorem dX2_countsBy_44 : decode cX2_countsBy 44 = .ok (.ireturn, 1) := dk_172 (dk_at dksX2_countsBy_2 8 rfl rfl)
theorem dX2_countsBy_45 : decode cX2_countsBy 45 = .ok (.aload_n 0, 1) := dk_42 (dk_at dksX2_countsBy_2 9 rfl rfl)
theorem dX2_countsBy_46 : decode cX2_countsBy 46 = .ok (.bipush 20, 2) := dk_16 20 (dk_at dksX2_countsBy_2 10 rfl rfl)
theorem dX2_countsBy_48 : decode cX2_countsBy 48 = .ok (.invokevirtual 363, 3) := dk_182 1 107 (dk_at dksX2_countsBy_2 12 rfl rfl)
theorem dX2_countsBy_51 : decode cX2_countsBy 51 = .ok (.aload_n 0, 1) := dk_42 (dk_at dksX2_countsBy_2 15 rfl rfl)
theorem dX2_countsBy_52 : decode cX2_countsBy 52 = .ok (.iload_n 1, 1) := dk_27 (dk_at dksX2_countsBy_2 16 rfl rfl)
theorem dX2_countsBy_53 : decode cX2_countsBy 53 = .ok (.iconst 0, 1) := dk_3 (dk_at dksX2_countsBy_2 17 rfl rfl)
theorem dX2_countsBy_54 : decode cX2_countsBy 54 = .ok (.iload_n 3, 1) := dk_29 (dk_at dksX2_countsBy_2 18 rfl rfl)
theorem dX2_countsBy_55 : decode cX2_countsBy 55 = .ok (.invokevirtual 366, 3) := dk_182 1 110 (dk_at dksX2_countsBy_2 19 rfl rfl)
theorem dX2_countsBy_58 : decode cX2_countsBy 58 = .ok (.iconst 3, 1) := dk_6 (dk_at dksX2_countsBy_2 22 rfl rfl)
theorem dX2_countsBy_59 : decode cX2_countsBy 59 = .ok (.iadd, 1) := dk_96 (dk_at dksX2_countsBy_2 23 rfl rfl)
theorem dX2_countsBy_60 : decode cX2_countsBy 60 = .ok (.ireturn, 1) := dk_172 (dk_at dksX2_countsBy_3 0 rfl rfl)
theorem dX2_countsBy_61 : decode cX2_countsBy 61 = .ok (.aload_n 0, 1) := dk_42 (dk_at dksX2_countsBy_3 1 rfl rfl)
theorem dX2_countsBy_62 : decode cX2_countsBy 62 = .ok (.bipush 70, 2) := dk_16 70 (dk_at dksX2_countsBy_3 2 rfl rfl)
theorem dX2_countsBy_64 : decode cX2_countsBy 64 = .ok (.invokevirtual 363, 3) := dk_182 1 107 (dk_at dksX2_countsBy_3 4 rfl rfl)
theorem dX2_countsBy_67 : decode cX2_countsBy 67 = .ok (.aload_n 0, 1) := dk_42 (dk_at dksX2_countsBy_3 7 rfl rfl)
theorem dX2_countsBy_68 : decode cX2_countsBy 68 = .ok (.iload_n 1, 1) := dk_27 (dk_at dksX2_countsBy_3 8 rfl rfl)
theorem dX2_countsBy_69 : decode cX2_countsBy 69 = .ok (.iconst 0, 1) := dk_3 (dk_at dksX2_countsBy_3 9 rfl rfl)
theorem dX2_countsBy_70 : decode cX2_countsBy 70 = .ok (.iload_n 3, 1) := dk_29 (dk_at dksX2_countsBy_3 10 rfl rfl)
theorem dX2_countsBy_71 : decode cX2_countsBy 71 = .ok (.invokevirtual 366, 3) := dk_182 1 110 (dk_at dksX2_countsBy_3 11 rfl rfl)
theorem dX2_countsBy_74 : decode cX2_countsBy 74 = .ok (.iconst 2, 1) := dk_5 (dk_at dksX2_countsBy_3 14 rfl rfl)
theorem dX2_countsBy_75 : decode cX2_countsBy 75 = .ok (.imul, 1) := dk_104 (dk_at dksX2_countsBy_3 15 rfl rfl)
theorem dX2_countsBy_76 : decode cX2_countsBy 76 = .ok (.ireturn, 1) := dk_172 (dk_at dksX2_countsBy_3 16 rfl rfl)
theorem dX2_countsBy_77 : decode cX2_countsBy 77 = .ok (.aload_n 0, 1) := dk_42 (dk_at dksX2_countsBy_3 17 rfl rfl)
theorem dX2_countsBy_78 : decode cX2_countsBy 78 = .ok (.iload_n 1, 1) := dk_27 (dk_at dksX2_countsBy_3 18 rfl rfl)
theorem dX2_countsBy_79 : decode cX2_countsBy 79 = .ok (.iload_n 2, 1) := dk_28 (dk_at dksX2_countsBy_3 19 rfl rfl)
theorem dX2_countsBy_80 : decode cX2_countsBy 80 = .ok (.invokestatic 369, 3) := dk_184 1 113 (dk_at dksX2_countsBy_3 20 rfl rfl)
theorem dX2_countsBy_83 : decode cX2_countsBy 83 = .ok (.iload_n 3, 1) := dk_29 (dk_at dksX2_countsBy_3 23 rfl rfl)
theorem dX2_countsBy_84 : decode cX2_countsBy 84 = .ok (.invokevirtual 366, 3) := dk_182 1 110 (dk_at dksX2_countsBy_4 0 rfl rfl)
theorem dX2_countsBy_87 : decode cX2_countsBy 87 = .ok (.ireturn, 1) := dk_172 (dk_at dksX2_countsBy_4 3 rfl rfl)
abbrev cX2_ran : ByteArray := prog_31_method_83_code
def yX2_ran : MethodName := ⟨RX2, "ran", "(I)V"⟩
def dkwX2_ran_1 : List UInt8 := [4, 96, 181, 1, 104, 177]
abbrev dktX2_ran_1 : List UInt8 := dkwX2_ran_1 ++ []
def dkwX2_ran_0 : List UInt8 := [42, 180, 1, 104, 16, 24, 162, 0, 13, 42, 180, 0, 90, 42, 180, 1, 104, 27, 79, 42, 89, 180, 1, 104]
abbrev dktX2_ran_0 : List UInt8 := dkwX2_ran_0 ++ dktX2_ran_1
theorem dksX2_ran_0 : cX2_ran.data.toList.drop 0 = dktX2_ran_0 := by decide +kernel
theorem dksX2_ran_1 : cX2_ran.data.toList.drop 24 = dktX2_ran_1 := dk_seg dksX2_ran_0 24 rfl rfl
theorem dX2_ran_0 : decode cX2_ran 0 = .ok (.aload_n 0, 1) := dk_42 (dk_at dksX2_ran_0 0 rfl rfl)
theorem dX2_ran_1 : decode cX2_ran 1 = .ok (.getfield 360, 3) := dk_180 1 104 (dk_at dksX2_ran_0 1 rfl rfl)
theorem dX2_ran_4 : decode cX2_ran 4 = .ok (.bipush 24, 2) := dk_16 24 (dk_at dksX2_ran_0 4 rfl rfl)
theorem dX2_ran_6 : decode cX2_ran 6 = .ok (.if_icmp .ge 13, 3) := dk_162 0 13 (dk_at dksX2_ran_0 6 rfl rfl)
theorem dX2_ran_9 : decode cX2_ran 9 = .ok (.aload_n 0, 1) := dk_42 (dk_at dksX2_ran_0 9 rfl rfl)
theorem dX2_ran_10 : decode cX2_ran 10 = .ok (.getfield 90, 3) := dk_180 0 90 (dk_at dksX2_ran_0 10 rfl rfl)
theorem dX2_ran_13 : decode cX2_ran 13 = .ok (.aload_n 0, 1) := dk_42 (dk_at dksX2_ran_0 13 rfl rfl)
theorem dX2_ran_14 : decode cX2_ran 14 = .ok (.getfield 360, 3) := dk_180 1 104 (dk_at dksX2_ran_0 14 rfl rfl)
theorem dX2_ran_17 : decode cX2_ran 17 = .ok (.iload_n 1, 1) := dk_27 (dk_at dksX2_ran_0 17 rfl rfl)
theorem dX2_ran_18 : decode cX2_ran 18 = .ok (.iastore, 1) := dk_79 (dk_at dksX2_ran_0 18 rfl rfl)
theorem dX2_ran_19 : decode cX2_ran 19 = .ok (.aload_n 0, 1) := dk_42 (dk_at dksX2_ran_0 19 rfl rfl)
theorem dX2_ran_20 : decode cX2_ran 20 = .ok (.dup, 1) := dk_89 (dk_at dksX2_ran_0 20 rfl rfl)
theorem dX2_ran_21 : decode cX2_ran 21 = .ok (.getfield 360, 3) := dk_180 1 104 (dk_at dksX2_ran_0 21 rfl rfl)
theorem dX2_ran_24 : decode cX2_ran 24 = .ok (.iconst 1, 1) := dk_4 (dk_at dksX2_ran_1 0 rfl rfl)
theorem dX2_ran_25 : decode cX2_ran 25 = .ok (.iadd, 1) := dk_96 (dk_at dksX2_ran_1 1 rfl rfl)
theorem dX2_ran_26 : decode cX2_ran 26 = .ok (.putfield 360, 3) := dk_181 1 104 (dk_at dksX2_ran_1 2 rfl rfl)
theorem dX2_ran_29 : decode cX2_ran 29 = .ok (.return_, 1) := dk_177 (dk_at dksX2_ran_1 5 rfl rfl)
abbrev cX2_above : ByteArray := prog_31_method_82_code
def yX2_above : MethodName := ⟨RX2, "above", "(I)I"⟩
def dkwX2_above_2 : List UInt8 := [5, 172, 4, 172, 6, 172, 7, 172, 3, 172]
abbrev dktX2_above_2 : List UInt8 := dkwX2_above_2 ++ []
def dkwX2_above_1 : List UInt8 := [170, 0, 0, 0, 0, 0, 43, 0, 0, 0, 3, 0, 0, 0, 7, 0, 0, 0, 35, 0, 0, 0, 37, 0, 0, 0, 39, 0, 0, 0, 43, 0, 0, 0, 41]
abbrev dktX2_above_1 : List UInt8 := dkwX2_above_1 ++ dktX2_above_2
def dkwX2_above_0 : List UInt8 := [26]
abbrev dktX2_above_0 : List UInt8 := dkwX2_above_0 ++ dktX2_above_1
theorem dksX2_above_0 : cX2_above.data.toList.drop 0 = dktX2_above_0 := by decide +kernel
theorem dksX2_above_1 : cX2_above.data.toList.drop 1 = dktX2_above_1 := dk_seg dksX2_above_0 1 rfl rfl
theorem dksX2_above_2 : cX2_above.data.toList.drop 36 = dktX2_above_2 := dk_seg dksX2_above_1 35 rfl rfl
theorem dX2_above_0 : decode cX2_above 0 = .ok (.iload_n 0, 1) := dk_26 (dk_at dksX2_above_0 0 rfl rfl)
theorem dX2_above_1 : decode cX2_above 1 = .ok (.tableswitch 43 3 7 #[35, 37, 39, 43, 41], 35) := by decide +kernel
theorem dX2_above_36 : decode cX2_above 36 = .ok (.iconst 2, 1) := dk_5 (dk_at dksX2_above_2 0 rfl rfl)
theorem dX2_above_37 : decode cX2_above 37 = .ok (.ireturn, 1) := dk_172 (dk_at dksX2_above_2 1 rfl rfl)
theorem dX2_above_38 : decode cX2_above 38 = .ok (.iconst 1, 1) := dk_4 (dk_at dksX2_above_2 2 rfl rfl)
theorem dX2_above_39 : decode cX2_above 39 = .ok (.ireturn, 1) := dk_172 (dk_at dksX2_above_2 3 rfl rfl)
theorem dX2_above_40 : decode cX2_above 40 = .ok (.iconst 3, 1) := dk_6 (dk_at dksX2_above_2 4 rfl rfl)
theorem dX2_above_41 : decode cX2_above 41 = .ok (.ireturn, 1) := dk_172 (dk_at dksX2_above_2 5 rfl rfl)
theorem dX2_above_42 : decode cX2_above 42 = .ok (.iconst 4, 1) := dk_7 (dk_at dksX2_above_2 6 rfl rfl)
theorem dX2_above_43 : decode cX2_above 43 = .ok (.ireturn, 1) := dk_172 (dk_at dksX2_above_2 7 rfl rfl)
theorem dX2_above_44 : decode cX2_above 44 = .ok (.iconst 0, 1) := dk_3 (dk_at dksX2_above_2 8 rfl rfl)
theorem dX2_above_45 : decode cX2_above 45 = .ok (.ireturn, 1) := dk_172 (dk_at dksX2_above_2 9 rfl rfl)
abbrev cX2_turnsBy : ByteArray := prog_31_method_85_code
def yX2_turnsBy : MethodName := ⟨RX2, "turnsBy", "(III)I"⟩
def dkwX2_turnsBy_5 : List UInt8 := [180, 0, 87, 27, 46, 5, 182, 1, 119, 96, 172, 42, 27, 28, 184, 1, 113, 29, 182, 1, 116, 172]
abbrev dktX2_turnsBy_5 : List UInt8 := dkwX2_turnsBy_5 ++ []
def dkwX2_turnsBy_4 : List UInt8 := [182, 1, 116, 172, 42, 16, 80, 182, 1, 107, 42, 27, 7, 29, 182, 1, 116, 54, 4, 21, 4, 42, 27, 42]
abbrev dktX2_turnsBy_4 : List UInt8 := dkwX2_turnsBy_4 ++ dktX2_turnsBy_5
def dkwX2_turnsBy_3 : List UInt8 := [182, 1, 107, 42, 27, 3, 29, 182, 1, 116, 116, 172, 42, 16, 41, 182, 1, 107, 42, 27, 5, 29, 4, 96]
abbrev dktX2_turnsBy_3 : List UInt8 := dkwX2_turnsBy_3 ++ dktX2_turnsBy_4
def dkwX2_turnsBy_2 : List UInt8 := [42, 16, 10, 182, 1, 107, 42, 27, 42, 180, 0, 87, 27, 46, 29, 182, 1, 110, 5, 104, 172, 42, 16, 30]
abbrev dktX2_turnsBy_2 : List UInt8 := dkwX2_turnsBy_2 ++ dktX2_turnsBy_3
def dkwX2_turnsBy_1 : List UInt8 := [170, 0, 0, 0, 0, 0, 130, 0, 0, 0, 0, 0, 0, 0, 7, 0, 0, 0, 47, 0, 0, 0, 130, 0, 0, 0, 68, 0, 0, 0, 83, 0, 0, 0, 130, 0, 0, 0, 130, 0, 0, 0, 130, 0, 0, 0, 99]
abbrev dktX2_turnsBy_1 : List UInt8 := dkwX2_turnsBy_1 ++ dktX2_turnsBy_2
def dkwX2_turnsBy_0 : List UInt8 := [28]
abbrev dktX2_turnsBy_0 : List UInt8 := dkwX2_turnsBy_0 ++ dktX2_turnsBy_1
theorem dksX2_turnsBy_0 : cX2_turnsBy.data.toList.drop 0 = dktX2_turnsBy_0 := by decide +kernel
theorem dksX2_turnsBy_1 : cX2_turnsBy.data.toList.drop 1 = dktX2_turnsBy_1 := dk_seg dksX2_turnsBy_0 1 rfl rfl
theorem dksX2_turnsBy_2 : cX2_turnsBy.data.toList.drop 48 = dktX2_turnsBy_2 := dk_seg dksX2_turnsBy_1 47 rfl rfl
theorem dksX2_turnsBy_3 : cX2_turnsBy.data.toList.drop 72 = dktX2_turnsBy_3 := dk_seg dksX2_turnsBy_2 24 rfl rfl
theorem dksX2_turnsBy_4 : cX2_turnsBy.data.toList.drop 96 = dktX2_turnsBy_4 := dk_seg dksX2_turnsBy_3 24 rfl rfl
theorem dksX2_turnsBy_5 : cX2_turnsBy.data.toList.drop 120 = dktX2_turnsBy_5 := dk_seg dksX2_turnsBy_4 24 rfl rfl
theorem dX2_turnsBy_0 : decode cX2_turnsBy 0 = .ok (.iload_n 2, 1) := dk_28 (dk_at dksX2_turnsBy_0 0 rfl rfl)
theorem dX2_turnsBy_1 : decode cX2_turnsBy 1 = .ok (.tableswitch 130 0 7 #[47, 130, 68, 83, 130, 130, 130, 99], 47) := by decide +kernel
theorem dX2_turnsBy_48 : decode cX2_turnsBy 48 = .ok (.aload_n 0, 1) := dk_42 (dk_at dksX2_turnsBy_2 0 rfl rfl)
theorem dX2_turnsBy_49 : decode cX2_turnsBy 49 = .ok (.bipush 10, 2) := dk_16 10 (dk_at dksX2_turnsBy_2 1 rfl rfl)
theorem dX2_turnsBy_51 : decode cX2_turnsBy 51 = .ok (.invokevirtual 363, 3) := dk_182 1 107 (dk_at dksX2_turnsBy_2 3 rfl rfl)
theorem dX2_turnsBy_54 : decode cX2_turnsBy 54 = .ok (.aload_n 0, 1) := dk_42 (dk_at dksX2_turnsBy_2 6 rfl rfl)
theorem dX2_turnsBy_55 : decode cX2_turnsBy 55 = .ok (.iload_n 1, 1) := dk_27 (dk_at dksX2_turnsBy_2 7 rfl rfl)
theorem dX2_turnsBy_56 : decode cX2_turnsBy 56 = .ok (.aload_n 0, 1) := dk_42 (dk_at dksX2_turnsBy_2 8 rfl rfl)
theorem dX2_turnsBy_57 : decode cX2_turnsBy 57 = .ok (.getfield 87, 3) := dk_180 0 87 (dk_at dksX2_turnsBy_2 9 rfl rfl)
theorem dX2_turnsBy_60 : decode cX2_turnsBy 60 = .ok (.iload_n 1, 1) := dk_27 (dk_at dksX2_turnsBy_2 12 rfl rfl)
theorem dX2_turnsBy_61 : decode cX2_turnsBy 61 = .ok (.iaload, 1) := dk_46 (dk_at dksX2_turnsBy_2 13 rfl rfl)
theorem dX2_turnsBy_62 : decode cX2_turnsBy 62 = .ok (.iload_n 3, 1) := dk_29 (dk_at dksX2_turnsBy_2 14 rfl rfl)
theorem dX2_turnsBy_63 : decode cX2_turnsBy 63 = .ok (.invokevirtual 366, 3) := dk_182 1 110 (dk_at dksX2_turnsBy_2 15 rfl rfl)
theorem dX2_turnsBy_66 : decode cX2_turnsBy 66 = .ok (.iconst 2, 1) := dk_5 (dk_at dksX2_turnsBy_2 18 rfl rfl)
theorem dX2_turnsBy_67 : decode cX2_turnsBy 67 = .ok (.imul, 1) := dk_104 (dk_at dksX2_turnsBy_2 19 rfl rfl)
theorem dX2_turnsBy_68 : decode cX2_turnsBy 68 = .ok (.ireturn, 1) := dk_172 (dk_at dksX2_turnsBy_2 20 rfl rfl)
theorem dX2_turnsBy_69 : decode cX2_turnsBy 69 = .ok (.aload_n 0, 1) := dk_42 (dk_at dksX2_turnsBy_2 21 rfl rfl)
theorem dX2_turnsBy_70 : decode cX2_turnsBy 70 = .ok (.bipush 30, 2) := dk_16 30 (dk_at dksX2_turnsBy_2 22 rfl rfl)
theorem dX2_turnsBy_72 : decode cX2_turnsBy 72 = .ok (.invokevirtual 363, 3) := dk_182 1 107 (dk_at dksX2_turnsBy_3 0 rfl rfl)
theorem dX2_turnsBy_75 : decode cX2_turnsBy 75 = .ok (.aload_n 0, 1) := dk_42 (dk_at dksX2_turnsBy_3 3 rfl rfl)
theorem dX2_turnsBy_76 : decode cX2_turnsBy 76 = .ok (.iload_n 1, 1) := dk_27 (dk_at dksX2_turnsBy_3 4 rfl rfl)
theorem dX2_turnsBy_77 : decode cX2_turnsBy 77 = .ok (.iconst 0, 1) := dk_3 (dk_at dksX2_turnsBy_3 5 rfl rfl)
theorem dX2_turnsBy_78 : decode cX2_turnsBy 78 = .ok (.iload_n 3, 1) := dk_29 (dk_at dksX2_turnsBy_3 6 rfl rfl)
theorem dX2_turnsBy_79 : decode cX2_turnsBy 79 = .ok (.invokevirtual 372, 3) := dk_182 1 116 (dk_at dksX2_turnsBy_3 7 rfl rfl)
theorem dX2_turnsBy_82 : decode cX2_turnsBy 82 = .ok (.ineg, 1) := dk_116 (dk_at dksX2_turnsBy_3 10 rfl rfl)
theorem dX2_turnsBy_83 : decode cX2_turnsBy 83 = .ok (.ireturn, 1) := dk_172 (dk_at dksX2_turnsBy_3 11 rfl rfl)
theorem dX2_turnsBy_84 : decode cX2_turnsBy 84 = .ok (.aload_n 0, 1) := dk_42 (dk_at dksX2_turnsBy_3 12 rfl rfl)
theorem dX2_turnsBy_85 : decode cX2_turnsBy 85 = .ok (.bipush 41, 2) := dk_16 41 (dk_at dksX2_turnsBy_3 13 rfl rfl)
theorem dX2_turnsBy_87 : decode cX2_turnsBy 87 = .ok (.invokevirtual 363, 3) := dk_182 1 107 (dk_at dksX2_turnsBy_3 15 rfl rfl)
theorem dX2_turnsBy_90 : decode cX2_turnsBy 90 = .ok (.aload_n 0, 1) := dk_42 (dk_at dksX2_turnsBy_3 18 rfl rfl)
theorem dX2_turnsBy_91 : decode cX2_turnsBy 91 = .ok (.iload_n 1, 1) := dk_27 (dk_at dksX2_turnsBy_3 19 rfl rfl)
theorem dX2_turnsBy_92 : decode cX2_turnsBy 92 = .ok (.iconst 2, 1) := dk_5 (dk_at dksX2_turnsBy_3 20 rfl rfl)
theorem dX2_turnsBy_93 : decode cX2_turnsBy 93 = .ok (.iload_n 3, 1) := dk_29 (dk_at dksX2_turnsBy_3 21 rfl rfl)
theorem dX2_turnsBy_94 : decode cX2_turnsBy 94 = .ok (.iconst 1, 1) := dk_4 (dk_at dksX2_turnsBy_3 22 rfl rfl)
theorem dX2_turnsBy_95 : decode cX2_turnsBy 95 = .ok (.iadd, 1) := dk_96 (dk_at dksX2_turnsBy_3 23 rfl rfl)
theorem dX2_turnsBy_96 : decode cX2_turnsBy 96 = .ok (.invokevirtual 372, 3) := dk_182 1 116 (dk_at dksX2_turnsBy_4 0 rfl rfl)
theorem dX2_turnsBy_99 : decode cX2_turnsBy 99 = .ok (.ireturn, 1) := dk_172 (dk_at dksX2_turnsBy_4 3 rfl rfl)
theorem dX2_turnsBy_100 : decode cX2_turnsBy 100 = .ok (.aload_n 0, 1) := dk_42 (dk_at dksX2_turnsBy_4 4 rfl rfl)
theorem dX2_turnsBy_101 : decode cX2_turnsBy 101 = .ok (.bipush 80, 2) := dk_16 80 (dk_at dksX2_turnsBy_4 5 rfl rfl)
theorem dX2_turnsBy_103 : decode cX2_turnsBy 103 = .ok (.invokevirtual 363, 3) := dk_182 1 107 (dk_at dksX2_turnsBy_4 7 rfl rfl)
theorem dX2_turnsBy_106 : decode cX2_turnsBy 106 = .ok (.aload_n 0, 1) := dk_42 (dk_at dksX2_turnsBy_4 10 rfl rfl)
theorem dX2_turnsBy_107 : decode cX2_turnsBy 107 = .ok (.iload_n 1, 1) := dk_27 (dk_at dksX2_turnsBy_4 11 rfl rfl)
theorem dX2_turnsBy_108 : decode cX2_turnsBy 108 = .ok (.iconst 4, 1) := dk_7 (dk_at dksX2_turnsBy_4 12 rfl rfl)
theorem dX2_turnsBy_109 : decode cX2_turnsBy 109 = .ok (.iload_n 3, 1) := dk_29 (dk_at dksX2_turnsBy_4 13 rfl rfl)
theorem dX2_turnsBy_110 : decode cX2_turnsBy 110 = .ok (.invokevirtual 372, 3) := dk_182 1 116 (dk_at dksX2_turnsBy_4 14 rfl rfl)
theorem dX2_turnsBy_113 : decode cX2_turnsBy 113 = .ok (.istore 4, 2) := dk_54 4 (dk_at dksX2_turnsBy_4 17 rfl rfl)
theorem dX2_turnsBy_115 : decode cX2_turnsBy 115 = .ok (.iload 4, 2) := dk_21 4 (dk_at dksX2_turnsBy_4 19 rfl rfl)
theorem dX2_turnsBy_117 : decode cX2_turnsBy 117 = .ok (.aload_n 0, 1) := dk_42 (dk_at dksX2_turnsBy_4 21 rfl rfl)
theorem dX2_turnsBy_118 : decode cX2_turnsBy 118 = .ok (.iload_n 1, 1) := dk_27 (dk_at dksX2_turnsBy_4 22 rfl rfl)
theorem dX2_turnsBy_119 : decode cX2_turnsBy 119 = .ok (.aload_n 0, 1) := dk_42 (dk_at dksX2_turnsBy_4 23 rfl rfl)
theorem dX2_turnsBy_120 : decode cX2_turnsBy 120 = .ok (.getfield 87, 3) := dk_180 0 87 (dk_at dksX2_turnsBy_5 0 rfl rfl)
theorem dX2_turnsBy_123 : decode cX2_turnsBy 123 = .ok (.iload_n 1, 1) := dk_27 (dk_at dksX2_turnsBy_5 3 rfl rfl)
theorem dX2_turnsBy_124 : decode cX2_turnsBy 124 = .ok (.iaload, 1) := dk_46 (dk_at dksX2_turnsBy_5 4 rfl rfl)
theorem dX2_turnsBy_125 : decode cX2_turnsBy 125 = .ok (.iconst 2, 1) := dk_5 (dk_at dksX2_turnsBy_5 5 rfl rfl)
theorem dX2_turnsBy_126 : decode cX2_turnsBy 126 = .ok (.invokevirtual 375, 3) := dk_182 1 119 (dk_at dksX2_turnsBy_5 6 rfl rfl)
theorem dX2_turnsBy_129 : decode cX2_turnsBy 129 = .ok (.iadd, 1) := dk_96 (dk_at dksX2_turnsBy_5 9 rfl rfl)
theorem dX2_turnsBy_130 : decode cX2_turnsBy 130 = .ok (.ireturn, 1) := dk_172 (dk_at dksX2_turnsBy_5 10 rfl rfl)
theorem dX2_turnsBy_131 : decode cX2_turnsBy 131 = .ok (.aload_n 0, 1) := dk_42 (dk_at dksX2_turnsBy_5 11 rfl rfl)
theorem dX2_turnsBy_132 : decode cX2_turnsBy 132 = .ok (.iload_n 1, 1) := dk_27 (dk_at dksX2_turnsBy_5 12 rfl rfl)
theorem dX2_turnsBy_133 : decode cX2_turnsBy 133 = .ok (.iload_n 2, 1) := dk_28 (dk_at dksX2_turnsBy_5 13 rfl rfl)
theorem dX2_turnsBy_134 : decode cX2_turnsBy 134 = .ok (.invokestatic 369, 3) := dk_184 1 113 (dk_at dksX2_turnsBy_5 14 rfl rfl)
theorem dX2_turnsBy_137 : decode cX2_turnsBy 137 = .ok (.iload_n 3, 1) := dk_29 (dk_at dksX2_turnsBy_5 17 rfl rfl)
theorem dX2_turnsBy_138 : decode cX2_turnsBy 138 = .ok (.invokevirtual 372, 3) := dk_182 1 116 (dk_at dksX2_turnsBy_5 18 rfl rfl)
theorem dX2_turnsBy_141 : decode cX2_turnsBy 141 = .ok (.ireturn, 1) := dk_172 (dk_at dksX2_turnsBy_5 21 rfl rfl)
abbrev cX2_sinksBy : ByteArray := prog_31_method_86_code
def yX2_sinksBy : MethodName := ⟨RX2, "sinksBy", "(III)I"⟩
def dkwX2_sinksBy_4 : List UInt8 := [180, 0, 87, 27, 46, 5, 182, 1, 110, 100, 172, 42, 27, 28, 184, 1, 113, 29, 182, 1, 119, 172]
abbrev dktX2_sinksBy_4 : List UInt8 := dkwX2_sinksBy_4 ++ []
def dkwX2_sinksBy_3 : List UInt8 := [104, 172, 42, 16, 50, 182, 1, 107, 42, 27, 4, 29, 182, 1, 119, 54, 4, 21, 4, 42, 27, 42]
abbrev dktX2_sinksBy_3 : List UInt8 := dkwX2_sinksBy_3 ++ dktX2_sinksBy_4
def dkwX2_sinksBy_2 : List UInt8 := [42, 16, 11, 182, 1, 107, 29, 27, 130, 172, 42, 16, 40, 182, 1, 107, 42, 27, 5, 29, 182, 1, 119, 6]
abbrev dktX2_sinksBy_2 : List UInt8 := dkwX2_sinksBy_2 ++ dktX2_sinksBy_3
def dkwX2_sinksBy_1 : List UInt8 := [170, 0, 0, 0, 0, 0, 92, 0, 0, 0, 0, 0, 0, 0, 4, 0, 0, 0, 35, 0, 0, 0, 92, 0, 0, 0, 92, 0, 0, 0, 45, 0, 0, 0, 61]
abbrev dktX2_sinksBy_1 : List UInt8 := dkwX2_sinksBy_1 ++ dktX2_sinksBy_2
def dkwX2_sinksBy_0 : List UInt8 := [28]
abbrev dktX2_sinksBy_0 : List UInt8 := dkwX2_sinksBy_0 ++ dktX2_sinksBy_1
theorem dksX2_sinksBy_0 : cX2_sinksBy.data.toList.drop 0 = dktX2_sinksBy_0 := by decide +kernel
theorem dksX2_sinksBy_1 : cX2_sinksBy.data.toList.drop 1 = dktX2_sinksBy_1 := dk_seg dksX2_sinksBy_0 1 rfl rfl
theorem dksX2_sinksBy_2 : cX2_sinksBy.data.toList.drop 36 = dktX2_sinksBy_2 := dk_seg dksX2_sinksBy_1 35 rfl rfl
theorem dksX2_sinksBy_3 : cX2_sinksBy.data.toList.drop 60 = dktX2_sinksBy_3 := dk_seg dksX2_sinksBy_2 24 rfl rfl
theorem dksX2_sinksBy_4 : cX2_sinksBy.data.toList.drop 82 = dktX2_sinksBy_4 := dk_seg dksX2_sinksBy_3 22 rfl rfl
theorem dX2_sinksBy_0 : decode cX2_sinksBy 0 = .ok (.iload_n 2, 1) := dk_28 (dk_at dksX2_sinksBy_0 0 rfl rfl)
theorem dX2_sinksBy_1 : decode cX2_sinksBy 1 = .ok (.tableswitch 92 0 4 #[35, 92, 92, 45, 61], 35) := by decide +kernel
theorem dX2_sinksBy_36 : decode cX2_sinksBy 36 = .ok (.aload_n 0, 1) := dk_42 (dk_at dksX2_sinksBy_2 0 rfl rfl)
theorem dX2_sinksBy_37 : decode cX2_sinksBy 37 = .ok (.bipush 11, 2) := dk_16 11 (dk_at dksX2_sinksBy_2 1 rfl rfl)
theorem dX2_sinksBy_39 : decode cX2_sinksBy 39 = .ok (.invokevirtual 363, 3) := dk_182 1 107 (dk_at dksX2_sinksBy_2 3 rfl rfl)
theorem dX2_sinksBy_42 : decode cX2_sinksBy 42 = .ok (.iload_n 3, 1) := dk_29 (dk_at dksX2_sinksBy_2 6 rfl rfl)
theorem dX2_sinksBy_43 : decode cX2_sinksBy 43 = .ok (.iload_n 1, 1) := dk_27 (dk_at dksX2_sinksBy_2 7 rfl rfl)
theorem dX2_sinksBy_44 : decode cX2_sinksBy 44 = .ok (.ixor, 1) := dk_130 (dk_at dksX2_sinksBy_2 8 rfl rfl)
theorem dX2_sinksBy_45 : decode cX2_sinksBy 45 = .ok (.ireturn, 1) := dk_172 (dk_at dksX2_sinksBy_2 9 rfl rfl)
theorem dX2_sinksBy_46 : decode cX2_sinksBy 46 = .ok (.aload_n 0, 1) := dk_42 (dk_at dksX2_sinksBy_2 10 rfl rfl)
theorem dX2_sinksBy_47 : decode cX2_sinksBy 47 = .ok (.bipush 40, 2) := dk_16 40 (dk_at dksX2_sinksBy_2 11 rfl rfl)
theorem dX2_sinksBy_49 : decode cX2_sinksBy 49 = .ok (.invokevirtual 363, 3) := dk_182 1 107 (dk_at dksX2_sinksBy_2 13 rfl rfl)
theorem dX2_sinksBy_52 : decode cX2_sinksBy 52 = .ok (.aload_n 0, 1) := dk_42 (dk_at dksX2_sinksBy_2 16 rfl rfl)
theorem dX2_sinksBy_53 : decode cX2_sinksBy 53 = .ok (.iload_n 1, 1) := dk_27 (dk_at dksX2_sinksBy_2 17 rfl rfl)
theorem dX2_sinksBy_54 : decode cX2_sinksBy 54 = .ok (.iconst 2, 1) := dk_5 (dk_at dksX2_sinksBy_2 18 rfl rfl)
theorem dX2_sinksBy_55 : decode cX2_sinksBy 55 = .ok (.iload_n 3, 1) := dk_29 (dk_at dksX2_sinksBy_2 19 rfl rfl)
theorem dX2_sinksBy_56 : decode cX2_sinksBy 56 = .ok (.invokevirtual 375, 3) := dk_182 1 119 (dk_at dksX2_sinksBy_2 20 rfl rfl)
theorem dX2_sinksBy_59 : decode cX2_sinksBy 59 = .ok (.iconst 3, 1) := dk_6 (dk_at dksX2_sinksBy_2 23 rfl rfl)
theorem dX2_sinksBy_60 : decode cX2_sinksBy 60 = .ok (.imul, 1) := dk_104 (dk_at dksX2_sinksBy_3 0 rfl rfl)
theorem dX2_sinksBy_61 : decode cX2_sinksBy 61 = .ok (.ireturn, 1) := dk_172 (dk_at dksX2_sinksBy_3 1 rfl rfl)
theorem dX2_sinksBy_62 : decode cX2_sinksBy 62 = .ok (.aload_n 0, 1) := dk_42 (dk_at dksX2_sinksBy_3 2 rfl rfl)
theorem dX2_sinksBy_63 : decode cX2_sinksBy 63 = .ok (.bipush 50, 2) := dk_16 50 (dk_at dksX2_sinksBy_3 3 rfl rfl)
theorem dX2_sinksBy_65 : decode cX2_sinksBy 65 = .ok (.invokevirtual 363, 3) := dk_182 1 107 (dk_at dksX2_sinksBy_3 5 rfl rfl)
theorem dX2_sinksBy_68 : decode cX2_sinksBy 68 = .ok (.aload_n 0, 1) := dk_42 (dk_at dksX2_sinksBy_3 8 rfl rfl)
theorem dX2_sinksBy_69 : decode cX2_sinksBy 69 = .ok (.iload_n 1, 1) := dk_27 (dk_at dksX2_sinksBy_3 9 rfl rfl)
theorem dX2_sinksBy_70 : decode cX2_sinksBy 70 = .ok (.iconst 1, 1) := dk_4 (dk_at dksX2_sinksBy_3 10 rfl rfl)
theorem dX2_sinksBy_71 : decode cX2_sinksBy 71 = .ok (.iload_n 3, 1) := dk_29 (dk_at dksX2_sinksBy_3 11 rfl rfl)
theorem dX2_sinksBy_72 : decode cX2_sinksBy 72 = .ok (.invokevirtual 375, 3) := dk_182 1 119 (dk_at dksX2_sinksBy_3 12 rfl rfl)
theorem dX2_sinksBy_75 : decode cX2_sinksBy 75 = .ok (.istore 4, 2) := dk_54 4 (dk_at dksX2_sinksBy_3 15 rfl rfl)
theorem dX2_sinksBy_77 : decode cX2_sinksBy 77 = .ok (.iload 4, 2) := dk_21 4 (dk_at dksX2_sinksBy_3 17 rfl rfl)
theorem dX2_sinksBy_79 : decode cX2_sinksBy 79 = .ok (.aload_n 0, 1) := dk_42 (dk_at dksX2_sinksBy_3 19 rfl rfl)
theorem dX2_sinksBy_80 : decode cX2_sinksBy 80 = .ok (.iload_n 1, 1) := dk_27 (dk_at dksX2_sinksBy_3 20 rfl rfl)
theorem dX2_sinksBy_81 : decode cX2_sinksBy 81 = .ok (.aload_n 0, 1) := dk_42 (dk_at dksX2_sinksBy_3 21 rfl rfl)
theorem dX2_sinksBy_82 : decode cX2_sinksBy 82 = .ok (.getfield 87, 3) := dk_180 0 87 (dk_at dksX2_sinksBy_4 0 rfl rfl)
theorem dX2_sinksBy_85 : decode cX2_sinksBy 85 = .ok (.iload_n 1, 1) := dk_27 (dk_at dksX2_sinksBy_4 3 rfl rfl)
theorem dX2_sinksBy_86 : decode cX2_sinksBy 86 = .ok (.iaload, 1) := dk_46 (dk_at dksX2_sinksBy_4 4 rfl rfl)
theorem dX2_sinksBy_87 : decode cX2_sinksBy 87 = .ok (.iconst 2, 1) := dk_5 (dk_at dksX2_sinksBy_4 5 rfl rfl)
theorem dX2_sinksBy_88 : decode cX2_sinksBy 88 = .ok (.invokevirtual 366, 3) := dk_182 1 110 (dk_at dksX2_sinksBy_4 6 rfl rfl)
theorem dX2_sinksBy_91 : decode cX2_sinksBy 91 = .ok (.isub, 1) := dk_100 (dk_at dksX2_sinksBy_4 9 rfl rfl)
theorem dX2_sinksBy_92 : decode cX2_sinksBy 92 = .ok (.ireturn, 1) := dk_172 (dk_at dksX2_sinksBy_4 10 rfl rfl)
theorem dX2_sinksBy_93 : decode cX2_sinksBy 93 = .ok (.aload_n 0, 1) := dk_42 (dk_at dksX2_sinksBy_4 11 rfl rfl)
theorem dX2_sinksBy_94 : decode cX2_sinksBy 94 = .ok (.iload_n 1, 1) := dk_27 (dk_at dksX2_sinksBy_4 12 rfl rfl)
theorem dX2_sinksBy_95 : decode cX2_sinksBy 95 = .ok (.iload_n 2, 1) := dk_28 (dk_at dksX2_sinksBy_4 13 rfl rfl)
theorem dX2_sinksBy_96 : decode cX2_sinksBy 96 = .ok (.invokestatic 369, 3) := dk_184 1 113 (dk_at dksX2_sinksBy_4 14 rfl rfl)
theorem dX2_sinksBy_99 : decode cX2_sinksBy 99 = .ok (.iload_n 3, 1) := dk_29 (dk_at dksX2_sinksBy_4 17 rfl rfl)
theorem dX2_sinksBy_100 : decode cX2_sinksBy 100 = .ok (.invokevirtual 375, 3) := dk_182 1 119 (dk_at dksX2_sinksBy_4 18 rfl rfl)
theorem dX2_sinksBy_103 : decode cX2_sinksBy 103 = .ok (.ireturn, 1) := dk_172 (dk_at dksX2_sinksBy_4 21 rfl rfl)
abbrev cX2_tells : ByteArray := prog_31_method_87_code
def yX2_tells : MethodName := ⟨RX2, "tells", "(III)I"⟩
def dkwX2_tells_5 : List UInt8 := [184, 1, 113, 29, 182, 1, 122, 172]
abbrev dktX2_tells_5 : List UInt8 := dkwX2_tells_5 ++ []
def dkwX2_tells_4 : List UInt8 := [8, 130, 172, 42, 16, 81, 182, 1, 107, 42, 27, 7, 29, 182, 1, 122, 4, 100, 172, 42, 27, 28]
abbrev dktX2_tells_4 : List UInt8 := dkwX2_tells_4 ++ dktX2_tells_5
def dkwX2_tells_3 : List UInt8 := [180, 0, 87, 27, 46, 4, 182, 1, 119, 100, 172, 42, 16, 60, 182, 1, 107, 42, 27, 6, 29, 182, 1, 122]
abbrev dktX2_tells_3 : List UInt8 := dkwX2_tells_3 ++ dktX2_tells_4
def dkwX2_tells_2 : List UInt8 := [42, 5, 182, 1, 107, 42, 27, 42, 180, 0, 87, 27, 46, 29, 182, 1, 116, 54, 4, 21, 4, 42, 27, 42]
abbrev dktX2_tells_2 : List UInt8 := dkwX2_tells_2 ++ dktX2_tells_3
def dkwX2_tells_1 : List UInt8 := [171, 0, 0, 0, 0, 0, 102, 0, 0, 0, 3, 0, 0, 0, 0, 0, 0, 0, 35, 0, 0, 0, 5, 0, 0, 0, 70, 0, 0, 0, 7, 0, 0, 0, 86]
abbrev dktX2_tells_1 : List UInt8 := dkwX2_tells_1 ++ dktX2_tells_2
def dkwX2_tells_0 : List UInt8 := [28]
abbrev dktX2_tells_0 : List UInt8 := dkwX2_tells_0 ++ dktX2_tells_1
theorem dksX2_tells_0 : cX2_tells.data.toList.drop 0 = dktX2_tells_0 := by decide +kernel
theorem dksX2_tells_1 : cX2_tells.data.toList.drop 1 = dktX2_tells_1 := dk_seg dksX2_tells_0 1 rfl rfl
theorem dksX2_tells_2 : cX2_tells.data.toList.drop 36 = dktX2_tells_2 := dk_seg dksX2_tells_1 35 rfl rfl
theorem dksX2_tells_3 : cX2_tells.data.toList.drop 60 = dktX2_tells_3 := dk_seg dksX2_tells_2 24 rfl rfl
theorem dksX2_tells_4 : cX2_tells.data.toList.drop 84 = dktX2_tells_4 := dk_seg dksX2_tells_3 24 rfl rfl
theorem dksX2_tells_5 : cX2_tells.data.toList.drop 106 = dktX2_tells_5 := dk_seg dksX2_tells_4 22 rfl rfl
theorem dX2_tells_0 : decode cX2_tells 0 = .ok (.iload_n 2, 1) := dk_28 (dk_at dksX2_tells_0 0 rfl rfl)
theorem dX2_tells_1 : decode cX2_tells 1 = .ok (.lookupswitch 102 #[(0, 35), (5, 70), (7, 86)], 35) := by decide +kernel
theorem dX2_tells_36 : decode cX2_tells 36 = .ok (.aload_n 0, 1) := dk_42 (dk_at dksX2_tells_2 0 rfl rfl)
theorem dX2_tells_37 : decode cX2_tells 37 = .ok (.iconst 2, 1) := dk_5 (dk_at dksX2_tells_2 1 rfl rfl)
theorem dX2_tells_38 : decode cX2_tells 38 = .ok (.invokevirtual 363, 3) := dk_182 1 107 (dk_at dksX2_tells_2 2 rfl rfl)
theorem dX2_tells_41 : decode cX2_tells 41 = .ok (.aload_n 0, 1) := dk_42 (dk_at dksX2_tells_2 5 rfl rfl)
theorem dX2_tells_42 : decode cX2_tells 42 = .ok (.iload_n 1, 1) := dk_27 (dk_at dksX2_tells_2 6 rfl rfl)
theorem dX2_tells_43 : decode cX2_tells 43 = .ok (.aload_n 0, 1) := dk_42 (dk_at dksX2_tells_2 7 rfl rfl)
theorem dX2_tells_44 : decode cX2_tells 44 = .ok (.getfield 87, 3) := dk_180 0 87 (dk_at dksX2_tells_2 8 rfl rfl)
theorem dX2_tells_47 : decode cX2_tells 47 = .ok (.iload_n 1, 1) := dk_27 (dk_at dksX2_tells_2 11 rfl rfl)
theorem dX2_tells_48 : decode cX2_tells 48 = .ok (.iaload, 1) := dk_46 (dk_at dksX2_tells_2 12 rfl rfl)
theorem dX2_tells_49 : decode cX2_tells 49 = .ok (.iload_n 3, 1) := dk_29 (dk_at dksX2_tells_2 13 rfl rfl)
theorem dX2_tells_50 : decode cX2_tells 50 = .ok (.invokevirtual 372, 3) := dk_182 1 116 (dk_at dksX2_tells_2 14 rfl rfl)
theorem dX2_tells_53 : decode cX2_tells 53 = .ok (.istore 4, 2) := dk_54 4 (dk_at dksX2_tells_2 17 rfl rfl)
theorem dX2_tells_55 : decode cX2_tells 55 = .ok (.iload 4, 2) := dk_21 4 (dk_at dksX2_tells_2 19 rfl rfl)
theorem dX2_tells_57 : decode cX2_tells 57 = .ok (.aload_n 0, 1) := dk_42 (dk_at dksX2_tells_2 21 rfl rfl)
theorem dX2_tells_58 : decode cX2_tells 58 = .ok (.iload_n 1, 1) := dk_27 (dk_at dksX2_tells_2 22 rfl rfl)
theorem dX2_tells_59 : decode cX2_tells 59 = .ok (.aload_n 0, 1) := dk_42 (dk_at dksX2_tells_2 23 rfl rfl)
theorem dX2_tells_60 : decode cX2_tells 60 = .ok (.getfield 87, 3) := dk_180 0 87 (dk_at dksX2_tells_3 0 rfl rfl)
theorem dX2_tells_63 : decode cX2_tells 63 = .ok (.iload_n 1, 1) := dk_27 (dk_at dksX2_tells_3 3 rfl rfl)
theorem dX2_tells_64 : decode cX2_tells 64 = .ok (.iaload, 1) := dk_46 (dk_at dksX2_tells_3 4 rfl rfl)
theorem dX2_tells_65 : decode cX2_tells 65 = .ok (.iconst 1, 1) := dk_4 (dk_at dksX2_tells_3 5 rfl rfl)
theorem dX2_tells_66 : decode cX2_tells 66 = .ok (.invokevirtual 375, 3) := dk_182 1 119 (dk_at dksX2_tells_3 6 rfl rfl)
theorem dX2_tells_69 : decode cX2_tells 69 = .ok (.isub, 1) := dk_100 (dk_at dksX2_tells_3 9 rfl rfl)
theorem dX2_tells_70 : decode cX2_tells 70 = .ok (.ireturn, 1) := dk_172 (dk_at dksX2_tells_3 10 rfl rfl)
theorem dX2_tells_71 : decode cX2_tells 71 = .ok (.aload_n 0, 1) := dk_42 (dk_at dksX2_tells_3 11 rfl rfl)
theorem dX2_tells_72 : decode cX2_tells 72 = .ok (.bipush 60, 2) := dk_16 60 (dk_at dksX2_tells_3 12 rfl rfl)
theorem dX2_tells_74 : decode cX2_tells 74 = .ok (.invokevirtual 363, 3) := dk_182 1 107 (dk_at dksX2_tells_3 14 rfl rfl)
theorem dX2_tells_77 : decode cX2_tells 77 = .ok (.aload_n 0, 1) := dk_42 (dk_at dksX2_tells_3 17 rfl rfl)
theorem dX2_tells_78 : decode cX2_tells 78 = .ok (.iload_n 1, 1) := dk_27 (dk_at dksX2_tells_3 18 rfl rfl)
theorem dX2_tells_79 : decode cX2_tells 79 = .ok (.iconst 3, 1) := dk_6 (dk_at dksX2_tells_3 19 rfl rfl)
theorem dX2_tells_80 : decode cX2_tells 80 = .ok (.iload_n 3, 1) := dk_29 (dk_at dksX2_tells_3 20 rfl rfl)
theorem dX2_tells_81 : decode cX2_tells 81 = .ok (.invokevirtual 378, 3) := dk_182 1 122 (dk_at dksX2_tells_3 21 rfl rfl)
theorem dX2_tells_84 : decode cX2_tells 84 = .ok (.iconst 5, 1) := dk_8 (dk_at dksX2_tells_4 0 rfl rfl)
theorem dX2_tells_85 : decode cX2_tells 85 = .ok (.ixor, 1) := dk_130 (dk_at dksX2_tells_4 1 rfl rfl)
theorem dX2_tells_86 : decode cX2_tells 86 = .ok (.ireturn, 1) := dk_172 (dk_at dksX2_tells_4 2 rfl rfl)
theorem dX2_tells_87 : decode cX2_tells 87 = .ok (.aload_n 0, 1) := dk_42 (dk_at dksX2_tells_4 3 rfl rfl)
theorem dX2_tells_88 : decode cX2_tells 88 = .ok (.bipush 81, 2) := dk_16 81 (dk_at dksX2_tells_4 4 rfl rfl)
theorem dX2_tells_90 : decode cX2_tells 90 = .ok (.invokevirtual 363, 3) := dk_182 1 107 (dk_at dksX2_tells_4 6 rfl rfl)
theorem dX2_tells_93 : decode cX2_tells 93 = .ok (.aload_n 0, 1) := dk_42 (dk_at dksX2_tells_4 9 rfl rfl)
theorem dX2_tells_94 : decode cX2_tells 94 = .ok (.iload_n 1, 1) := dk_27 (dk_at dksX2_tells_4 10 rfl rfl)
theorem dX2_tells_95 : decode cX2_tells 95 = .ok (.iconst 4, 1) := dk_7 (dk_at dksX2_tells_4 11 rfl rfl)
theorem dX2_tells_96 : decode cX2_tells 96 = .ok (.iload_n 3, 1) := dk_29 (dk_at dksX2_tells_4 12 rfl rfl)
theorem dX2_tells_97 : decode cX2_tells 97 = .ok (.invokevirtual 378, 3) := dk_182 1 122 (dk_at dksX2_tells_4 13 rfl rfl)
theorem dX2_tells_100 : decode cX2_tells 100 = .ok (.iconst 1, 1) := dk_4 (dk_at dksX2_tells_4 16 rfl rfl)
theorem dX2_tells_101 : decode cX2_tells 101 = .ok (.isub, 1) := dk_100 (dk_at dksX2_tells_4 17 rfl rfl)
theorem dX2_tells_102 : decode cX2_tells 102 = .ok (.ireturn, 1) := dk_172 (dk_at dksX2_tells_4 18 rfl rfl)
theorem dX2_tells_103 : decode cX2_tells 103 = .ok (.aload_n 0, 1) := dk_42 (dk_at dksX2_tells_4 19 rfl rfl)
theorem dX2_tells_104 : decode cX2_tells 104 = .ok (.iload_n 1, 1) := dk_27 (dk_at dksX2_tells_4 20 rfl rfl)
theorem dX2_tells_105 : decode cX2_tells 105 = .ok (.iload_n 2, 1) := dk_28 (dk_at dksX2_tells_4 21 rfl rfl)
theorem dX2_tells_106 : decode cX2_tells 106 = .ok (.invokestatic 369, 3) := dk_184 1 113 (dk_at dksX2_tells_5 0 rfl rfl)
theorem dX2_tells_109 : decode cX2_tells 109 = .ok (.iload_n 3, 1) := dk_29 (dk_at dksX2_tells_5 3 rfl rfl)
theorem dX2_tells_110 : decode cX2_tells 110 = .ok (.invokevirtual 378, 3) := dk_182 1 122 (dk_at dksX2_tells_5 4 rfl rfl)
theorem dX2_tells_113 : decode cX2_tells 113 = .ok (.ireturn, 1) := dk_172 (dk_at dksX2_tells_5 7 rfl rfl)
abbrev cX2_trace : ByteArray := prog_31_method_90_code
def yX2_trace : MethodName := ⟨RX2, "trace", "(I)I"⟩
def dkwX2_trace_1 : List UInt8 := [46, 167, 0, 4, 2, 172]
abbrev dktX2_trace_1 : List UInt8 := dkwX2_trace_1 ++ []
def dkwX2_trace_0 : List UInt8 := [27, 3, 16, 24, 42, 180, 1, 104, 184, 0, 232, 4, 100, 184, 0, 128, 153, 0, 12, 42, 180, 0, 90, 27]
abbrev dktX2_trace_0 : List UInt8 := dkwX2_trace_0 ++ dktX2_trace_1
theorem dksX2_trace_0 : cX2_trace.data.toList.drop 0 = dktX2_trace_0 := by decide +kernel
theorem dksX2_trace_1 : cX2_trace.data.toList.drop 24 = dktX2_trace_1 := dk_seg dksX2_trace_0 24 rfl rfl
theorem dX2_trace_0 : decode cX2_trace 0 = .ok (.iload_n 1, 1) := dk_27 (dk_at dksX2_trace_0 0 rfl rfl)
theorem dX2_trace_1 : decode cX2_trace 1 = .ok (.iconst 0, 1) := dk_3 (dk_at dksX2_trace_0 1 rfl rfl)
theorem dX2_trace_2 : decode cX2_trace 2 = .ok (.bipush 24, 2) := dk_16 24 (dk_at dksX2_trace_0 2 rfl rfl)
theorem dX2_trace_4 : decode cX2_trace 4 = .ok (.aload_n 0, 1) := dk_42 (dk_at dksX2_trace_0 4 rfl rfl)
theorem dX2_trace_5 : decode cX2_trace 5 = .ok (.getfield 360, 3) := dk_180 1 104 (dk_at dksX2_trace_0 5 rfl rfl)
theorem dX2_trace_8 : decode cX2_trace 8 = .ok (.invokestatic 232, 3) := dk_184 0 232 (dk_at dksX2_trace_0 8 rfl rfl)
theorem dX2_trace_11 : decode cX2_trace 11 = .ok (.iconst 1, 1) := dk_4 (dk_at dksX2_trace_0 11 rfl rfl)
theorem dX2_trace_12 : decode cX2_trace 12 = .ok (.isub, 1) := dk_100 (dk_at dksX2_trace_0 12 rfl rfl)
theorem dX2_trace_13 : decode cX2_trace 13 = .ok (.invokestatic 128, 3) := dk_184 0 128 (dk_at dksX2_trace_0 13 rfl rfl)
theorem dX2_trace_16 : decode cX2_trace 16 = .ok (.ifCond .eq 12, 3) := dk_153 0 12 (dk_at dksX2_trace_0 16 rfl rfl)
theorem dX2_trace_19 : decode cX2_trace 19 = .ok (.aload_n 0, 1) := dk_42 (dk_at dksX2_trace_0 19 rfl rfl)
theorem dX2_trace_20 : decode cX2_trace 20 = .ok (.getfield 90, 3) := dk_180 0 90 (dk_at dksX2_trace_0 20 rfl rfl)
theorem dX2_trace_23 : decode cX2_trace 23 = .ok (.iload_n 1, 1) := dk_27 (dk_at dksX2_trace_0 23 rfl rfl)
theorem dX2_trace_24 : decode cX2_trace 24 = .ok (.iaload, 1) := dk_46 (dk_at dksX2_trace_1 0 rfl rfl)
theorem dX2_trace_25 : decode cX2_trace 25 = .ok (.goto 4, 3) := dk_167 0 4 (dk_at dksX2_trace_1 1 rfl rfl)
theorem dX2_trace_28 : decode cX2_trace 28 = .ok (.iconst (-1), 1) := dk_2 (dk_at dksX2_trace_1 4 rfl rfl)
theorem dX2_trace_29 : decode cX2_trace 29 = .ok (.ireturn, 1) := dk_172 (dk_at dksX2_trace_1 5 rfl rfl)
abbrev cX2_keep : ByteArray := prog_31_method_91_code
def yX2_keep : MethodName := ⟨RX2, "keep", "(II)I"⟩
def dkwX2_keep_2 : List UInt8 := [4, 172]
abbrev dktX2_keep_2 : List UInt8 := dkwX2_keep_2 ++ []
def dkwX2_keep_1 : List UInt8 := [180, 0, 93, 27, 28, 156, 0, 7, 2, 167, 0, 7, 16, 10, 28, 96, 79, 42, 180, 0, 96, 27, 3, 79]
abbrev dktX2_keep_1 : List UInt8 := dkwX2_keep_1 ++ dktX2_keep_2
def dkwX2_keep_0 : List UInt8 := [27, 184, 0, 140, 153, 0, 17, 28, 2, 42, 180, 1, 125, 4, 100, 184, 0, 128, 154, 0, 5, 2, 172, 42]
abbrev dktX2_keep_0 : List UInt8 := dkwX2_keep_0 ++ dktX2_keep_1
theorem dksX2_keep_0 : cX2_keep.data.toList.drop 0 = dktX2_keep_0 := by decide +kernel
theorem dksX2_keep_1 : cX2_keep.data.toList.drop 24 = dktX2_keep_1 := dk_seg dksX2_keep_0 24 rfl rfl
theorem dksX2_keep_2 : cX2_keep.data.toList.drop 48 = dktX2_keep_2 := dk_seg dksX2_keep_1 24 rfl rfl
theorem dX2_keep_0 : decode cX2_keep 0 = .ok (.iload_n 1, 1) := dk_27 (dk_at dksX2_keep_0 0 rfl rfl)
theorem dX2_keep_1 : decode cX2_keep 1 = .ok (.invokestatic 140, 3) := dk_184 0 140 (dk_at dksX2_keep_0 1 rfl rfl)
theorem dX2_keep_4 : decode cX2_keep 4 = .ok (.ifCond .eq 17, 3) := dk_153 0 17 (dk_at dksX2_keep_0 4 rfl rfl)
theorem dX2_keep_7 : decode cX2_keep 7 = .ok (.iload_n 2, 1) := dk_28 (dk_at dksX2_keep_0 7 rfl rfl)
theorem dX2_keep_8 : decode cX2_keep 8 = .ok (.iconst (-1), 1) := dk_2 (dk_at dksX2_keep_0 8 rfl rfl)
theorem dX2_keep_9 : decode cX2_keep 9 = .ok (.aload_n 0, 1) := dk_42 (dk_at dksX2_keep_0 9 rfl rfl)
theorem dX2_keep_10 : decode cX2_keep 10 = .ok (.getfield 381, 3) := dk_180 1 125 (dk_at dksX2_keep_0 10 rfl rfl)
theorem dX2_keep_13 : decode cX2_keep 13 = .ok (.iconst 1, 1) := dk_4 (dk_at dksX2_keep_0 13 rfl rfl)
theorem dX2_keep_14 : decode cX2_keep 14 = .ok (.isub, 1) := dk_100 (dk_at dksX2_keep_0 14 rfl rfl)
theorem dX2_keep_15 : decode cX2_keep 15 = .ok (.invokestatic 128, 3) := dk_184 0 128 (dk_at dksX2_keep_0 15 rfl rfl)
theorem dX2_keep_18 : decode cX2_keep 18 = .ok (.ifCond .ne 5, 3) := dk_154 0 5 (dk_at dksX2_keep_0 18 rfl rfl)
theorem dX2_keep_21 : decode cX2_keep 21 = .ok (.iconst (-1), 1) := dk_2 (dk_at dksX2_keep_0 21 rfl rfl)
theorem dX2_keep_22 : decode cX2_keep 22 = .ok (.ireturn, 1) := dk_172 (dk_at dksX2_keep_0 22 rfl rfl)
theorem dX2_keep_23 : decode cX2_keep 23 = .ok (.aload_n 0, 1) := dk_42 (dk_at dksX2_keep_0 23 rfl rfl)
theorem dX2_keep_24 : decode cX2_keep 24 = .ok (.getfield 93, 3) := dk_180 0 93 (dk_at dksX2_keep_1 0 rfl rfl)
theorem dX2_keep_27 : decode cX2_keep 27 = .ok (.iload_n 1, 1) := dk_27 (dk_at dksX2_keep_1 3 rfl rfl)
theorem dX2_keep_28 : decode cX2_keep 28 = .ok (.iload_n 2, 1) := dk_28 (dk_at dksX2_keep_1 4 rfl rfl)
theorem dX2_keep_29 : decode cX2_keep 29 = .ok (.ifCond .ge 7, 3) := dk_156 0 7 (dk_at dksX2_keep_1 5 rfl rfl)
theorem dX2_keep_32 : decode cX2_keep 32 = .ok (.iconst (-1), 1) := dk_2 (dk_at dksX2_keep_1 8 rfl rfl)
theorem dX2_keep_33 : decode cX2_keep 33 = .ok (.goto 7, 3) := dk_167 0 7 (dk_at dksX2_keep_1 9 rfl rfl)
theorem dX2_keep_36 : decode cX2_keep 36 = .ok (.bipush 10, 2) := dk_16 10 (dk_at dksX2_keep_1 12 rfl rfl)
theorem dX2_keep_38 : decode cX2_keep 38 = .ok (.iload_n 2, 1) := dk_28 (dk_at dksX2_keep_1 14 rfl rfl)
theorem dX2_keep_39 : decode cX2_keep 39 = .ok (.iadd, 1) := dk_96 (dk_at dksX2_keep_1 15 rfl rfl)
theorem dX2_keep_40 : decode cX2_keep 40 = .ok (.iastore, 1) := dk_79 (dk_at dksX2_keep_1 16 rfl rfl)
theorem dX2_keep_41 : decode cX2_keep 41 = .ok (.aload_n 0, 1) := dk_42 (dk_at dksX2_keep_1 17 rfl rfl)
theorem dX2_keep_42 : decode cX2_keep 42 = .ok (.getfield 96, 3) := dk_180 0 96 (dk_at dksX2_keep_1 18 rfl rfl)
theorem dX2_keep_45 : decode cX2_keep 45 = .ok (.iload_n 1, 1) := dk_27 (dk_at dksX2_keep_1 21 rfl rfl)
theorem dX2_keep_46 : decode cX2_keep 46 = .ok (.iconst 0, 1) := dk_3 (dk_at dksX2_keep_1 22 rfl rfl)
theorem dX2_keep_47 : decode cX2_keep 47 = .ok (.iastore, 1) := dk_79 (dk_at dksX2_keep_1 23 rfl rfl)
theorem dX2_keep_48 : decode cX2_keep 48 = .ok (.iconst 1, 1) := dk_4 (dk_at dksX2_keep_2 0 rfl rfl)
theorem dX2_keep_49 : decode cX2_keep 49 = .ok (.ireturn, 1) := dk_172 (dk_at dksX2_keep_2 1 rfl rfl)
abbrev cX2_row : ByteArray := prog_31_method_92_code
def yX2_row : MethodName := ⟨RX2, "row", "(III)I"⟩
def dkwX2_row_3 : List UInt8 := [167, 255, 233, 4, 172]
abbrev dktX2_row_3 : List UInt8 := dkwX2_row_3 ++ []
def dkwX2_row_2 : List UInt8 := [21, 4, 16, 60, 162, 0, 22, 42, 180, 0, 99, 16, 60, 27, 104, 21, 4, 96, 9, 80, 132, 4, 1]
abbrev dktX2_row_2 : List UInt8 := dkwX2_row_2 ++ dktX2_row_3
def dkwX2_row_1 : List UInt8 := [29, 156, 0, 6, 16, 242, 172, 42, 180, 0, 93, 27, 28, 79, 42, 180, 0, 96, 27, 29, 79, 3, 54, 4]
abbrev dktX2_row_1 : List UInt8 := dkwX2_row_1 ++ dktX2_row_2
def dkwX2_row_0 : List UInt8 := [27, 184, 0, 140, 153, 0, 18, 28, 3, 7, 184, 0, 128, 153, 0, 9, 29, 16, 60, 164, 0, 5, 2, 172]
abbrev dktX2_row_0 : List UInt8 := dkwX2_row_0 ++ dktX2_row_1
theorem dksX2_row_0 : cX2_row.data.toList.drop 0 = dktX2_row_0 := by decide +kernel
theorem dksX2_row_1 : cX2_row.data.toList.drop 24 = dktX2_row_1 := dk_seg dksX2_row_0 24 rfl rfl
theorem dksX2_row_2 : cX2_row.data.toList.drop 48 = dktX2_row_2 := dk_seg dksX2_row_1 24 rfl rfl
theorem dksX2_row_3 : cX2_row.data.toList.drop 71 = dktX2_row_3 := dk_seg dksX2_row_2 23 rfl rfl
theorem dX2_row_0 : decode cX2_row 0 = .ok (.iload_n 1, 1) := dk_27 (dk_at dksX2_row_0 0 rfl rfl)
theorem dX2_row_1 : decode cX2_row 1 = .ok (.invokestatic 140, 3) := dk_184 0 140 (dk_at dksX2_row_0 1 rfl rfl)
theorem dX2_row_4 : decode cX2_row 4 = .ok (.ifCond .eq 18, 3) := dk_153 0 18 (dk_at dksX2_row_0 4 rfl rfl)
theorem dX2_row_7 : decode cX2_row 7 = .ok (.iload_n 2, 1) := dk_28 (dk_at dksX2_row_0 7 rfl rfl)
theorem dX2_row_8 : decode cX2_row 8 = .ok (.iconst 0, 1) := dk_3 (dk_at dksX2_row_0 8 rfl rfl)
theorem dX2_row_9 : decode cX2_row 9 = .ok (.iconst 4, 1) := dk_7 (dk_at dksX2_row_0 9 rfl rfl)
theorem dX2_row_10 : decode cX2_row 10 = .ok (.invokestatic 128, 3) := dk_184 0 128 (dk_at dksX2_row_0 10 rfl rfl)
theorem dX2_row_13 : decode cX2_row 13 = .ok (.ifCond .eq 9, 3) := dk_153 0 9 (dk_at dksX2_row_0 13 rfl rfl)
theorem dX2_row_16 : decode cX2_row 16 = .ok (.iload_n 3, 1) := dk_29 (dk_at dksX2_row_0 16 rfl rfl)
theorem dX2_row_17 : decode cX2_row 17 = .ok (.bipush 60, 2) := dk_16 60 (dk_at dksX2_row_0 17 rfl rfl)
theorem dX2_row_19 : decode cX2_row 19 = .ok (.if_icmp .le 5, 3) := dk_164 0 5 (dk_at dksX2_row_0 19 rfl rfl)
theorem dX2_row_22 : decode cX2_row 22 = .ok (.iconst (-1), 1) := dk_2 (dk_at dksX2_row_0 22 rfl rfl)
theorem dX2_row_23 : decode cX2_row 23 = .ok (.ireturn, 1) := dk_172 (dk_at dksX2_row_0 23 rfl rfl)
theorem dX2_row_24 : decode cX2_row 24 = .ok (.iload_n 3, 1) := dk_29 (dk_at dksX2_row_1 0 rfl rfl)
theorem dX2_row_25 : decode cX2_row 25 = .ok (.ifCond .ge 6, 3) := dk_156 0 6 (dk_at dksX2_row_1 1 rfl rfl)
theorem dX2_row_28 : decode cX2_row 28 = .ok (.bipush (-14), 2) := dk_16 242 (dk_at dksX2_row_1 4 rfl rfl)
theorem dX2_row_30 : decode cX2_row 30 = .ok (.ireturn, 1) := dk_172 (dk_at dksX2_row_1 6 rfl rfl)
theorem dX2_row_31 : decode cX2_row 31 = .ok (.aload_n 0, 1) := dk_42 (dk_at dksX2_row_1 7 rfl rfl)
theorem dX2_row_32 : decode cX2_row 32 = .ok (.getfield 93, 3) := dk_180 0 93 (dk_at dksX2_row_1 8 rfl rfl)
theorem dX2_row_35 : decode cX2_row 35 = .ok (.iload_n 1, 1) := dk_27 (dk_at dksX2_row_1 11 rfl rfl)
theorem dX2_row_36 : decode cX2_row 36 = .ok (.iload_n 2, 1) := dk_28 (dk_at dksX2_row_1 12 rfl rfl)
theorem dX2_row_37 : decode cX2_row 37 = .ok (.iastore, 1) := dk_79 (dk_at dksX2_row_1 13 rfl rfl)
theorem dX2_row_38 : decode cX2_row 38 = .ok (.aload_n 0, 1) := dk_42 (dk_at dksX2_row_1 14 rfl rfl)
theorem dX2_row_39 : decode cX2_row 39 = .ok (.getfield 96, 3) := dk_180 0 96 (dk_at dksX2_row_1 15 rfl rfl)
theorem dX2_row_42 : decode cX2_row 42 = .ok (.iload_n 1, 1) := dk_27 (dk_at dksX2_row_1 18 rfl rfl)
theorem dX2_row_43 : decode cX2_row 43 = .ok (.iload_n 3, 1) := dk_29 (dk_at dksX2_row_1 19 rfl rfl)
theorem dX2_row_44 : decode cX2_row 44 = .ok (.iastore, 1) := dk_79 (dk_at dksX2_row_1 20 rfl rfl)
theorem dX2_row_45 : decode cX2_row 45 = .ok (.iconst 0, 1) := dk_3 (dk_at dksX2_row_1 21 rfl rfl)
theorem dX2_row_46 : decode cX2_row 46 = .ok (.istore 4, 2) := dk_54 4 (dk_at dksX2_row_1 22 rfl rfl)
theorem dX2_row_48 : decode cX2_row 48 = .ok (.iload 4, 2) := dk_21 4 (dk_at dksX2_row_2 0 rfl rfl)
theorem dX2_row_50 : decode cX2_row 50 = .ok (.bipush 60, 2) := dk_16 60 (dk_at dksX2_row_2 2 rfl rfl)
theorem dX2_row_52 : decode cX2_row 52 = .ok (.if_icmp .ge 22, 3) := dk_162 0 22 (dk_at dksX2_row_2 4 rfl rfl)
theorem dX2_row_55 : decode cX2_row 55 = .ok (.aload_n 0, 1) := dk_42 (dk_at dksX2_row_2 7 rfl rfl)
theorem dX2_row_56 : decode cX2_row 56 = .ok (.getfield 99, 3) := dk_180 0 99 (dk_at dksX2_row_2 8 rfl rfl)
theorem dX2_row_59 : decode cX2_row 59 = .ok (.bipush 60, 2) := dk_16 60 (dk_at dksX2_row_2 11 rfl rfl)
theorem dX2_row_61 : decode cX2_row 61 = .ok (.iload_n 1, 1) := dk_27 (dk_at dksX2_row_2 13 rfl rfl)
theorem dX2_row_62 : decode cX2_row 62 = .ok (.imul, 1) := dk_104 (dk_at dksX2_row_2 14 rfl rfl)
theorem dX2_row_63 : decode cX2_row 63 = .ok (.iload 4, 2) := dk_21 4 (dk_at dksX2_row_2 15 rfl rfl)
theorem dX2_row_65 : decode cX2_row 65 = .ok (.iadd, 1) := dk_96 (dk_at dksX2_row_2 17 rfl rfl)
theorem dX2_row_66 : decode cX2_row 66 = .ok (.lconst 0, 1) := dk_9 (dk_at dksX2_row_2 18 rfl rfl)
theorem dX2_row_67 : decode cX2_row 67 = .ok (.lastore, 1) := dk_80 (dk_at dksX2_row_2 19 rfl rfl)
theorem dX2_row_68 : decode cX2_row 68 = .ok (.iinc 4 1, 3) := dk_132 4 1 (dk_at dksX2_row_2 20 rfl rfl)
theorem dX2_row_71 : decode cX2_row 71 = .ok (.goto (-23), 3) := dk_167 255 233 (dk_at dksX2_row_3 0 rfl rfl)
theorem dX2_row_74 : decode cX2_row 74 = .ok (.iconst 1, 1) := dk_4 (dk_at dksX2_row_3 3 rfl rfl)
theorem dX2_row_75 : decode cX2_row 75 = .ok (.ireturn, 1) := dk_172 (dk_at dksX2_row_3 4 rfl rfl)
abbrev cX2_put : ByteArray := prog_31_method_95_code
def yX2_put : MethodName := ⟨RX2, "put", "(IIJ)I"⟩
def dkwX2_put_3 : List UInt8 := [184, 1, 131, 80, 4, 172]
abbrev dktX2_put_3 : List UInt8 := dkwX2_put_3 ++ []
def dkwX2_put_2 : List UInt8 := [154, 0, 6, 16, 243, 172, 42, 180, 0, 99, 16, 60, 27, 104, 28, 96, 42, 180, 0, 93, 27, 46, 33]
abbrev dktX2_put_2 : List UInt8 := dkwX2_put_2 ++ dktX2_put_3
def dkwX2_put_1 : List UInt8 := [182, 1, 128, 154, 0, 6, 16, 244, 172, 28, 3, 42, 180, 0, 96, 27, 46, 4, 100, 184, 0, 128]
abbrev dktX2_put_1 : List UInt8 := dkwX2_put_1 ++ dktX2_put_2
def dkwX2_put_0 : List UInt8 := [27, 184, 0, 140, 154, 0, 5, 2, 172, 42, 180, 0, 93, 27, 46, 2, 160, 0, 6, 16, 245, 172, 42, 27]
abbrev dktX2_put_0 : List UInt8 := dkwX2_put_0 ++ dktX2_put_1
theorem dksX2_put_0 : cX2_put.data.toList.drop 0 = dktX2_put_0 := by decide +kernel
theorem dksX2_put_1 : cX2_put.data.toList.drop 24 = dktX2_put_1 := dk_seg dksX2_put_0 24 rfl rfl
theorem dksX2_put_2 : cX2_put.data.toList.drop 46 = dktX2_put_2 := dk_seg dksX2_put_1 22 rfl rfl
theorem dksX2_put_3 : cX2_put.data.toList.drop 69 = dktX2_put_3 := dk_seg dksX2_put_2 23 rfl rfl
theorem dX2_put_0 : decode cX2_put 0 = .ok (.iload_n 1, 1) := dk_27 (dk_at dksX2_put_0 0 rfl rfl)
theorem dX2_put_1 : decode cX2_put 1 = .ok (.invokestatic 140, 3) := dk_184 0 140 (dk_at dksX2_put_0 1 rfl rfl)
theorem dX2_put_4 : decode cX2_put 4 = .ok (.ifCond .ne 5, 3) := dk_154 0 5 (dk_at dksX2_put_0 4 rfl rfl)
theorem dX2_put_7 : decode cX2_put 7 = .ok (.iconst (-1), 1) := dk_2 (dk_at dksX2_put_0 7 rfl rfl)
theorem dX2_put_8 : decode cX2_put 8 = .ok (.ireturn, 1) := dk_172 (dk_at dksX2_put_0 8 rfl rfl)
theorem dX2_put_9 : decode cX2_put 9 = .ok (.aload_n 0, 1) := dk_42 (dk_at dksX2_put_0 9 rfl rfl)
theorem dX2_put_10 : decode cX2_put 10 = .ok (.getfield 93, 3) := dk_180 0 93 (dk_at dksX2_put_0 10 rfl rfl)
theorem dX2_put_13 : decode cX2_put 13 = .ok (.iload_n 1, 1) := dk_27 (dk_at dksX2_put_0 13 rfl rfl)
theorem dX2_put_14 : decode cX2_put 14 = .ok (.iaload, 1) := dk_46 (dk_at dksX2_put_0 14 rfl rfl)
theorem dX2_put_15 : decode cX2_put 15 = .ok (.iconst (-1), 1) := dk_2 (dk_at dksX2_put_0 15 rfl rfl)
theorem dX2_put_16 : decode cX2_put 16 = .ok (.if_icmp .ne 6, 3) := dk_160 0 6 (dk_at dksX2_put_0 16 rfl rfl)
theorem dX2_put_19 : decode cX2_put 19 = .ok (.bipush (-11), 2) := dk_16 245 (dk_at dksX2_put_0 19 rfl rfl)
theorem dX2_put_21 : decode cX2_put 21 = .ok (.ireturn, 1) := dk_172 (dk_at dksX2_put_0 21 rfl rfl)
theorem dX2_put_22 : decode cX2_put 22 = .ok (.aload_n 0, 1) := dk_42 (dk_at dksX2_put_0 22 rfl rfl)
theorem dX2_put_23 : decode cX2_put 23 = .ok (.iload_n 1, 1) := dk_27 (dk_at dksX2_put_0 23 rfl rfl)
theorem dX2_put_24 : decode cX2_put 24 = .ok (.invokevirtual 384, 3) := dk_182 1 128 (dk_at dksX2_put_1 0 rfl rfl)
theorem dX2_put_27 : decode cX2_put 27 = .ok (.ifCond .ne 6, 3) := dk_154 0 6 (dk_at dksX2_put_1 3 rfl rfl)
theorem dX2_put_30 : decode cX2_put 30 = .ok (.bipush (-12), 2) := dk_16 244 (dk_at dksX2_put_1 6 rfl rfl)
theorem dX2_put_32 : decode cX2_put 32 = .ok (.ireturn, 1) := dk_172 (dk_at dksX2_put_1 8 rfl rfl)
theorem dX2_put_33 : decode cX2_put 33 = .ok (.iload_n 2, 1) := dk_28 (dk_at dksX2_put_1 9 rfl rfl)
theorem dX2_put_34 : decode cX2_put 34 = .ok (.iconst 0, 1) := dk_3 (dk_at dksX2_put_1 10 rfl rfl)
theorem dX2_put_35 : decode cX2_put 35 = .ok (.aload_n 0, 1) := dk_42 (dk_at dksX2_put_1 11 rfl rfl)
theorem dX2_put_36 : decode cX2_put 36 = .ok (.getfield 96, 3) := dk_180 0 96 (dk_at dksX2_put_1 12 rfl rfl)
theorem dX2_put_39 : decode cX2_put 39 = .ok (.iload_n 1, 1) := dk_27 (dk_at dksX2_put_1 15 rfl rfl)
theorem dX2_put_40 : decode cX2_put 40 = .ok (.iaload, 1) := dk_46 (dk_at dksX2_put_1 16 rfl rfl)
theorem dX2_put_41 : decode cX2_put 41 = .ok (.iconst 1, 1) := dk_4 (dk_at dksX2_put_1 17 rfl rfl)
theorem dX2_put_42 : decode cX2_put 42 = .ok (.isub, 1) := dk_100 (dk_at dksX2_put_1 18 rfl rfl)
theorem dX2_put_43 : decode cX2_put 43 = .ok (.invokestatic 128, 3) := dk_184 0 128 (dk_at dksX2_put_1 19 rfl rfl)
theorem dX2_put_46 : decode cX2_put 46 = .ok (.ifCond .ne 6, 3) := dk_154 0 6 (dk_at dksX2_put_2 0 rfl rfl)
theorem dX2_put_49 : decode cX2_put 49 = .ok (.bipush (-13), 2) := dk_16 243 (dk_at dksX2_put_2 3 rfl rfl)
theorem dX2_put_51 : decode cX2_put 51 = .ok (.ireturn, 1) := dk_172 (dk_at dksX2_put_2 5 rfl rfl)
theorem dX2_put_52 : decode cX2_put 52 = .ok (.aload_n 0, 1) := dk_42 (dk_at dksX2_put_2 6 rfl rfl)
theorem dX2_put_53 : decode cX2_put 53 = .ok (.getfield 99, 3) := dk_180 0 99 (dk_at dksX2_put_2 7 rfl rfl)
theorem dX2_put_56 : decode cX2_put 56 = .ok (.bipush 60, 2) := dk_16 60 (dk_at dksX2_put_2 10 rfl rfl)
theorem dX2_put_58 : decode cX2_put 58 = .ok (.iload_n 1, 1) := dk_27 (dk_at dksX2_put_2 12 rfl rfl)
theorem dX2_put_59 : decode cX2_put 59 = .ok (.imul, 1) := dk_104 (dk_at dksX2_put_2 13 rfl rfl)
theorem dX2_put_60 : decode cX2_put 60 = .ok (.iload_n 2, 1) := dk_28 (dk_at dksX2_put_2 14 rfl rfl)
theorem dX2_put_61 : decode cX2_put 61 = .ok (.iadd, 1) := dk_96 (dk_at dksX2_put_2 15 rfl rfl)
theorem dX2_put_62 : decode cX2_put 62 = .ok (.aload_n 0, 1) := dk_42 (dk_at dksX2_put_2 16 rfl rfl)
theorem dX2_put_63 : decode cX2_put 63 = .ok (.getfield 93, 3) := dk_180 0 93 (dk_at dksX2_put_2 17 rfl rfl)
theorem dX2_put_66 : decode cX2_put 66 = .ok (.iload_n 1, 1) := dk_27 (dk_at dksX2_put_2 20 rfl rfl)
theorem dX2_put_67 : decode cX2_put 67 = .ok (.iaload, 1) := dk_46 (dk_at dksX2_put_2 21 rfl rfl)
theorem dX2_put_68 : decode cX2_put 68 = .ok (.lload_n 3, 1) := dk_33 (dk_at dksX2_put_2 22 rfl rfl)
theorem dX2_put_69 : decode cX2_put 69 = .ok (.invokestatic 387, 3) := dk_184 1 131 (dk_at dksX2_put_3 0 rfl rfl)
theorem dX2_put_72 : decode cX2_put 72 = .ok (.lastore, 1) := dk_80 (dk_at dksX2_put_3 3 rfl rfl)
theorem dX2_put_73 : decode cX2_put 73 = .ok (.iconst 1, 1) := dk_4 (dk_at dksX2_put_3 4 rfl rfl)
theorem dX2_put_74 : decode cX2_put 74 = .ok (.ireturn, 1) := dk_172 (dk_at dksX2_put_3 5 rfl rfl)
abbrev cX2_isRow : ByteArray := prog_31_method_93_code
def yX2_isRow : MethodName := ⟨RX2, "isRow", "(I)Z"⟩
def dkwX2_isRow_0 : List UInt8 := [42, 180, 0, 93, 27, 46, 3, 7, 184, 0, 128, 172]
abbrev dktX2_isRow_0 : List UInt8 := dkwX2_isRow_0 ++ []
theorem dksX2_isRow_0 : cX2_isRow.data.toList.drop 0 = dktX2_isRow_0 := by decide +kernel
theorem dX2_isRow_0 : decode cX2_isRow 0 = .ok (.aload_n 0, 1) := dk_42 (dk_at dksX2_isRow_0 0 rfl rfl)
theorem dX2_isRow_1 : decode cX2_isRow 1 = .ok (.getfield 93, 3) := dk_180 0 93 (dk_at dksX2_isRow_0 1 rfl rfl)
theorem dX2_isRow_4 : decode cX2_isRow 4 = .ok (.iload_n 1, 1) := dk_27 (dk_at dksX2_isRow_0 4 rfl rfl)
theorem dX2_isRow_5 : decode cX2_isRow 5 = .ok (.iaload, 1) := dk_46 (dk_at dksX2_isRow_0 5 rfl rfl)
theorem dX2_isRow_6 : decode cX2_isRow 6 = .ok (.iconst 0, 1) := dk_3 (dk_at dksX2_isRow_0 6 rfl rfl)
theorem dX2_isRow_7 : decode cX2_isRow 7 = .ok (.iconst 4, 1) := dk_7 (dk_at dksX2_isRow_0 7 rfl rfl)
theorem dX2_isRow_8 : decode cX2_isRow 8 = .ok (.invokestatic 128, 3) := dk_184 0 128 (dk_at dksX2_isRow_0 8 rfl rfl)
theorem dX2_isRow_11 : decode cX2_isRow 11 = .ok (.ireturn, 1) := dk_172 (dk_at dksX2_isRow_0 11 rfl rfl)
abbrev cX2_kept : ByteArray := prog_31_method_94_code
def yX2_kept : MethodName := ⟨RX2, "kept", "(IJ)J"⟩
def dkwX2_kept_3 : List UInt8 := [167, 0, 4, 9, 173]
abbrev dktX2_kept_3 : List UInt8 := dkwX2_kept_3 ++ []
def dkwX2_kept_2 : List UInt8 := [31, 136, 145, 133, 173, 31, 136, 147, 133, 173, 31, 136, 133, 173, 31, 173, 31, 9, 148, 153, 0, 7, 10]
abbrev dktX2_kept_2 : List UInt8 := dkwX2_kept_2 ++ dktX2_kept_3
def dkwX2_kept_1 : List UInt8 := [170, 0, 0, 0, 0, 0, 47, 0, 0, 0, 0, 0, 0, 0, 3, 0, 0, 0, 31, 0, 0, 0, 36, 0, 0, 0, 41, 0, 0, 0, 45]
abbrev dktX2_kept_1 : List UInt8 := dkwX2_kept_1 ++ dktX2_kept_2
def dkwX2_kept_0 : List UInt8 := [26]
abbrev dktX2_kept_0 : List UInt8 := dkwX2_kept_0 ++ dktX2_kept_1
theorem dksX2_kept_0 : cX2_kept.data.toList.drop 0 = dktX2_kept_0 := by decide +kernel
theorem dksX2_kept_1 : cX2_kept.data.toList.drop 1 = dktX2_kept_1 := dk_seg dksX2_kept_0 1 rfl rfl
theorem dksX2_kept_2 : cX2_kept.data.toList.drop 32 = dktX2_kept_2 := dk_seg dksX2_kept_1 31 rfl rfl
theorem dksX2_kept_3 : cX2_kept.data.toList.drop 55 = dktX2_kept_3 := dk_seg dksX2_kept_2 23 rfl rfl
theorem dX2_kept_0 : decode cX2_kept 0 = .ok (.iload_n 0, 1) := dk_26 (dk_at dksX2_kept_0 0 rfl rfl)
theorem dX2_kept_1 : decode cX2_kept 1 = .ok (.tableswitch 47 0 3 #[31, 36, 41, 45], 31) := by decide +kernel
theorem dX2_kept_32 : decode cX2_kept 32 = .ok (.lload_n 1, 1) := dk_31 (dk_at dksX2_kept_2 0 rfl rfl)
theorem dX2_kept_33 : decode cX2_kept 33 = .ok (.l2i, 1) := dk_136 (dk_at dksX2_kept_2 1 rfl rfl)
theorem dX2_kept_34 : decode cX2_kept 34 = .ok (.i2b, 1) := dk_145 (dk_at dksX2_kept_2 2 rfl rfl)
theorem dX2_kept_35 : decode cX2_kept 35 = .ok (.i2l, 1) := dk_133 (dk_at dksX2_kept_2 3 rfl rfl)
theorem dX2_kept_36 : decode cX2_kept 36 = .ok (.lreturn, 1) := dk_173 (dk_at dksX2_kept_2 4 rfl rfl)
theorem dX2_kept_37 : decode cX2_kept 37 = .ok (.lload_n 1, 1) := dk_31 (dk_at dksX2_kept_2 5 rfl rfl)
theorem dX2_kept_38 : decode cX2_kept 38 = .ok (.l2i, 1) := dk_136 (dk_at dksX2_kept_2 6 rfl rfl)
theorem dX2_kept_39 : decode cX2_kept 39 = .ok (.i2s, 1) := dk_147 (dk_at dksX2_kept_2 7 rfl rfl)
theorem dX2_kept_40 : decode cX2_kept 40 = .ok (.i2l, 1) := dk_133 (dk_at dksX2_kept_2 8 rfl rfl)
theorem dX2_kept_41 : decode cX2_kept 41 = .ok (.lreturn, 1) := dk_173 (dk_at dksX2_kept_2 9 rfl rfl)
theorem dX2_kept_42 : decode cX2_kept 42 = .ok (.lload_n 1, 1) := dk_31 (dk_at dksX2_kept_2 10 rfl rfl)
theorem dX2_kept_43 : decode cX2_kept 43 = .ok (.l2i, 1) := dk_136 (dk_at dksX2_kept_2 11 rfl rfl)
theorem dX2_kept_44 : decode cX2_kept 44 = .ok (.i2l, 1) := dk_133 (dk_at dksX2_kept_2 12 rfl rfl)
theorem dX2_kept_45 : decode cX2_kept 45 = .ok (.lreturn, 1) := dk_173 (dk_at dksX2_kept_2 13 rfl rfl)
theorem dX2_kept_46 : decode cX2_kept 46 = .ok (.lload_n 1, 1) := dk_31 (dk_at dksX2_kept_2 14 rfl rfl)
theorem dX2_kept_47 : decode cX2_kept 47 = .ok (.lreturn, 1) := dk_173 (dk_at dksX2_kept_2 15 rfl rfl)
theorem dX2_kept_48 : decode cX2_kept 48 = .ok (.lload_n 1, 1) := dk_31 (dk_at dksX2_kept_2 16 rfl rfl)
theorem dX2_kept_49 : decode cX2_kept 49 = .ok (.lconst 0, 1) := dk_9 (dk_at dksX2_kept_2 17 rfl rfl)
theorem dX2_kept_50 : decode cX2_kept 50 = .ok (.lcmp, 1) := dk_148 (dk_at dksX2_kept_2 18 rfl rfl)
theorem dX2_kept_51 : decode cX2_kept 51 = .ok (.ifCond .eq 7, 3) := dk_153 0 7 (dk_at dksX2_kept_2 19 rfl rfl)
theorem dX2_kept_54 : decode cX2_kept 54 = .ok (.lconst 1, 1) := dk_10 (dk_at dksX2_kept_2 22 rfl rfl)
theorem dX2_kept_55 : decode cX2_kept 55 = .ok (.goto 4, 3) := dk_167 0 4 (dk_at dksX2_kept_3 0 rfl rfl)
theorem dX2_kept_58 : decode cX2_kept 58 = .ok (.lconst 0, 1) := dk_9 (dk_at dksX2_kept_3 3 rfl rfl)
theorem dX2_kept_59 : decode cX2_kept 59 = .ok (.lreturn, 1) := dk_173 (dk_at dksX2_kept_3 4 rfl rfl)
abbrev cX2_element : ByteArray := prog_31_method_96_code
def yX2_element : MethodName := ⟨RX2, "element", "(II)J"⟩
def dkwX2_element_2 : List UInt8 := [173]
abbrev dktX2_element_2 : List UInt8 := dkwX2_element_2 ++ []
def dkwX2_element_1 : List UInt8 := [100, 184, 0, 128, 153, 0, 17, 42, 180, 0, 99, 16, 60, 27, 104, 28, 96, 47, 167, 0, 6, 20, 1, 135]
abbrev dktX2_element_1 : List UInt8 := dkwX2_element_1 ++ dktX2_element_2
def dkwX2_element_0 : List UInt8 := [27, 184, 0, 140, 153, 0, 41, 42, 27, 182, 1, 128, 153, 0, 33, 28, 3, 42, 180, 0, 96, 27, 46, 4]
abbrev dktX2_element_0 : List UInt8 := dkwX2_element_0 ++ dktX2_element_1
theorem dksX2_element_0 : cX2_element.data.toList.drop 0 = dktX2_element_0 := by decide +kernel
theorem dksX2_element_1 : cX2_element.data.toList.drop 24 = dktX2_element_1 := dk_seg dksX2_element_0 24 rfl rfl
theorem dksX2_element_2 : cX2_element.data.toList.drop 48 = dktX2_element_2 := dk_seg dksX2_element_1 24 rfl rfl
theorem dX2_element_0 : decode cX2_element 0 = .ok (.iload_n 1, 1) := dk_27 (dk_at dksX2_element_0 0 rfl rfl)
theorem dX2_element_1 : decode cX2_element 1 = .ok (.invokestatic 140, 3) := dk_184 0 140 (dk_at dksX2_element_0 1 rfl rfl)
theorem dX2_element_4 : decode cX2_element 4 = .ok (.ifCond .eq 41, 3) := dk_153 0 41 (dk_at dksX2_element_0 4 rfl rfl)
theorem dX2_element_7 : decode cX2_element 7 = .ok (.aload_n 0, 1) := dk_42 (dk_at dksX2_element_0 7 rfl rfl)
theorem dX2_element_8 : decode cX2_element 8 = .ok (.iload_n 1, 1) := dk_27 (dk_at dksX2_element_0 8 rfl rfl)
theorem dX2_element_9 : decode cX2_element 9 = .ok (.invokevirtual 384, 3) := dk_182 1 128 (dk_at dksX2_element_0 9 rfl rfl)
theorem dX2_element_12 : decode cX2_element 12 = .ok (.ifCond .eq 33, 3) := dk_153 0 33 (dk_at dksX2_element_0 12 rfl rfl)
theorem dX2_element_15 : decode cX2_element 15 = .ok (.iload_n 2, 1) := dk_28 (dk_at dksX2_element_0 15 rfl rfl)
theorem dX2_element_16 : decode cX2_element 16 = .ok (.iconst 0, 1) := dk_3 (dk_at dksX2_element_0 16 rfl rfl)
theorem dX2_element_17 : decode cX2_element 17 = .ok (.aload_n 0, 1) := dk_42 (dk_at dksX2_element_0 17 rfl rfl)
theorem dX2_element_18 : decode cX2_element 18 = .ok (.getfield 96, 3) := dk_180 0 96 (dk_at dksX2_element_0 18 rfl rfl)
theorem dX2_element_21 : decode cX2_element 21 = .ok (.iload_n 1, 1) := dk_27 (dk_at dksX2_element_0 21 rfl rfl)
theorem dX2_element_22 : decode cX2_element 22 = .ok (.iaload, 1) := dk_46 (dk_at dksX2_element_0 22 rfl rfl)
theorem dX2_element_23 : decode cX2_element 23 = .ok (.iconst 1, 1) := dk_4 (dk_at dksX2_element_0 23 rfl rfl)
theorem dX2_element_24 : decode cX2_element 24 = .ok (.isub, 1) := dk_100 (dk_at dksX2_element_1 0 rfl rfl)
theorem dX2_element_25 : decode cX2_element 25 = .ok (.invokestatic 128, 3) := dk_184 0 128 (dk_at dksX2_element_1 1 rfl rfl)
theorem dX2_element_28 : decode cX2_element 28 = .ok (.ifCond .eq 17, 3) := dk_153 0 17 (dk_at dksX2_element_1 4 rfl rfl)
theorem dX2_element_31 : decode cX2_element 31 = .ok (.aload_n 0, 1) := dk_42 (dk_at dksX2_element_1 7 rfl rfl)
theorem dX2_element_32 : decode cX2_element 32 = .ok (.getfield 99, 3) := dk_180 0 99 (dk_at dksX2_element_1 8 rfl rfl)
theorem dX2_element_35 : decode cX2_element 35 = .ok (.bipush 60, 2) := dk_16 60 (dk_at dksX2_element_1 11 rfl rfl)
theorem dX2_element_37 : decode cX2_element 37 = .ok (.iload_n 1, 1) := dk_27 (dk_at dksX2_element_1 13 rfl rfl)
theorem dX2_element_38 : decode cX2_element 38 = .ok (.imul, 1) := dk_104 (dk_at dksX2_element_1 14 rfl rfl)
theorem dX2_element_39 : decode cX2_element 39 = .ok (.iload_n 2, 1) := dk_28 (dk_at dksX2_element_1 15 rfl rfl)
theorem dX2_element_40 : decode cX2_element 40 = .ok (.iadd, 1) := dk_96 (dk_at dksX2_element_1 16 rfl rfl)
theorem dX2_element_41 : decode cX2_element 41 = .ok (.laload, 1) := dk_47 (dk_at dksX2_element_1 17 rfl rfl)
theorem dX2_element_42 : decode cX2_element 42 = .ok (.goto 6, 3) := dk_167 0 6 (dk_at dksX2_element_1 18 rfl rfl)
theorem dX2_element_45 : decode cX2_element 45 = .ok (.ldc2_w 391, 3) := dk_20 1 135 (dk_at dksX2_element_1 21 rfl rfl)
theorem dX2_element_48 : decode cX2_element 48 = .ok (.lreturn, 1) := dk_173 (dk_at dksX2_element_2 0 rfl rfl)
abbrev cX2_shift : ByteArray := prog_31_method_97_code
def yX2_shift : MethodName := ⟨RX2, "shift", "(IIIII)I"⟩
def dkwX2_shift_9 : List UInt8 := [180, 0, 99, 16, 60, 27, 104, 28, 96, 21, 6, 96, 47, 80, 132, 6, 1, 167, 255, 217, 21, 5, 172]
abbrev dktX2_shift_9 : List UInt8 := dkwX2_shift_9 ++ []
def dkwX2_shift_8 : List UInt8 := [21, 6, 21, 5, 162, 0, 38, 42, 180, 0, 99, 16, 60, 29, 104, 21, 4, 96, 21, 6, 96, 42]
abbrev dktX2_shift_8 : List UInt8 := dkwX2_shift_8 ++ dktX2_shift_9
def dkwX2_shift_7 : List UInt8 := [16, 60, 27, 104, 28, 96, 21, 6, 96, 47, 80, 132, 6, 255, 167, 255, 219, 167, 0, 48, 3, 54, 6]
abbrev dktX2_shift_7 : List UInt8 := dkwX2_shift_7 ++ dktX2_shift_8
def dkwX2_shift_6 : List UInt8 := [21, 6, 155, 0, 38, 42, 180, 0, 99, 16, 60, 29, 104, 21, 4, 96, 21, 6, 96, 42, 180, 0, 99]
abbrev dktX2_shift_6 : List UInt8 := dkwX2_shift_6 ++ dktX2_shift_7
def dkwX2_shift_5 : List UInt8 := [148, 158, 0, 6, 16, 243, 172, 27, 29, 160, 0, 58, 28, 21, 4, 162, 0, 52, 21, 5, 4, 100, 54, 6]
abbrev dktX2_shift_5 : List UInt8 := dkwX2_shift_5 ++ dktX2_shift_6
def dkwX2_shift_4 : List UInt8 := [180, 0, 96, 27, 46, 133, 148, 157, 0, 21, 21, 4, 133, 21, 5, 133, 97, 42, 180, 0, 96, 29, 46, 133]
abbrev dktX2_shift_4 : List UInt8 := dkwX2_shift_4 ++ dktX2_shift_5
def dkwX2_shift_3 : List UInt8 := [16, 244, 172, 21, 5, 155, 0, 47, 28, 155, 0, 43, 21, 4, 155, 0, 38, 28, 133, 21, 5, 133, 97, 42]
abbrev dktX2_shift_3 : List UInt8 := dkwX2_shift_3 ++ dktX2_shift_4
def dkwX2_shift_2 : List UInt8 := [42, 29, 182, 1, 128, 153, 0, 18, 42, 180, 0, 93, 27, 46, 42, 180, 0, 93, 29, 46, 159, 0, 6]
abbrev dktX2_shift_2 : List UInt8 := dkwX2_shift_2 ++ dktX2_shift_3
def dkwX2_shift_1 : List UInt8 := [159, 0, 13, 42, 180, 0, 93, 29, 46, 2, 160, 0, 6, 16, 245, 172, 42, 27, 182, 1, 128, 153, 0, 26]
abbrev dktX2_shift_1 : List UInt8 := dkwX2_shift_1 ++ dktX2_shift_2
def dkwX2_shift_0 : List UInt8 := [27, 184, 0, 140, 153, 0, 10, 29, 184, 0, 140, 154, 0, 5, 2, 172, 42, 180, 0, 93, 27, 46, 2]
abbrev dktX2_shift_0 : List UInt8 := dkwX2_shift_0 ++ dktX2_shift_1
theorem dksX2_shift_0 : cX2_shift.data.toList.drop 0 = dktX2_shift_0 := by decide +kernel
theorem dksX2_shift_1 : cX2_shift.data.toList.drop 23 = dktX2_shift_1 := dk_seg dksX2_shift_0 23 rfl rfl
theorem dksX2_shift_2 : cX2_shift.data.toList.drop 47 = dktX2_shift_2 := dk_seg dksX2_shift_1 24 rfl rfl
theorem dksX2_shift_3 : cX2_shift.data.toList.drop 70 = dktX2_shift_3 := dk_seg dksX2_shift_2 23 rfl rfl
theorem dksX2_shift_4 : cX2_shift.data.toList.drop 94 = dktX2_shift_4 := dk_seg dksX2_shift_3 24 rfl rfl
theorem dksX2_shift_5 : cX2_shift.data.toList.drop 118 = dktX2_shift_5 := dk_seg dksX2_shift_4 24 rfl rfl
theorem dksX2_shift_6 : cX2_shift.data.toList.drop 142 = dktX2_shift_6 := dk_seg dksX2_shift_5 24 rfl rfl
theorem dksX2_shift_7 : cX2_shift.data.toList.drop 165 = dktX2_shift_7 := dk_seg dksX2_shift_6 23 rfl rfl
theorem dksX2_shift_8 : cX2_shift.data.toList.drop 188 = dktX2_shift_8 := dk_seg dksX2_shift_7 23 rfl rfl
theorem dksX2_shift_9 : cX2_shift.data.toList.drop 210 = dktX2_shift_9 := dk_seg dksX2_shift_8 22 rfl rfl
theorem dX2_shift_0 : decode cX2_shift 0 = .ok (.iload_n 1, 1) := dk_27 (dk_at dksX2_shift_0 0 rfl rfl)
theorem dX2_shift_1 : decode cX2_shift 1 = .ok (.invokestatic 140, 3) := dk_184 0 140 (dk_at dksX2_shift_0 1 rfl rfl)
theorem dX2_shift_4 : decode cX2_shift 4 = .ok (.ifCond .eq 10, 3) := dk_153 0 10 (dk_at dksX2_shift_0 4 rfl rfl)
theorem dX2_shift_7 : decode cX2_shift 7 = .ok (.iload_n 3, 1) := dk_29 (dk_at dksX2_shift_0 7 rfl rfl)
theorem dX2_shift_8 : decode cX2_shift 8 = .ok (.invokestatic 140, 3) := dk_184 0 140 (dk_at dksX2_shift_0 8 rfl rfl)
theorem dX2_shift_11 : decode cX2_shift 11 = .ok (.ifCond .ne 5, 3) := dk_154 0 5 (dk_at dksX2_shift_0 11 rfl rfl)
theorem dX2_shift_14 : decode cX2_shift 14 = .ok (.iconst (-1), 1) := dk_2 (dk_at dksX2_shift_0 14 rfl rfl)
theorem dX2_shift_15 : decode cX2_shift 15 = .ok (.ireturn, 1) := dk_172 (dk_at dksX2_shift_0 15 rfl rfl)
theorem dX2_shift_16 : decode cX2_shift 16 = .ok (.aload_n 0, 1) := dk_42 (dk_at dksX2_shift_0 16 rfl rfl)
theorem dX2_shift_17 : decode cX2_shift 17 = .ok (.getfield 93, 3) := dk_180 0 93 (dk_at dksX2_shift_0 17 rfl rfl)
theorem dX2_shift_20 : decode cX2_shift 20 = .ok (.iload_n 1, 1) := dk_27 (dk_at dksX2_shift_0 20 rfl rfl)
theorem dX2_shift_21 : decode cX2_shift 21 = .ok (.iaload, 1) := dk_46 (dk_at dksX2_shift_0 21 rfl rfl)
theorem dX2_shift_22 : decode cX2_shift 22 = .ok (.iconst (-1), 1) := dk_2 (dk_at dksX2_shift_0 22 rfl rfl)
theorem dX2_shift_23 : decode cX2_shift 23 = .ok (.if_icmp .eq 13, 3) := dk_159 0 13 (dk_at dksX2_shift_1 0 rfl rfl)
theorem dX2_shift_26 : decode cX2_shift 26 = .ok (.aload_n 0, 1) := dk_42 (dk_at dksX2_shift_1 3 rfl rfl)
theorem dX2_shift_27 : decode cX2_shift 27 = .ok (.getfield 93, 3) := dk_180 0 93 (dk_at dksX2_shift_1 4 rfl rfl)
theorem dX2_shift_30 : decode cX2_shift 30 = .ok (.iload_n 3, 1) := dk_29 (dk_at dksX2_shift_1 7 rfl rfl)
theorem dX2_shift_31 : decode cX2_shift 31 = .ok (.iaload, 1) := dk_46 (dk_at dksX2_shift_1 8 rfl rfl)
theorem dX2_shift_32 : decode cX2_shift 32 = .ok (.iconst (-1), 1) := dk_2 (dk_at dksX2_shift_1 9 rfl rfl)
theorem dX2_shift_33 : decode cX2_shift 33 = .ok (.if_icmp .ne 6, 3) := dk_160 0 6 (dk_at dksX2_shift_1 10 rfl rfl)
theorem dX2_shift_36 : decode cX2_shift 36 = .ok (.bipush (-11), 2) := dk_16 245 (dk_at dksX2_shift_1 13 rfl rfl)
theorem dX2_shift_38 : decode cX2_shift 38 = .ok (.ireturn, 1) := dk_172 (dk_at dksX2_shift_1 15 rfl rfl)
theorem dX2_shift_39 : decode cX2_shift 39 = .ok (.aload_n 0, 1) := dk_42 (dk_at dksX2_shift_1 16 rfl rfl)
theorem dX2_shift_40 : decode cX2_shift 40 = .ok (.iload_n 1, 1) := dk_27 (dk_at dksX2_shift_1 17 rfl rfl)
theorem dX2_shift_41 : decode cX2_shift 41 = .ok (.invokevirtual 384, 3) := dk_182 1 128 (dk_at dksX2_shift_1 18 rfl rfl)
theorem dX2_shift_44 : decode cX2_shift 44 = .ok (.ifCond .eq 26, 3) := dk_153 0 26 (dk_at dksX2_shift_1 21 rfl rfl)
theorem dX2_shift_47 : decode cX2_shift 47 = .ok (.aload_n 0, 1) := dk_42 (dk_at dksX2_shift_2 0 rfl rfl)
theorem dX2_shift_48 : decode cX2_shift 48 = .ok (.iload_n 3, 1) := dk_29 (dk_at dksX2_shift_2 1 rfl rfl)
theorem dX2_shift_49 : decode cX2_shift 49 = .ok (.invokevirtual 384, 3) := dk_182 1 128 (dk_at dksX2_shift_2 2 rfl rfl)
theorem dX2_shift_52 : decode cX2_shift 52 = .ok (.ifCond .eq 18, 3) := dk_153 0 18 (dk_at dksX2_shift_2 5 rfl rfl)
theorem dX2_shift_55 : decode cX2_shift 55 = .ok (.aload_n 0, 1) := dk_42 (dk_at dksX2_shift_2 8 rfl rfl)
theorem dX2_shift_56 : decode cX2_shift 56 = .ok (.getfield 93, 3) := dk_180 0 93 (dk_at dksX2_shift_2 9 rfl rfl)
theorem dX2_shift_59 : decode cX2_shift 59 = .ok (.iload_n 1, 1) := dk_27 (dk_at dksX2_shift_2 12 rfl rfl)
theorem dX2_shift_60 : decode cX2_shift 60 = .ok (.iaload, 1) := dk_46 (dk_at dksX2_shift_2 13 rfl rfl)
theorem dX2_shift_61 : decode cX2_shift 61 = .ok (.aload_n 0, 1) := dk_42 (dk_at dksX2_shift_2 14 rfl rfl)
theorem dX2_shift_62 : decode cX2_shift 62 = .ok (.getfield 93, 3) := dk_180 0 93 (dk_at dksX2_shift_2 15 rfl rfl)
theorem dX2_shift_65 : decode cX2_shift 65 = .ok (.iload_n 3, 1) := dk_29 (dk_at dksX2_shift_2 18 rfl rfl)
theorem dX2_shift_66 : decode cX2_shift 66 = .ok (.iaload, 1) := dk_46 (dk_at dksX2_shift_2 19 rfl rfl)
theorem dX2_shift_67 : decode cX2_shift 67 = .ok (.if_icmp .eq 6, 3) := dk_159 0 6 (dk_at dksX2_shift_2 20 rfl rfl)
theorem dX2_shift_70 : decode cX2_shift 70 = .ok (.bipush (-12), 2) := dk_16 244 (dk_at dksX2_shift_3 0 rfl rfl)
theorem dX2_shift_72 : decode cX2_shift 72 = .ok (.ireturn, 1) := dk_172 (dk_at dksX2_shift_3 2 rfl rfl)
theorem dX2_shift_73 : decode cX2_shift 73 = .ok (.iload 5, 2) := dk_21 5 (dk_at dksX2_shift_3 3 rfl rfl)
theorem dX2_shift_75 : decode cX2_shift 75 = .ok (.ifCond .lt 47, 3) := dk_155 0 47 (dk_at dksX2_shift_3 5 rfl rfl)
theorem dX2_shift_78 : decode cX2_shift 78 = .ok (.iload_n 2, 1) := dk_28 (dk_at dksX2_shift_3 8 rfl rfl)
theorem dX2_shift_79 : decode cX2_shift 79 = .ok (.ifCond .lt 43, 3) := dk_155 0 43 (dk_at dksX2_shift_3 9 rfl rfl)
theorem dX2_shift_82 : decode cX2_shift 82 = .ok (.iload 4, 2) := dk_21 4 (dk_at dksX2_shift_3 12 rfl rfl)
theorem dX2_shift_84 : decode cX2_shift 84 = .ok (.ifCond .lt 38, 3) := dk_155 0 38 (dk_at dksX2_shift_3 14 rfl rfl)
theorem dX2_shift_87 : decode cX2_shift 87 = .ok (.iload_n 2, 1) := dk_28 (dk_at dksX2_shift_3 17 rfl rfl)
theorem dX2_shift_88 : decode cX2_shift 88 = .ok (.i2l, 1) := dk_133 (dk_at dksX2_shift_3 18 rfl rfl)
theorem dX2_shift_89 : decode cX2_shift 89 = .ok (.iload 5, 2) := dk_21 5 (dk_at dksX2_shift_3 19 rfl rfl)
theorem dX2_shift_91 : decode cX2_shift 91 = .ok (.i2l, 1) := dk_133 (dk_at dksX2_shift_3 21 rfl rfl)
theorem dX2_shift_92 : decode cX2_shift 92 = .ok (.ladd, 1) := dk_97 (dk_at dksX2_shift_3 22 rfl rfl)
theorem dX2_shift_93 : decode cX2_shift 93 = .ok (.aload_n 0, 1) := dk_42 (dk_at dksX2_shift_3 23 rfl rfl)
theorem dX2_shift_94 : decode cX2_shift 94 = .ok (.getfield 96, 3) := dk_180 0 96 (dk_at dksX2_shift_4 0 rfl rfl)
theorem dX2_shift_97 : decode cX2_shift 97 = .ok (.iload_n 1, 1) := dk_27 (dk_at dksX2_shift_4 3 rfl rfl)
theorem dX2_shift_98 : decode cX2_shift 98 = .ok (.iaload, 1) := dk_46 (dk_at dksX2_shift_4 4 rfl rfl)
theorem dX2_shift_99 : decode cX2_shift 99 = .ok (.i2l, 1) := dk_133 (dk_at dksX2_shift_4 5 rfl rfl)
theorem dX2_shift_100 : decode cX2_shift 100 = .ok (.lcmp, 1) := dk_148 (dk_at dksX2_shift_4 6 rfl rfl)
theorem dX2_shift_101 : decode cX2_shift 101 = .ok (.ifCond .gt 21, 3) := dk_157 0 21 (dk_at dksX2_shift_4 7 rfl rfl)
theorem dX2_shift_104 : decode cX2_shift 104 = .ok (.iload 4, 2) := dk_21 4 (dk_at dksX2_shift_4 10 rfl rfl)
theorem dX2_shift_106 : decode cX2_shift 106 = .ok (.i2l, 1) := dk_133 (dk_at dksX2_shift_4 12 rfl rfl)
theorem dX2_shift_107 : decode cX2_shift 107 = .ok (.iload 5, 2) := dk_21 5 (dk_at dksX2_shift_4 13 rfl rfl)
theorem dX2_shift_109 : decode cX2_shift 109 = .ok (.i2l, 1) := dk_133 (dk_at dksX2_shift_4 15 rfl rfl)
theorem dX2_shift_110 : decode cX2_shift 110 = .ok (.ladd, 1) := dk_97 (dk_at dksX2_shift_4 16 rfl rfl)
theorem dX2_shift_111 : decode cX2_shift 111 = .ok (.aload_n 0, 1) := dk_42 (dk_at dksX2_shift_4 17 rfl rfl)
theorem dX2_shift_112 : decode cX2_shift 112 = .ok (.getfield 96, 3) := dk_180 0 96 (dk_at dksX2_shift_4 18 rfl rfl)
theorem dX2_shift_115 : decode cX2_shift 115 = .ok (.iload_n 3, 1) := dk_29 (dk_at dksX2_shift_4 21 rfl rfl)
theorem dX2_shift_116 : decode cX2_shift 116 = .ok (.iaload, 1) := dk_46 (dk_at dksX2_shift_4 22 rfl rfl)
theorem dX2_shift_117 : decode cX2_shift 117 = .ok (.i2l, 1) := dk_133 (dk_at dksX2_shift_4 23 rfl rfl)
theorem dX2_shift_118 : decode cX2_shift 118 = .ok (.lcmp, 1) := dk_148 (dk_at dksX2_shift_5 0 rfl rfl)
theorem dX2_shift_119 : decode cX2_shift 119 = .ok (.ifCond .le 6, 3) := dk_158 0 6 (dk_at dksX2_shift_5 1 rfl rfl)
theorem dX2_shift_122 : decode cX2_shift 122 = .ok (.bipush (-13), 2) := dk_16 243 (dk_at dksX2_shift_5 4 rfl rfl)
theorem dX2_shift_124 : decode cX2_shift 124 = .ok (.ireturn, 1) := dk_172 (dk_at dksX2_shift_5 6 rfl rfl)
theorem dX2_shift_125 : decode cX2_shift 125 = .ok (.iload_n 1, 1) := dk_27 (dk_at dksX2_shift_5 7 rfl rfl)
theorem dX2_shift_126 : decode cX2_shift 126 = .ok (.iload_n 3, 1) := dk_29 (dk_at dksX2_shift_5 8 rfl rfl)
theorem dX2_shift_127 : decode cX2_shift 127 = .ok (.if_icmp .ne 58, 3) := dk_160 0 58 (dk_at dksX2_shift_5 9 rfl rfl)
theorem dX2_shift_130 : decode cX2_shift 130 = .ok (.iload_n 2, 1) := dk_28 (dk_at dksX2_shift_5 12 rfl rfl)
theorem dX2_shift_131 : decode cX2_shift 131 = .ok (.iload 4, 2) := dk_21 4 (dk_at dksX2_shift_5 13 rfl rfl)
theorem dX2_shift_133 : decode cX2_shift 133 = .ok (.if_icmp .ge 52, 3) := dk_162 0 52 (dk_at dksX2_shift_5 15 rfl rfl)
theorem dX2_shift_136 : decode cX2_shift 136 = .ok (.iload 5, 2) := dk_21 5 (dk_at dksX2_shift_5 18 rfl rfl)
theorem dX2_shift_138 : decode cX2_shift 138 = .ok (.iconst 1, 1) := dk_4 (dk_at dksX2_shift_5 20 rfl rfl)
theorem dX2_shift_139 : decode cX2_shift 139 = .ok (.isub, 1) := dk_100 (dk_at dksX2_shift_5 21 rfl rfl)
theorem dX2_shift_140 : decode cX2_shift 140 = .ok (.istore 6, 2) := dk_54 6 (dk_at dksX2_shift_5 22 rfl rfl)
theorem dX2_shift_142 : decode cX2_shift 142 = .ok (.iload 6, 2) := dk_21 6 (dk_at dksX2_shift_6 0 rfl rfl)
theorem dX2_shift_144 : decode cX2_shift 144 = .ok (.ifCond .lt 38, 3) := dk_155 0 38 (dk_at dksX2_shift_6 2 rfl rfl)
theorem dX2_shift_147 : decode cX2_shift 147 = .ok (.aload_n 0, 1) := dk_42 (dk_at dksX2_shift_6 5 rfl rfl)
theorem dX2_shift_148 : decode cX2_shift 148 = .ok (.getfield 99, 3) := dk_180 0 99 (dk_at dksX2_shift_6 6 rfl rfl)
theorem dX2_shift_151 : decode cX2_shift 151 = .ok (.bipush 60, 2) := dk_16 60 (dk_at dksX2_shift_6 9 rfl rfl)
theorem dX2_shift_153 : decode cX2_shift 153 = .ok (.iload_n 3, 1) := dk_29 (dk_at dksX2_shift_6 11 rfl rfl)
theorem dX2_shift_154 : decode cX2_shift 154 = .ok (.imul, 1) := dk_104 (dk_at dksX2_shift_6 12 rfl rfl)
theorem dX2_shift_155 : decode cX2_shift 155 = .ok (.iload 4, 2) := dk_21 4 (dk_at dksX2_shift_6 13 rfl rfl)
theorem dX2_shift_157 : decode cX2_shift 157 = .ok (.iadd, 1) := dk_96 (dk_at dksX2_shift_6 15 rfl rfl)
theorem dX2_shift_158 : decode cX2_shift 158 = .ok (.iload 6, 2) := dk_21 6 (dk_at dksX2_shift_6 16 rfl rfl)
theorem dX2_shift_160 : decode cX2_shift 160 = .ok (.iadd, 1) := dk_96 (dk_at dksX2_shift_6 18 rfl rfl)
theorem dX2_shift_161 : decode cX2_shift 161 = .ok (.aload_n 0, 1) := dk_42 (dk_at dksX2_shift_6 19 rfl rfl)
theorem dX2_shift_162 : decode cX2_shift 162 = .ok (.getfield 99, 3) := dk_180 0 99 (dk_at dksX2_shift_6 20 rfl rfl)
theorem dX2_shift_165 : decode cX2_shift 165 = .ok (.bipush 60, 2) := dk_16 60 (dk_at dksX2_shift_7 0 rfl rfl)
theorem dX2_shift_167 : decode cX2_shift 167 = .ok (.iload_n 1, 1) := dk_27 (dk_at dksX2_shift_7 2 rfl rfl)
theorem dX2_shift_168 : decode cX2_shift 168 = .ok (.imul, 1) := dk_104 (dk_at dksX2_shift_7 3 rfl rfl)
theorem dX2_shift_169 : decode cX2_shift 169 = .ok (.iload_n 2, 1) := dk_28 (dk_at dksX2_shift_7 4 rfl rfl)
theorem dX2_shift_170 : decode cX2_shift 170 = .ok (.iadd, 1) := dk_96 (dk_at dksX2_shift_7 5 rfl rfl)
theorem dX2_shift_171 : decode cX2_shift 171 = .ok (.iload 6, 2) := dk_21 6 (dk_at dksX2_shift_7 6 rfl rfl)
theorem dX2_shift_173 : decode cX2_shift 173 = .ok (.iadd, 1) := dk_96 (dk_at dksX2_shift_7 8 rfl rfl)
theorem dX2_shift_174 : decode cX2_shift 174 = .ok (.laload, 1) := dk_47 (dk_at dksX2_shift_7 9 rfl rfl)
theorem dX2_shift_175 : decode cX2_shift 175 = .ok (.lastore, 1) := dk_80 (dk_at dksX2_shift_7 10 rfl rfl)
theorem dX2_shift_176 : decode cX2_shift 176 = .ok (.iinc 6 (-1), 3) := dk_132 6 255 (dk_at dksX2_shift_7 11 rfl rfl)
theorem dX2_shift_179 : decode cX2_shift 179 = .ok (.goto (-37), 3) := dk_167 255 219 (dk_at dksX2_shift_7 14 rfl rfl)
theorem dX2_shift_182 : decode cX2_shift 182 = .ok (.goto 48, 3) := dk_167 0 48 (dk_at dksX2_shift_7 17 rfl rfl)
theorem dX2_shift_185 : decode cX2_shift 185 = .ok (.iconst 0, 1) := dk_3 (dk_at dksX2_shift_7 20 rfl rfl)
theorem dX2_shift_186 : decode cX2_shift 186 = .ok (.istore 6, 2) := dk_54 6 (dk_at dksX2_shift_7 21 rfl rfl)
theorem dX2_shift_188 : decode cX2_shift 188 = .ok (.iload 6, 2) := dk_21 6 (dk_at dksX2_shift_8 0 rfl rfl)
theorem dX2_shift_190 : decode cX2_shift 190 = .ok (.iload 5, 2) := dk_21 5 (dk_at dksX2_shift_8 2 rfl rfl)
theorem dX2_shift_192 : decode cX2_shift 192 = .ok (.if_icmp .ge 38, 3) := dk_162 0 38 (dk_at dksX2_shift_8 4 rfl rfl)
theorem dX2_shift_195 : decode cX2_shift 195 = .ok (.aload_n 0, 1) := dk_42 (dk_at dksX2_shift_8 7 rfl rfl)
theorem dX2_shift_196 : decode cX2_shift 196 = .ok (.getfield 99, 3) := dk_180 0 99 (dk_at dksX2_shift_8 8 rfl rfl)
theorem dX2_shift_199 : decode cX2_shift 199 = .ok (.bipush 60, 2) := dk_16 60 (dk_at dksX2_shift_8 11 rfl rfl)
theorem dX2_shift_201 : decode cX2_shift 201 = .ok (.iload_n 3, 1) := dk_29 (dk_at dksX2_shift_8 13 rfl rfl)
theorem dX2_shift_202 : decode cX2_shift 202 = .ok (.imul, 1) := dk_104 (dk_at dksX2_shift_8 14 rfl rfl)
theorem dX2_shift_203 : decode cX2_shift 203 = .ok (.iload 4, 2) := dk_21 4 (dk_at dksX2_shift_8 15 rfl rfl)
theorem dX2_shift_205 : decode cX2_shift 205 = .ok (.iadd, 1) := dk_96 (dk_at dksX2_shift_8 17 rfl rfl)
theorem dX2_shift_206 : decode cX2_shift 206 = .ok (.iload 6, 2) := dk_21 6 (dk_at dksX2_shift_8 18 rfl rfl)
theorem dX2_shift_208 : decode cX2_shift 208 = .ok (.iadd, 1) := dk_96 (dk_at dksX2_shift_8 20 rfl rfl)
theorem dX2_shift_209 : decode cX2_shift 209 = .ok (.aload_n 0, 1) := dk_42 (dk_at dksX2_shift_8 21 rfl rfl)
theorem dX2_shift_210 : decode cX2_shift 210 = .ok (.getfield 99, 3) := dk_180 0 99 (dk_at dksX2_shift_9 0 rfl rfl)
theorem dX2_shift_213 : decode cX2_shift 213 = .ok (.bipush 60, 2) := dk_16 60 (dk_at dksX2_shift_9 3 rfl rfl)
theorem dX2_shift_215 : decode cX2_shift 215 = .ok (.iload_n 1, 1) := dk_27 (dk_at dksX2_shift_9 5 rfl rfl)
theorem dX2_shift_216 : decode cX2_shift 216 = .ok (.imul, 1) := dk_104 (dk_at dksX2_shift_9 6 rfl rfl)
theorem dX2_shift_217 : decode cX2_shift 217 = .ok (.iload_n 2, 1) := dk_28 (dk_at dksX2_shift_9 7 rfl rfl)
theorem dX2_shift_218 : decode cX2_shift 218 = .ok (.iadd, 1) := dk_96 (dk_at dksX2_shift_9 8 rfl rfl)
theorem dX2_shift_219 : decode cX2_shift 219 = .ok (.iload 6, 2) := dk_21 6 (dk_at dksX2_shift_9 9 rfl rfl)
theorem dX2_shift_221 : decode cX2_shift 221 = .ok (.iadd, 1) := dk_96 (dk_at dksX2_shift_9 11 rfl rfl)
theorem dX2_shift_222 : decode cX2_shift 222 = .ok (.laload, 1) := dk_47 (dk_at dksX2_shift_9 12 rfl rfl)
theorem dX2_shift_223 : decode cX2_shift 223 = .ok (.lastore, 1) := dk_80 (dk_at dksX2_shift_9 13 rfl rfl)
theorem dX2_shift_224 : decode cX2_shift 224 = .ok (.iinc 6 1, 3) := dk_132 6 1 (dk_at dksX2_shift_9 14 rfl rfl)
theorem dX2_shift_227 : decode cX2_shift 227 = .ok (.goto (-39), 3) := dk_167 255 217 (dk_at dksX2_shift_9 17 rfl rfl)
theorem dX2_shift_230 : decode cX2_shift 230 = .ok (.iload 5, 2) := dk_21 5 (dk_at dksX2_shift_9 20 rfl rfl)
theorem dX2_shift_232 : decode cX2_shift 232 = .ok (.ireturn, 1) := dk_172 (dk_at dksX2_shift_9 22 rfl rfl)
abbrev cX2_taken : ByteArray := prog_31_method_98_code
def yX2_taken : MethodName := ⟨RX2, "taken", "(II)I"⟩
def dkwX2_taken_3 : List UInt8 := [21, 4, 184, 1, 113, 54, 4, 167, 255, 238, 21, 4, 28, 160, 0, 7, 29, 167, 0, 5, 16, 244, 172]
abbrev dktX2_taken_3 : List UInt8 := dkwX2_taken_3 ++ []
def dkwX2_taken_2 : List UInt8 := [180, 0, 93, 27, 46, 16, 10, 100, 46, 62, 29, 54, 4, 21, 4, 28, 159, 0, 18, 21, 4, 158, 0, 13]
abbrev dktX2_taken_2 : List UInt8 := dkwX2_taken_2 ++ dktX2_taken_3
def dkwX2_taken_1 : List UInt8 := [46, 2, 160, 0, 6, 16, 245, 172, 42, 27, 182, 1, 128, 153, 0, 6, 16, 244, 172, 42, 180, 0, 87, 42]
abbrev dktX2_taken_1 : List UInt8 := dkwX2_taken_1 ++ dktX2_taken_2
def dkwX2_taken_0 : List UInt8 := [27, 184, 0, 140, 153, 0, 13, 28, 3, 16, 7, 184, 0, 128, 154, 0, 5, 2, 172, 42, 180, 0, 93, 27]
abbrev dktX2_taken_0 : List UInt8 := dkwX2_taken_0 ++ dktX2_taken_1
theorem dksX2_taken_0 : cX2_taken.data.toList.drop 0 = dktX2_taken_0 := by decide +kernel
theorem dksX2_taken_1 : cX2_taken.data.toList.drop 24 = dktX2_taken_1 := dk_seg dksX2_taken_0 24 rfl rfl
theorem dksX2_taken_2 : cX2_taken.data.toList.drop 48 = dktX2_taken_2 := dk_seg dksX2_taken_1 24 rfl rfl
theorem dksX2_taken_3 : cX2_taken.data.toList.drop 72 = dktX2_taken_3 := dk_seg dksX2_taken_2 24 rfl rfl
theorem dX2_taken_0 : decode cX2_taken 0 = .ok (.iload_n 1, 1) := dk_27 (dk_at dksX2_taken_0 0 rfl rfl)
theorem dX2_taken_1 : decode cX2_taken 1 = .ok (.invokestatic 140, 3) := dk_184 0 140 (dk_at dksX2_taken_0 1 rfl rfl)
theorem dX2_taken_4 : decode cX2_taken 4 = .ok (.ifCond .eq 13, 3) := dk_153 0 13 (dk_at dksX2_taken_0 4 rfl rfl)
theorem dX2_taken_7 : decode cX2_taken 7 = .ok (.iload_n 2, 1) := dk_28 (dk_at dksX2_taken_0 7 rfl rfl)
theorem dX2_taken_8 : decode cX2_taken 8 = .ok (.iconst 0, 1) := dk_3 (dk_at dksX2_taken_0 8 rfl rfl)
theorem dX2_taken_9 : decode cX2_taken 9 = .ok (.bipush 7, 2) := dk_16 7 (dk_at dksX2_taken_0 9 rfl rfl)
theorem dX2_taken_11 : decode cX2_taken 11 = .ok (.invokestatic 128, 3) := dk_184 0 128 (dk_at dksX2_taken_0 11 rfl rfl)
theorem dX2_taken_14 : decode cX2_taken 14 = .ok (.ifCond .ne 5, 3) := dk_154 0 5 (dk_at dksX2_taken_0 14 rfl rfl)
theorem dX2_taken_17 : decode cX2_taken 17 = .ok (.iconst (-1), 1) := dk_2 (dk_at dksX2_taken_0 17 rfl rfl)
theorem dX2_taken_18 : decode cX2_taken 18 = .ok (.ireturn, 1) := dk_172 (dk_at dksX2_taken_0 18 rfl rfl)
theorem dX2_taken_19 : decode cX2_taken 19 = .ok (.aload_n 0, 1) := dk_42 (dk_at dksX2_taken_0 19 rfl rfl)
theorem dX2_taken_20 : decode cX2_taken 20 = .ok (.getfield 93, 3) := dk_180 0 93 (dk_at dksX2_taken_0 20 rfl rfl)
theorem dX2_taken_23 : decode cX2_taken 23 = .ok (.iload_n 1, 1) := dk_27 (dk_at dksX2_taken_0 23 rfl rfl)
theorem dX2_taken_24 : decode cX2_taken 24 = .ok (.iaload, 1) := dk_46 (dk_at dksX2_taken_1 0 rfl rfl)
theorem dX2_taken_25 : decode cX2_taken 25 = .ok (.iconst (-1), 1) := dk_2 (dk_at dksX2_taken_1 1 rfl rfl)
theorem dX2_taken_26 : decode cX2_taken 26 = .ok (.if_icmp .ne 6, 3) := dk_160 0 6 (dk_at dksX2_taken_1 2 rfl rfl)
theorem dX2_taken_29 : decode cX2_taken 29 = .ok (.bipush (-11), 2) := dk_16 245 (dk_at dksX2_taken_1 5 rfl rfl)
theorem dX2_taken_31 : decode cX2_taken 31 = .ok (.ireturn, 1) := dk_172 (dk_at dksX2_taken_1 7 rfl rfl)
theorem dX2_taken_32 : decode cX2_taken 32 = .ok (.aload_n 0, 1) := dk_42 (dk_at dksX2_taken_1 8 rfl rfl)
theorem dX2_taken_33 : decode cX2_taken 33 = .ok (.iload_n 1, 1) := dk_27 (dk_at dksX2_taken_1 9 rfl rfl)
theorem dX2_taken_34 : decode cX2_taken 34 = .ok (.invokevirtual 384, 3) := dk_182 1 128 (dk_at dksX2_taken_1 10 rfl rfl)
theorem dX2_taken_37 : decode cX2_taken 37 = .ok (.ifCond .eq 6, 3) := dk_153 0 6 (dk_at dksX2_taken_1 13 rfl rfl)
theorem dX2_taken_40 : decode cX2_taken 40 = .ok (.bipush (-12), 2) := dk_16 244 (dk_at dksX2_taken_1 16 rfl rfl)
theorem dX2_taken_42 : decode cX2_taken 42 = .ok (.ireturn, 1) := dk_172 (dk_at dksX2_taken_1 18 rfl rfl)
theorem dX2_taken_43 : decode cX2_taken 43 = .ok (.aload_n 0, 1) := dk_42 (dk_at dksX2_taken_1 19 rfl rfl)
theorem dX2_taken_44 : decode cX2_taken 44 = .ok (.getfield 87, 3) := dk_180 0 87 (dk_at dksX2_taken_1 20 rfl rfl)
theorem dX2_taken_47 : decode cX2_taken 47 = .ok (.aload_n 0, 1) := dk_42 (dk_at dksX2_taken_1 23 rfl rfl)
theorem dX2_taken_48 : decode cX2_taken 48 = .ok (.getfield 93, 3) := dk_180 0 93 (dk_at dksX2_taken_2 0 rfl rfl)
theorem dX2_taken_51 : decode cX2_taken 51 = .ok (.iload_n 1, 1) := dk_27 (dk_at dksX2_taken_2 3 rfl rfl)
theorem dX2_taken_52 : decode cX2_taken 52 = .ok (.iaload, 1) := dk_46 (dk_at dksX2_taken_2 4 rfl rfl)
theorem dX2_taken_53 : decode cX2_taken 53 = .ok (.bipush 10, 2) := dk_16 10 (dk_at dksX2_taken_2 5 rfl rfl)
theorem dX2_taken_55 : decode cX2_taken 55 = .ok (.isub, 1) := dk_100 (dk_at dksX2_taken_2 7 rfl rfl)
theorem dX2_taken_56 : decode cX2_taken 56 = .ok (.iaload, 1) := dk_46 (dk_at dksX2_taken_2 8 rfl rfl)
theorem dX2_taken_57 : decode cX2_taken 57 = .ok (.istore_n 3, 1) := dk_62 (dk_at dksX2_taken_2 9 rfl rfl)
theorem dX2_taken_58 : decode cX2_taken 58 = .ok (.iload_n 3, 1) := dk_29 (dk_at dksX2_taken_2 10 rfl rfl)
theorem dX2_taken_59 : decode cX2_taken 59 = .ok (.istore 4, 2) := dk_54 4 (dk_at dksX2_taken_2 11 rfl rfl)
theorem dX2_taken_61 : decode cX2_taken 61 = .ok (.iload 4, 2) := dk_21 4 (dk_at dksX2_taken_2 13 rfl rfl)
theorem dX2_taken_63 : decode cX2_taken 63 = .ok (.iload_n 2, 1) := dk_28 (dk_at dksX2_taken_2 15 rfl rfl)
theorem dX2_taken_64 : decode cX2_taken 64 = .ok (.if_icmp .eq 18, 3) := dk_159 0 18 (dk_at dksX2_taken_2 16 rfl rfl)
theorem dX2_taken_67 : decode cX2_taken 67 = .ok (.iload 4, 2) := dk_21 4 (dk_at dksX2_taken_2 19 rfl rfl)
theorem dX2_taken_69 : decode cX2_taken 69 = .ok (.ifCond .le 13, 3) := dk_158 0 13 (dk_at dksX2_taken_2 21 rfl rfl)
theorem dX2_taken_72 : decode cX2_taken 72 = .ok (.iload 4, 2) := dk_21 4 (dk_at dksX2_taken_3 0 rfl rfl)
theorem dX2_taken_74 : decode cX2_taken 74 = .ok (.invokestatic 369, 3) := dk_184 1 113 (dk_at dksX2_taken_3 2 rfl rfl)
theorem dX2_taken_77 : decode cX2_taken 77 = .ok (.istore 4, 2) := dk_54 4 (dk_at dksX2_taken_3 5 rfl rfl)
theorem dX2_taken_79 : decode cX2_taken 79 = .ok (.goto (-18), 3) := dk_167 255 238 (dk_at dksX2_taken_3 7 rfl rfl)
theorem dX2_taken_82 : decode cX2_taken 82 = .ok (.iload 4, 2) := dk_21 4 (dk_at dksX2_taken_3 10 rfl rfl)
theorem dX2_taken_84 : decode cX2_taken 84 = .ok (.iload_n 2, 1) := dk_28 (dk_at dksX2_taken_3 12 rfl rfl)
theorem dX2_taken_85 : decode cX2_taken 85 = .ok (.if_icmp .ne 7, 3) := dk_160 0 7 (dk_at dksX2_taken_3 13 rfl rfl)
theorem dX2_taken_88 : decode cX2_taken 88 = .ok (.iload_n 3, 1) := dk_29 (dk_at dksX2_taken_3 16 rfl rfl)
theorem dX2_taken_89 : decode cX2_taken 89 = .ok (.goto 5, 3) := dk_167 0 5 (dk_at dksX2_taken_3 17 rfl rfl)
theorem dX2_taken_92 : decode cX2_taken 92 = .ok (.bipush (-12), 2) := dk_16 244 (dk_at dksX2_taken_3 20 rfl rfl)
theorem dX2_taken_94 : decode cX2_taken 94 = .ok (.ireturn, 1) := dk_172 (dk_at dksX2_taken_3 22 rfl rfl)
abbrev cX2_count : ByteArray := prog_31_method_99_code
def yX2_count : MethodName := ⟨RX2, "count", "(I)I"⟩
def dkwX2_count_3 : List UInt8 := [172, 2, 172]
abbrev dktX2_count_3 : List UInt8 := dkwX2_count_3 ++ []
def dkwX2_count_2 : List UInt8 := [42, 180, 0, 125, 172, 42, 180, 0, 167, 172, 42, 180, 0, 161, 172, 42, 180, 1, 125, 172, 42, 180, 1, 104]
abbrev dktX2_count_2 : List UInt8 := dkwX2_count_2 ++ dktX2_count_3
def dkwX2_count_1 : List UInt8 := [170, 0, 0, 0, 0, 0, 60, 0, 0, 0, 0, 0, 0, 0, 4, 0, 0, 0, 35, 0, 0, 0, 40, 0, 0, 0, 45, 0, 0, 0, 50, 0, 0, 0, 55]
abbrev dktX2_count_1 : List UInt8 := dkwX2_count_1 ++ dktX2_count_2
def dkwX2_count_0 : List UInt8 := [27]
abbrev dktX2_count_0 : List UInt8 := dkwX2_count_0 ++ dktX2_count_1
theorem dksX2_count_0 : cX2_count.data.toList.drop 0 = dktX2_count_0 := by decide +kernel
theorem dksX2_count_1 : cX2_count.data.toList.drop 1 = dktX2_count_1 := dk_seg dksX2_count_0 1 rfl rfl
theorem dksX2_count_2 : cX2_count.data.toList.drop 36 = dktX2_count_2 := dk_seg dksX2_count_1 35 rfl rfl
theorem dksX2_count_3 : cX2_count.data.toList.drop 60 = dktX2_count_3 := dk_seg dksX2_count_2 24 rfl rfl
theorem dX2_count_0 : decode cX2_count 0 = .ok (.iload_n 1, 1) := dk_27 (dk_at dksX2_count_0 0 rfl rfl)
theorem dX2_count_1 : decode cX2_count 1 = .ok (.tableswitch 60 0 4 #[35, 40, 45, 50, 55], 35) := by decide +kernel
theorem dX2_count_36 : decode cX2_count 36 = .ok (.aload_n 0, 1) := dk_42 (dk_at dksX2_count_2 0 rfl rfl)
theorem dX2_count_37 : decode cX2_count 37 = .ok (.getfield 125, 3) := dk_180 0 125 (dk_at dksX2_count_2 1 rfl rfl)
theorem dX2_count_40 : decode cX2_count 40 = .ok (.ireturn, 1) := dk_172 (dk_at dksX2_count_2 4 rfl rfl)
theorem dX2_count_41 : decode cX2_count 41 = .ok (.aload_n 0, 1) := dk_42 (dk_at dksX2_count_2 5 rfl rfl)
theorem dX2_count_42 : decode cX2_count 42 = .ok (.getfield 167, 3) := dk_180 0 167 (dk_at dksX2_count_2 6 rfl rfl)
theorem dX2_count_45 : decode cX2_count 45 = .ok (.ireturn, 1) := dk_172 (dk_at dksX2_count_2 9 rfl rfl)
theorem dX2_count_46 : decode cX2_count 46 = .ok (.aload_n 0, 1) := dk_42 (dk_at dksX2_count_2 10 rfl rfl)
theorem dX2_count_47 : decode cX2_count 47 = .ok (.getfield 161, 3) := dk_180 0 161 (dk_at dksX2_count_2 11 rfl rfl)
theorem dX2_count_50 : decode cX2_count 50 = .ok (.ireturn, 1) := dk_172 (dk_at dksX2_count_2 14 rfl rfl)
theorem dX2_count_51 : decode cX2_count 51 = .ok (.aload_n 0, 1) := dk_42 (dk_at dksX2_count_2 15 rfl rfl)
theorem dX2_count_52 : decode cX2_count 52 = .ok (.getfield 381, 3) := dk_180 1 125 (dk_at dksX2_count_2 16 rfl rfl)
theorem dX2_count_55 : decode cX2_count 55 = .ok (.ireturn, 1) := dk_172 (dk_at dksX2_count_2 19 rfl rfl)
theorem dX2_count_56 : decode cX2_count 56 = .ok (.aload_n 0, 1) := dk_42 (dk_at dksX2_count_2 20 rfl rfl)
theorem dX2_count_57 : decode cX2_count 57 = .ok (.getfield 360, 3) := dk_180 1 104 (dk_at dksX2_count_2 21 rfl rfl)
theorem dX2_count_60 : decode cX2_count 60 = .ok (.ireturn, 1) := dk_172 (dk_at dksX2_count_3 0 rfl rfl)
theorem dX2_count_61 : decode cX2_count 61 = .ok (.iconst (-1), 1) := dk_2 (dk_at dksX2_count_3 1 rfl rfl)
theorem dX2_count_62 : decode cX2_count 62 = .ok (.ireturn, 1) := dk_172 (dk_at dksX2_count_3 2 rfl rfl)
theorem q102 : (Jvm.Cond.initialized "EightLegsModel") ∈ lw_all := lw_g (lw_at lw_m1 3 rfl) rfl
theorem q1573 : (Jvm.Cond.instantiable "EightLegsModel" (56 : Nat)) ∈ lw_all := lw_g (lw_at lw_m7 34 rfl) rfl
theorem q1575 : (Jvm.Cond.instanceMethod ({ cls := "EightLegsModel", name := "<init>", desc := "()V" } : Jvm.MethodName)) ∈ lw_all := lw_g (lw_at lw_m7 36 rfl) rfl
theorem q1576 : (Jvm.Cond.code ({ cls := "EightLegsModel", name := "<init>", desc := "()V" } : Jvm.MethodName) prog_31_method_1_code (2 : Nat) (Option.none : Option Jvm.ClassFile.FieldType)) ∈ lw_all := lw_g (lw_at lw_m7 37 rfl) rfl
theorem q1577 : (Jvm.Cond.methodLink "EightLegsModel" (3 : Nat) ({ cls := "java/lang/Object", name := "<init>", desc := "()V" } : Jvm.MethodName)) ∈ lw_all := lw_g (lw_at lw_m7 38 rfl) rfl
theorem q1578 : (Jvm.Cond.fieldLink "EightLegsModel" (125 : Nat) "EightLegsModel" "many" "I") ∈ lw_all := lw_g (lw_at lw_m7 39 rfl) rfl
theorem q1579 : (Jvm.Cond.fieldLink "EightLegsModel" (9 : Nat) "EightLegsModel" "placeX" "[I") ∈ lw_all := lw_g (lw_at lw_m7 40 rfl) rfl
theorem q1580 : (Jvm.Cond.fieldLink "EightLegsModel" (15 : Nat) "EightLegsModel" "placeY" "[I") ∈ lw_all := lw_g (lw_at lw_m7 41 rfl) rfl
theorem q1581 : (Jvm.Cond.fieldLink "EightLegsModel" (18 : Nat) "EightLegsModel" "tall" "[I") ∈ lw_all := lw_g (lw_at lw_m7 42 rfl) rfl
theorem q1582 : (Jvm.Cond.fieldLink "EightLegsModel" (21 : Nat) "EightLegsModel" "breath" "[I") ∈ lw_all := lw_g (lw_at lw_m7 43 rfl) rfl
theorem q1583 : (Jvm.Cond.fieldLink "EightLegsModel" (24 : Nat) "EightLegsModel" "quick" "[I") ∈ lw_all := lw_g (lw_at lw_m7 44 rfl) rfl
theorem q1584 : (Jvm.Cond.fieldLink "EightLegsModel" (27 : Nat) "EightLegsModel" "late" "[I") ∈ lw_all := lw_g (lw_at lw_m7 45 rfl) rfl
theorem q1585 : (Jvm.Cond.fieldLink "EightLegsModel" (30 : Nat) "EightLegsModel" "ways" "[I") ∈ lw_all := lw_g (lw_at lw_m7 46 rfl) rfl
theorem q1586 : (Jvm.Cond.fieldLink "EightLegsModel" (33 : Nat) "EightLegsModel" "tired" "[I") ∈ lw_all := lw_g (lw_at lw_m7 47 rfl) rfl
theorem q1587 : (Jvm.Cond.fieldLink "EightLegsModel" (36 : Nat) "EightLegsModel" "gasped" "[I") ∈ lw_all := lw_g (lw_at lw_m7 48 rfl) rfl
theorem q1588 : (Jvm.Cond.fieldLink "EightLegsModel" (167 : Nat) "EightLegsModel" "taped" "I") ∈ lw_all := lw_g (lw_at lw_m7 49 rfl) rfl
theorem q1589 : (Jvm.Cond.fieldLink "EightLegsModel" (39 : Nat) "EightLegsModel" "tape" "[I") ∈ lw_all := lw_g (lw_at lw_m7 50 rfl) rfl
theorem q1590 : (Jvm.Cond.fieldLink "EightLegsModel" (221 : Nat) "EightLegsModel" "isTold" "Z") ∈ lw_all := lw_g (lw_at lw_m7 51 rfl) rfl
theorem q1591 : (Jvm.Cond.fieldLink "EightLegsModel" (225 : Nat) "EightLegsModel" "lines" "I") ∈ lw_all := lw_g (lw_at lw_m7 52 rfl) rfl
theorem q1592 : (Jvm.Cond.fieldLink "EightLegsModel" (42 : Nat) "EightLegsModel" "asks" "[I") ∈ lw_all := lw_g (lw_at lw_m7 53 rfl) rfl
theorem q1593 : (Jvm.Cond.fieldLink "EightLegsModel" (45 : Nat) "EightLegsModel" "says" "[I") ∈ lw_all := lw_g (lw_at lw_m7 54 rfl) rfl
theorem q1594 : (Jvm.Cond.fieldLink "EightLegsModel" (48 : Nat) "EightLegsModel" "ends" "[I") ∈ lw_all := lw_g (lw_at lw_m7 55 rfl) rfl
theorem q1595 : (Jvm.Cond.fieldLink "EightLegsModel" (51 : Nat) "EightLegsModel" "code" "[I") ∈ lw_all := lw_g (lw_at lw_m7 56 rfl) rfl
theorem q1596 : (Jvm.Cond.fieldLink "EightLegsModel" (170 : Nat) "EightLegsModel" "at" "I") ∈ lw_all := lw_g (lw_at lw_m7 57 rfl) rfl
theorem q1597 : (Jvm.Cond.fieldLink "EightLegsModel" (191 : Nat) "EightLegsModel" "open" "I") ∈ lw_all := lw_g (lw_at lw_m7 58 rfl) rfl
theorem q1598 : (Jvm.Cond.fieldLink "EightLegsModel" (177 : Nat) "EightLegsModel" "coded" "I") ∈ lw_all := lw_g (lw_at lw_m7 59 rfl) rfl
theorem q1599 : (Jvm.Cond.fieldLink "EightLegsModel" (215 : Nat) "EightLegsModel" "newLines" "I") ∈ lw_all := lw_g (lw_at lw_m7 60 rfl) rfl
theorem q1600 : (Jvm.Cond.fieldLink "EightLegsModel" (54 : Nat) "EightLegsModel" "newAsks" "[I") ∈ lw_all := lw_g (lw_at lw_m7 61 rfl) rfl
theorem q1601 : (Jvm.Cond.fieldLink "EightLegsModel" (57 : Nat) "EightLegsModel" "newSays" "[I") ∈ lw_all := lw_g (lw_at lw_m7 62 rfl) rfl
theorem q1602 : (Jvm.Cond.fieldLink "EightLegsModel" (60 : Nat) "EightLegsModel" "newEnds" "[I") ∈ lw_all := lw_g (lw_at lw_m7 63 rfl) rfl
theorem q1603 : (Jvm.Cond.fieldLink "EightLegsModel" (63 : Nat) "EightLegsModel" "newCode" "[I") ∈ lw_all := lw_g (lw_at lw_m7 64 rfl) rfl
theorem q1604 : (Jvm.Cond.fieldLink "EightLegsModel" (66 : Nat) "EightLegsModel" "stack" "[I") ∈ lw_all := lw_g (lw_at lw_m7 65 rfl) rfl
theorem q1605 : (Jvm.Cond.fieldLink "EightLegsModel" (69 : Nat) "EightLegsModel" "names" "[I") ∈ lw_all := lw_g (lw_at lw_m7 66 rfl) rfl
theorem q1606 : (Jvm.Cond.fieldLink "EightLegsModel" (72 : Nat) "EightLegsModel" "led" "[I") ∈ lw_all := lw_g (lw_at lw_m7 67 rfl) rfl
theorem q1607 : (Jvm.Cond.fieldLink "EightLegsModel" (354 : Nat) "EightLegsModel" "imaged" "Z") ∈ lw_all := lw_g (lw_at lw_m7 68 rfl) rfl
theorem q1608 : (Jvm.Cond.fieldLink "EightLegsModel" (357 : Nat) "EightLegsModel" "oldMany" "I") ∈ lw_all := lw_g (lw_at lw_m7 69 rfl) rfl
theorem q1609 : (Jvm.Cond.fieldLink "EightLegsModel" (75 : Nat) "EightLegsModel" "oldTired" "[I") ∈ lw_all := lw_g (lw_at lw_m7 70 rfl) rfl
theorem q1610 : (Jvm.Cond.fieldLink "EightLegsModel" (78 : Nat) "EightLegsModel" "oldGasped" "[I") ∈ lw_all := lw_g (lw_at lw_m7 71 rfl) rfl
theorem q1611 : (Jvm.Cond.fieldLink "EightLegsModel" (81 : Nat) "EightLegsModel" "oldLed" "[I") ∈ lw_all := lw_g (lw_at lw_m7 72 rfl) rfl
theorem q1612 : (Jvm.Cond.fieldLink "EightLegsModel" (164 : Nat) "EightLegsModel" "changes" "I") ∈ lw_all := lw_g (lw_at lw_m7 73 rfl) rfl
theorem q1613 : (Jvm.Cond.fieldLink "EightLegsModel" (161 : Nat) "EightLegsModel" "done" "I") ∈ lw_all := lw_g (lw_at lw_m7 74 rfl) rfl
theorem q1614 : (Jvm.Cond.fieldLink "EightLegsModel" (84 : Nat) "EightLegsModel" "changed" "[I") ∈ lw_all := lw_g (lw_at lw_m7 75 rfl) rfl
theorem q1615 : (Jvm.Cond.fieldLink "EightLegsModel" (381 : Nat) "EightLegsModel" "bodies" "I") ∈ lw_all := lw_g (lw_at lw_m7 76 rfl) rfl
theorem q1616 : (Jvm.Cond.fieldLink "EightLegsModel" (87 : Nat) "EightLegsModel" "kind" "[I") ∈ lw_all := lw_g (lw_at lw_m7 77 rfl) rfl
theorem q1617 : (Jvm.Cond.fieldLink "EightLegsModel" (360 : Nat) "EightLegsModel" "traced" "I") ∈ lw_all := lw_g (lw_at lw_m7 78 rfl) rfl
theorem q1618 : (Jvm.Cond.fieldLink "EightLegsModel" (90 : Nat) "EightLegsModel" "traces" "[I") ∈ lw_all := lw_g (lw_at lw_m7 79 rfl) rfl
theorem q1619 : (Jvm.Cond.fieldLink "EightLegsModel" (93 : Nat) "EightLegsModel" "holding" "[I") ∈ lw_all := lw_g (lw_at lw_m7 80 rfl) rfl
theorem q1620 : (Jvm.Cond.fieldLink "EightLegsModel" (96 : Nat) "EightLegsModel" "rowLength" "[I") ∈ lw_all := lw_g (lw_at lw_m7 81 rfl) rfl
theorem q1621 : (Jvm.Cond.fieldLink "EightLegsModel" (99 : Nat) "EightLegsModel" "rowOf" "[J") ∈ lw_all := lw_g (lw_at lw_m7 82 rfl) rfl
theorem q1622 : (Jvm.Cond.fieldLink "EightLegsModel" (253 : Nat) "EightLegsModel" "counts" "I") ∈ lw_all := lw_g (lw_at lw_m7 83 rfl) rfl
theorem q1623 : (Jvm.Cond.fieldLink "EightLegsModel" (103 : Nat) "EightLegsModel" "does" "[I") ∈ lw_all := lw_g (lw_at lw_m7 84 rfl) rfl
theorem q1624 : (Jvm.Cond.fieldLink "EightLegsModel" (106 : Nat) "EightLegsModel" "drift" "[I") ∈ lw_all := lw_g (lw_at lw_m7 85 rfl) rfl
theorem q1625 : (Jvm.Cond.fieldLink "EightLegsModel" (109 : Nat) "EightLegsModel" "marksOf" "[I") ∈ lw_all := lw_g (lw_at lw_m7 86 rfl) rfl
theorem q1626 : (Jvm.Cond.fieldLink "EightLegsModel" (121 : Nat) "EightLegsModel" "slipper" "I") ∈ lw_all := lw_g (lw_at lw_m7 87 rfl) rfl
theorem q1627 : (Jvm.Cond.fieldLink "EightLegsModel" (263 : Nat) "EightLegsModel" "slipAt" "I") ∈ lw_all := lw_g (lw_at lw_m7 88 rfl) rfl
theorem q1628 : (Jvm.Cond.fieldLink "EightLegsModel" (266 : Nat) "EightLegsModel" "slipBy" "I") ∈ lw_all := lw_g (lw_at lw_m7 89 rfl) rfl
theorem q1629 : (Jvm.Cond.fieldLink "EightLegsModel" (256 : Nat) "EightLegsModel" "seed" "I") ∈ lw_all := lw_g (lw_at lw_m7 90 rfl) rfl
theorem q1630 : (Jvm.Cond.fieldLink "EightLegsModel" (260 : Nat) "EightLegsModel" "slips" "I") ∈ lw_all := lw_g (lw_at lw_m7 91 rfl) rfl
theorem q1631 : (Jvm.Cond.fieldLink "EightLegsModel" (112 : Nat) "EightLegsModel" "picked" "[I") ∈ lw_all := lw_g (lw_at lw_m7 92 rfl) rfl
theorem q1632 : (Jvm.Cond.fieldLink "EightLegsModel" (115 : Nat) "EightLegsModel" "order" "[I") ∈ lw_all := lw_g (lw_at lw_m7 93 rfl) rfl
theorem q1633 : (Jvm.Cond.fieldLink "EightLegsModel" (118 : Nat) "EightLegsModel" "best" "[I") ∈ lw_all := lw_g (lw_at lw_m7 94 rfl) rfl
theorem q1634 : (Jvm.Cond.lays "EightLegsModel" "EightLegsModel" "many" "I") ∈ lw_all := lw_g (lw_at lw_m7 95 rfl) rfl
theorem q1635 : (Jvm.Cond.soleField "EightLegsModel" "many") ∈ lw_all := lw_g (lw_at lw_m7 96 rfl) rfl
theorem q1636 : (Jvm.Cond.laysFinal "EightLegsModel" "EightLegsModel" "placeX" "[I") ∈ lw_all := lw_g (lw_at lw_m7 97 rfl) rfl
theorem q1637 : (Jvm.Cond.soleField "EightLegsModel" "placeX") ∈ lw_all := lw_g (lw_at lw_m7 98 rfl) rfl
theorem q1638 : (Jvm.Cond.laysFinal "EightLegsModel" "EightLegsModel" "placeY" "[I") ∈ lw_all := lw_g (lw_at lw_m7 99 rfl) rfl
theorem q1639 : (Jvm.Cond.soleField "EightLegsModel" "placeY") ∈ lw_all := lw_g (lw_at lw_m7 100 rfl) rfl
theorem q1640 : (Jvm.Cond.laysFinal "EightLegsModel" "EightLegsModel" "tall" "[I") ∈ lw_all := lw_g (lw_at lw_m7 101 rfl) rfl
theorem q1641 : (Jvm.Cond.soleField "EightLegsModel" "tall") ∈ lw_all := lw_g (lw_at lw_m7 102 rfl) rfl
theorem q1642 : (Jvm.Cond.laysFinal "EightLegsModel" "EightLegsModel" "breath" "[I") ∈ lw_all := lw_g (lw_at lw_m7 103 rfl) rfl
theorem q1643 : (Jvm.Cond.soleField "EightLegsModel" "breath") ∈ lw_all := lw_g (lw_at lw_m7 104 rfl) rfl
theorem q1644 : (Jvm.Cond.laysFinal "EightLegsModel" "EightLegsModel" "quick" "[I") ∈ lw_all := lw_g (lw_at lw_m7 105 rfl) rfl
theorem q1645 : (Jvm.Cond.soleField "EightLegsModel" "quick") ∈ lw_all := lw_g (lw_at lw_m7 106 rfl) rfl
theorem q1646 : (Jvm.Cond.laysFinal "EightLegsModel" "EightLegsModel" "late" "[I") ∈ lw_all := lw_g (lw_at lw_m7 107 rfl) rfl
theorem q1647 : (Jvm.Cond.soleField "EightLegsModel" "late") ∈ lw_all := lw_g (lw_at lw_m7 108 rfl) rfl
theorem q1648 : (Jvm.Cond.laysFinal "EightLegsModel" "EightLegsModel" "ways" "[I") ∈ lw_all := lw_g (lw_at lw_m7 109 rfl) rfl
theorem q1649 : (Jvm.Cond.soleField "EightLegsModel" "ways") ∈ lw_all := lw_g (lw_at lw_m7 110 rfl) rfl
theorem q1650 : (Jvm.Cond.laysFinal "EightLegsModel" "EightLegsModel" "tired" "[I") ∈ lw_all := lw_g (lw_at lw_m7 111 rfl) rfl
theorem q1651 : (Jvm.Cond.soleField "EightLegsModel" "tired") ∈ lw_all := lw_g (lw_at lw_m7 112 rfl) rfl
theorem q1652 : (Jvm.Cond.laysFinal "EightLegsModel" "EightLegsModel" "gasped" "[I") ∈ lw_all := lw_g (lw_at lw_m7 113 rfl) rfl
theorem q1653 : (Jvm.Cond.soleField "EightLegsModel" "gasped") ∈ lw_all := lw_g (lw_at lw_m7 114 rfl) rfl
theorem q1654 : (Jvm.Cond.lays "EightLegsModel" "EightLegsModel" "taped" "I") ∈ lw_all := lw_g (lw_at lw_m7 115 rfl) rfl
theorem q1655 : (Jvm.Cond.soleField "EightLegsModel" "taped") ∈ lw_all := lw_g (lw_at lw_m7 116 rfl) rfl
theorem q1656 : (Jvm.Cond.laysFinal "EightLegsModel" "EightLegsModel" "tape" "[I") ∈ lw_all := lw_g (lw_at lw_m7 117 rfl) rfl
theorem q1657 : (Jvm.Cond.soleField "EightLegsModel" "tape") ∈ lw_all := lw_g (lw_at lw_m7 118 rfl) rfl
theorem q1658 : (Jvm.Cond.lays "EightLegsModel" "EightLegsModel" "isTold" "Z") ∈ lw_all := lw_g (lw_at lw_m7 119 rfl) rfl
theorem q1659 : (Jvm.Cond.soleField "EightLegsModel" "isTold") ∈ lw_all := lw_g (lw_at lw_m7 120 rfl) rfl
theorem q1660 : (Jvm.Cond.lays "EightLegsModel" "EightLegsModel" "lines" "I") ∈ lw_all := lw_g (lw_at lw_m7 121 rfl) rfl
theorem q1661 : (Jvm.Cond.soleField "EightLegsModel" "lines") ∈ lw_all := lw_g (lw_at lw_m7 122 rfl) rfl
theorem q1662 : (Jvm.Cond.laysFinal "EightLegsModel" "EightLegsModel" "asks" "[I") ∈ lw_all := lw_g (lw_at lw_m7 123 rfl) rfl
theorem q1663 : (Jvm.Cond.soleField "EightLegsModel" "asks") ∈ lw_all := lw_g (lw_at lw_m7 124 rfl) rfl
theorem q1664 : (Jvm.Cond.laysFinal "EightLegsModel" "EightLegsModel" "says" "[I") ∈ lw_all := lw_g (lw_at lw_m7 125 rfl) rfl
theorem q1665 : (Jvm.Cond.soleField "EightLegsModel" "says") ∈ lw_all := lw_g (lw_at lw_m7 126 rfl) rfl
theorem q1666 : (Jvm.Cond.laysFinal "EightLegsModel" "EightLegsModel" "ends" "[I") ∈ lw_all := lw_g (lw_at lw_m7 127 rfl) rfl
theorem q1667 : (Jvm.Cond.soleField "EightLegsModel" "ends") ∈ lw_all := lw_g (lw_at lw_m7 128 rfl) rfl
theorem q1668 : (Jvm.Cond.laysFinal "EightLegsModel" "EightLegsModel" "code" "[I") ∈ lw_all := lw_g (lw_at lw_m7 129 rfl) rfl
theorem q1669 : (Jvm.Cond.soleField "EightLegsModel" "code") ∈ lw_all := lw_g (lw_at lw_m7 130 rfl) rfl
theorem q1670 : (Jvm.Cond.lays "EightLegsModel" "EightLegsModel" "at" "I") ∈ lw_all := lw_g (lw_at lw_m7 131 rfl) rfl
theorem q1671 : (Jvm.Cond.soleField "EightLegsModel" "at") ∈ lw_all := lw_g (lw_at lw_m7 132 rfl) rfl
theorem q1672 : (Jvm.Cond.lays "EightLegsModel" "EightLegsModel" "open" "I") ∈ lw_all := lw_g (lw_at lw_m7 133 rfl) rfl
theorem q1673 : (Jvm.Cond.soleField "EightLegsModel" "open") ∈ lw_all := lw_g (lw_at lw_m7 134 rfl) rfl
theorem q1674 : (Jvm.Cond.lays "EightLegsModel" "EightLegsModel" "coded" "I") ∈ lw_all := lw_g (lw_at lw_m7 135 rfl) rfl
theorem q1675 : (Jvm.Cond.soleField "EightLegsModel" "coded") ∈ lw_all := lw_g (lw_at lw_m7 136 rfl) rfl
theorem q1676 : (Jvm.Cond.lays "EightLegsModel" "EightLegsModel" "newLines" "I") ∈ lw_all := lw_g (lw_at lw_m7 137 rfl) rfl
theorem q1677 : (Jvm.Cond.soleField "EightLegsModel" "newLines") ∈ lw_all := lw_g (lw_at lw_m7 138 rfl) rfl
theorem q1678 : (Jvm.Cond.laysFinal "EightLegsModel" "EightLegsModel" "newAsks" "[I") ∈ lw_all := lw_g (lw_at lw_m7 139 rfl) rfl
theorem q1679 : (Jvm.Cond.soleField "EightLegsModel" "newAsks") ∈ lw_all := lw_g (lw_at lw_m7 140 rfl) rfl
theorem q1680 : (Jvm.Cond.laysFinal "EightLegsModel" "EightLegsModel" "newSays" "[I") ∈ lw_all := lw_g (lw_at lw_m7 141 rfl) rfl
theorem q1681 : (Jvm.Cond.soleField "EightLegsModel" "newSays") ∈ lw_all := lw_g (lw_at lw_m7 142 rfl) rfl
theorem q1682 : (Jvm.Cond.laysFinal "EightLegsModel" "EightLegsModel" "newEnds" "[I") ∈ lw_all := lw_g (lw_at lw_m7 143 rfl) rfl
theorem q1683 : (Jvm.Cond.soleField "EightLegsModel" "newEnds") ∈ lw_all := lw_g (lw_at lw_m7 144 rfl) rfl
theorem q1684 : (Jvm.Cond.laysFinal "EightLegsModel" "EightLegsModel" "newCode" "[I") ∈ lw_all := lw_g (lw_at lw_m7 145 rfl) rfl
theorem q1685 : (Jvm.Cond.soleField "EightLegsModel" "newCode") ∈ lw_all := lw_g (lw_at lw_m7 146 rfl) rfl
theorem q1686 : (Jvm.Cond.laysFinal "EightLegsModel" "EightLegsModel" "stack" "[I") ∈ lw_all := lw_g (lw_at lw_m7 147 rfl) rfl
theorem q1687 : (Jvm.Cond.soleField "EightLegsModel" "stack") ∈ lw_all := lw_g (lw_at lw_m7 148 rfl) rfl
theorem q1688 : (Jvm.Cond.laysFinal "EightLegsModel" "EightLegsModel" "names" "[I") ∈ lw_all := lw_g (lw_at lw_m7 149 rfl) rfl
theorem q1689 : (Jvm.Cond.soleField "EightLegsModel" "names") ∈ lw_all := lw_g (lw_at lw_m7 150 rfl) rfl
theorem q1690 : (Jvm.Cond.laysFinal "EightLegsModel" "EightLegsModel" "led" "[I") ∈ lw_all := lw_g (lw_at lw_m7 151 rfl) rfl
theorem q1691 : (Jvm.Cond.soleField "EightLegsModel" "led") ∈ lw_all := lw_g (lw_at lw_m7 152 rfl) rfl
theorem q1692 : (Jvm.Cond.lays "EightLegsModel" "EightLegsModel" "imaged" "Z") ∈ lw_all := lw_g (lw_at lw_m7 153 rfl) rfl
theorem q1693 : (Jvm.Cond.soleField "EightLegsModel" "imaged") ∈ lw_all := lw_g (lw_at lw_m7 154 rfl) rfl
theorem q1694 : (Jvm.Cond.lays "EightLegsModel" "EightLegsModel" "oldMany" "I") ∈ lw_all := lw_g (lw_at lw_m7 155 rfl) rfl
theorem q1695 : (Jvm.Cond.soleField "EightLegsModel" "oldMany") ∈ lw_all := lw_g (lw_at lw_m7 156 rfl) rfl
theorem q1696 : (Jvm.Cond.laysFinal "EightLegsModel" "EightLegsModel" "oldTired" "[I") ∈ lw_all := lw_g (lw_at lw_m7 157 rfl) rfl
theorem q1697 : (Jvm.Cond.soleField "EightLegsModel" "oldTired") ∈ lw_all := lw_g (lw_at lw_m7 158 rfl) rfl
theorem q1698 : (Jvm.Cond.laysFinal "EightLegsModel" "EightLegsModel" "oldGasped" "[I") ∈ lw_all := lw_g (lw_at lw_m7 159 rfl) rfl
theorem q1699 : (Jvm.Cond.soleField "EightLegsModel" "oldGasped") ∈ lw_all := lw_g (lw_at lw_m7 160 rfl) rfl
theorem q1700 : (Jvm.Cond.laysFinal "EightLegsModel" "EightLegsModel" "oldLed" "[I") ∈ lw_all := lw_g (lw_at lw_m7 161 rfl) rfl
theorem q1701 : (Jvm.Cond.soleField "EightLegsModel" "oldLed") ∈ lw_all := lw_g (lw_at lw_m7 162 rfl) rfl
theorem q1702 : (Jvm.Cond.lays "EightLegsModel" "EightLegsModel" "changes" "I") ∈ lw_all := lw_g (lw_at lw_m7 163 rfl) rfl
theorem q1703 : (Jvm.Cond.soleField "EightLegsModel" "changes") ∈ lw_all := lw_g (lw_at lw_m7 164 rfl) rfl
theorem q1704 : (Jvm.Cond.lays "EightLegsModel" "EightLegsModel" "done" "I") ∈ lw_all := lw_g (lw_at lw_m7 165 rfl) rfl
theorem q1705 : (Jvm.Cond.soleField "EightLegsModel" "done") ∈ lw_all := lw_g (lw_at lw_m7 166 rfl) rfl
theorem q1706 : (Jvm.Cond.laysFinal "EightLegsModel" "EightLegsModel" "changed" "[I") ∈ lw_all := lw_g (lw_at lw_m7 167 rfl) rfl
theorem q1707 : (Jvm.Cond.soleField "EightLegsModel" "changed") ∈ lw_all := lw_g (lw_at lw_m7 168 rfl) rfl
theorem q1708 : (Jvm.Cond.lays "EightLegsModel" "EightLegsModel" "bodies" "I") ∈ lw_all := lw_g (lw_at lw_m7 169 rfl) rfl
theorem q1709 : (Jvm.Cond.soleField "EightLegsModel" "bodies") ∈ lw_all := lw_g (lw_at lw_m7 170 rfl) rfl
theorem q1710 : (Jvm.Cond.laysFinal "EightLegsModel" "EightLegsModel" "kind" "[I") ∈ lw_all := lw_g (lw_at lw_m7 171 rfl) rfl
theorem q1711 : (Jvm.Cond.soleField "EightLegsModel" "kind") ∈ lw_all := lw_g (lw_at lw_m7 172 rfl) rfl
theorem q1712 : (Jvm.Cond.lays "EightLegsModel" "EightLegsModel" "traced" "I") ∈ lw_all := lw_g (lw_at lw_m7 173 rfl) rfl
theorem q1713 : (Jvm.Cond.soleField "EightLegsModel" "traced") ∈ lw_all := lw_g (lw_at lw_m7 174 rfl) rfl
theorem q1714 : (Jvm.Cond.laysFinal "EightLegsModel" "EightLegsModel" "traces" "[I") ∈ lw_all := lw_g (lw_at lw_m7 175 rfl) rfl
theorem q1715 : (Jvm.Cond.soleField "EightLegsModel" "traces") ∈ lw_all := lw_g (lw_at lw_m7 176 rfl) rfl
theorem q1716 : (Jvm.Cond.laysFinal "EightLegsModel" "EightLegsModel" "holding" "[I") ∈ lw_all := lw_g (lw_at lw_m7 177 rfl) rfl
theorem q1717 : (Jvm.Cond.soleField "EightLegsModel" "holding") ∈ lw_all := lw_g (lw_at lw_m7 178 rfl) rfl
theorem q1718 : (Jvm.Cond.laysFinal "EightLegsModel" "EightLegsModel" "rowLength" "[I") ∈ lw_all := lw_g (lw_at lw_m7 179 rfl) rfl
theorem q1719 : (Jvm.Cond.soleField "EightLegsModel" "rowLength") ∈ lw_all := lw_g (lw_at lw_m7 180 rfl) rfl
theorem q1720 : (Jvm.Cond.laysFinal "EightLegsModel" "EightLegsModel" "rowOf" "[J") ∈ lw_all := lw_g (lw_at lw_m7 181 rfl) rfl
theorem q1721 : (Jvm.Cond.soleField "EightLegsModel" "rowOf") ∈ lw_all := lw_g (lw_at lw_m7 182 rfl) rfl
theorem q1722 : (Jvm.Cond.lays "EightLegsModel" "EightLegsModel" "counts" "I") ∈ lw_all := lw_g (lw_at lw_m7 183 rfl) rfl
theorem q1723 : (Jvm.Cond.soleField "EightLegsModel" "counts") ∈ lw_all := lw_g (lw_at lw_m7 184 rfl) rfl
theorem q1724 : (Jvm.Cond.laysFinal "EightLegsModel" "EightLegsModel" "does" "[I") ∈ lw_all := lw_g (lw_at lw_m7 185 rfl) rfl
theorem q1725 : (Jvm.Cond.soleField "EightLegsModel" "does") ∈ lw_all := lw_g (lw_at lw_m7 186 rfl) rfl
theorem q1726 : (Jvm.Cond.laysFinal "EightLegsModel" "EightLegsModel" "drift" "[I") ∈ lw_all := lw_g (lw_at lw_m7 187 rfl) rfl
theorem q1727 : (Jvm.Cond.soleField "EightLegsModel" "drift") ∈ lw_all := lw_g (lw_at lw_m7 188 rfl) rfl
theorem q1728 : (Jvm.Cond.laysFinal "EightLegsModel" "EightLegsModel" "marksOf" "[I") ∈ lw_all := lw_g (lw_at lw_m7 189 rfl) rfl
theorem q1729 : (Jvm.Cond.soleField "EightLegsModel" "marksOf") ∈ lw_all := lw_g (lw_at lw_m7 190 rfl) rfl
theorem q1730 : (Jvm.Cond.lays "EightLegsModel" "EightLegsModel" "slipper" "I") ∈ lw_all := lw_g (lw_at lw_m7 191 rfl) rfl
theorem q1731 : (Jvm.Cond.soleField "EightLegsModel" "slipper") ∈ lw_all := lw_g (lw_at lw_m7 192 rfl) rfl
theorem q1732 : (Jvm.Cond.lays "EightLegsModel" "EightLegsModel" "slipAt" "I") ∈ lw_all := lw_g (lw_at lw_m7 193 rfl) rfl
theorem q1733 : (Jvm.Cond.soleField "EightLegsModel" "slipAt") ∈ lw_all := lw_g (lw_at lw_m7 194 rfl) rfl
theorem q1734 : (Jvm.Cond.lays "EightLegsModel" "EightLegsModel" "slipBy" "I") ∈ lw_all := lw_g (lw_at lw_m7 195 rfl) rfl
theorem q1735 : (Jvm.Cond.soleField "EightLegsModel" "slipBy") ∈ lw_all := lw_g (lw_at lw_m7 196 rfl) rfl
theorem q1736 : (Jvm.Cond.lays "EightLegsModel" "EightLegsModel" "seed" "I") ∈ lw_all := lw_g (lw_at lw_m7 197 rfl) rfl
theorem q1737 : (Jvm.Cond.soleField "EightLegsModel" "seed") ∈ lw_all := lw_g (lw_at lw_m7 198 rfl) rfl
theorem q1738 : (Jvm.Cond.lays "EightLegsModel" "EightLegsModel" "slips" "I") ∈ lw_all := lw_g (lw_at lw_m7 199 rfl) rfl
theorem q1739 : (Jvm.Cond.soleField "EightLegsModel" "slips") ∈ lw_all := lw_g (lw_at lw_m7 200 rfl) rfl
theorem q1740 : (Jvm.Cond.laysFinal "EightLegsModel" "EightLegsModel" "picked" "[I") ∈ lw_all := lw_g (lw_at lw_m7 201 rfl) rfl
theorem q1741 : (Jvm.Cond.soleField "EightLegsModel" "picked") ∈ lw_all := lw_g (lw_at lw_m7 202 rfl) rfl
theorem q1742 : (Jvm.Cond.laysFinal "EightLegsModel" "EightLegsModel" "order" "[I") ∈ lw_all := lw_g (lw_at lw_m7 203 rfl) rfl
theorem q1743 : (Jvm.Cond.soleField "EightLegsModel" "order") ∈ lw_all := lw_g (lw_at lw_m7 204 rfl) rfl
theorem q1744 : (Jvm.Cond.laysFinal "EightLegsModel" "EightLegsModel" "best" "[I") ∈ lw_all := lw_g (lw_at lw_m7 205 rfl) rfl
theorem q1745 : (Jvm.Cond.soleField "EightLegsModel" "best") ∈ lw_all := lw_g (lw_at lw_m7 206 rfl) rfl
theorem q1746 : (Jvm.Cond.superclass "EightLegsModel" "java/lang/Object") ∈ lw_all := lw_g (lw_at lw_m7 207 rfl) rfl
theorem q1748 : (Jvm.Cond.instanceMethod ({ cls := "EightLegsModel", name := "swimmer", desc := "(II)I" } : Jvm.MethodName)) ∈ lw_all := lw_g (lw_at lw_m7 209 rfl) rfl
theorem q1749 : (Jvm.Cond.selects "EightLegsModel" ({ cls := "EightLegsModel", name := "swimmer", desc := "(II)I" } : Jvm.MethodName) ({ cls := "EightLegsModel", name := "swimmer", desc := "(II)I" } : Jvm.MethodName)) ∈ lw_all := lw_g (lw_at lw_m7 210 rfl) rfl
theorem q1750 : (Jvm.Cond.code ({ cls := "EightLegsModel", name := "swimmer", desc := "(II)I" } : Jvm.MethodName) prog_31_method_7_code (3 : Nat) (Option.some Jvm.ClassFile.FieldType.int)) ∈ lw_all := lw_g (lw_at lw_m7 211 rfl) rfl
theorem q1751 : (Jvm.Cond.methodLink "EightLegsModel" (128 : Nat) ({ cls := "EightLegsModel", name := "within", desc := "(III)Z" } : Jvm.MethodName)) ∈ lw_all := lw_g (lw_at lw_m7 212 rfl) rfl
theorem q1752 : (Jvm.Cond.static ({ cls := "EightLegsModel", name := "within", desc := "(III)Z" } : Jvm.MethodName)) ∈ lw_all := lw_g (lw_at lw_m7 213 rfl) rfl
theorem q1753 : (Jvm.Cond.code ({ cls := "EightLegsModel", name := "within", desc := "(III)Z" } : Jvm.MethodName) prog_31_method_2_code (3 : Nat) (Option.some Jvm.ClassFile.FieldType.boolean)) ∈ lw_all := lw_g (lw_at lw_m7 214 rfl) rfl
theorem q1754 : (Jvm.Cond.methodLink "EightLegsModel" (136 : Nat) ({ cls := "EightLegsModel", name := "newSwimmer", desc := "(IIII)I" } : Jvm.MethodName)) ∈ lw_all := lw_g (lw_at lw_m7 215 rfl) rfl
theorem q1755 : (Jvm.Cond.privateMethod ({ cls := "EightLegsModel", name := "newSwimmer", desc := "(IIII)I" } : Jvm.MethodName)) ∈ lw_tbl := lw_at lw_m7 216 rfl
theorem q1756 : (Jvm.Cond.instanceMethod ({ cls := "EightLegsModel", name := "newSwimmer", desc := "(IIII)I" } : Jvm.MethodName)) ∈ lw_all := lw_g (lw_at lw_m7 217 rfl) rfl
theorem q1757 : (Jvm.Cond.code ({ cls := "EightLegsModel", name := "newSwimmer", desc := "(IIII)I" } : Jvm.MethodName) prog_31_method_6_code (5 : Nat) (Option.some Jvm.ClassFile.FieldType.int)) ∈ lw_all := lw_g (lw_at lw_m7 218 rfl) rfl
theorem q1759 : (Jvm.Cond.instanceMethod ({ cls := "EightLegsModel", name := "swimmers", desc := "(III)I" } : Jvm.MethodName)) ∈ lw_all := lw_g (lw_at lw_m7 220 rfl) rfl
theorem q1760 : (Jvm.Cond.selects "EightLegsModel" ({ cls := "EightLegsModel", name := "swimmers", desc := "(III)I" } : Jvm.MethodName) ({ cls := "EightLegsModel", name := "swimmers", desc := "(III)I" } : Jvm.MethodName)) ∈ lw_all := lw_g (lw_at lw_m7 221 rfl) rfl
theorem q1761 : (Jvm.Cond.code ({ cls := "EightLegsModel", name := "swimmers", desc := "(III)I" } : Jvm.MethodName) prog_31_method_8_code (9 : Nat) (Option.some Jvm.ClassFile.FieldType.int)) ∈ lw_all := lw_g (lw_at lw_m7 222 rfl) rfl
theorem q1762 : (Jvm.Cond.methodLink "EightLegsModel" (140 : Nat) ({ cls := "EightLegsModel", name := "isShelf", desc := "(I)Z" } : Jvm.MethodName)) ∈ lw_all := lw_g (lw_at lw_m7 223 rfl) rfl
theorem q1763 : (Jvm.Cond.static ({ cls := "EightLegsModel", name := "isShelf", desc := "(I)Z" } : Jvm.MethodName)) ∈ lw_all := lw_g (lw_at lw_m7 224 rfl) rfl
theorem q1764 : (Jvm.Cond.code ({ cls := "EightLegsModel", name := "isShelf", desc := "(I)Z" } : Jvm.MethodName) prog_31_method_5_code (1 : Nat) (Option.some Jvm.ClassFile.FieldType.boolean)) ∈ lw_all := lw_g (lw_at lw_m7 225 rfl) rfl
theorem q1765 : (Jvm.Cond.constantLong "EightLegsModel" (143 : Nat) (4 : Int64)) ∈ lw_all := lw_g (lw_at lw_m7 226 rfl) rfl
theorem q1767 : (Jvm.Cond.instanceMethod ({ cls := "EightLegsModel", name := "mend", desc := "(III)I" } : Jvm.MethodName)) ∈ lw_all := lw_g (lw_at lw_m7 228 rfl) rfl
theorem q1768 : (Jvm.Cond.selects "EightLegsModel" ({ cls := "EightLegsModel", name := "mend", desc := "(III)I" } : Jvm.MethodName) ({ cls := "EightLegsModel", name := "mend", desc := "(III)I" } : Jvm.MethodName)) ∈ lw_all := lw_g (lw_at lw_m7 229 rfl) rfl
theorem q1769 : (Jvm.Cond.code ({ cls := "EightLegsModel", name := "mend", desc := "(III)I" } : Jvm.MethodName) prog_31_method_13_code (6 : Nat) (Option.some Jvm.ClassFile.FieldType.int)) ∈ lw_all := lw_g (lw_at lw_m7 230 rfl) rfl
theorem q1770 : (Jvm.Cond.methodLink "EightLegsModel" (145 : Nat) ({ cls := "EightLegsModel", name := "isOf", desc := "(II)Z" } : Jvm.MethodName)) ∈ lw_all := lw_g (lw_at lw_m7 231 rfl) rfl
theorem q1771 : (Jvm.Cond.privateMethod ({ cls := "EightLegsModel", name := "isOf", desc := "(II)Z" } : Jvm.MethodName)) ∈ lw_tbl := lw_at lw_m7 232 rfl
theorem q1772 : (Jvm.Cond.instanceMethod ({ cls := "EightLegsModel", name := "isOf", desc := "(II)Z" } : Jvm.MethodName)) ∈ lw_all := lw_g (lw_at lw_m7 233 rfl) rfl
theorem q1773 : (Jvm.Cond.code ({ cls := "EightLegsModel", name := "isOf", desc := "(II)Z" } : Jvm.MethodName) prog_31_method_9_code (3 : Nat) (Option.some Jvm.ClassFile.FieldType.boolean)) ∈ lw_all := lw_g (lw_at lw_m7 234 rfl) rfl
theorem q1774 : (Jvm.Cond.methodLink "EightLegsModel" (132 : Nat) ({ cls := "EightLegsModel", name := "isOne", desc := "(I)Z" } : Jvm.MethodName)) ∈ lw_all := lw_g (lw_at lw_m7 235 rfl) rfl
theorem q1775 : (Jvm.Cond.privateMethod ({ cls := "EightLegsModel", name := "isOne", desc := "(I)Z" } : Jvm.MethodName)) ∈ lw_tbl := lw_at lw_m7 236 rfl
theorem q1776 : (Jvm.Cond.instanceMethod ({ cls := "EightLegsModel", name := "isOne", desc := "(I)Z" } : Jvm.MethodName)) ∈ lw_all := lw_g (lw_at lw_m7 237 rfl) rfl
theorem q1777 : (Jvm.Cond.code ({ cls := "EightLegsModel", name := "isOne", desc := "(I)Z" } : Jvm.MethodName) prog_31_method_3_code (2 : Nat) (Option.some Jvm.ClassFile.FieldType.boolean)) ∈ lw_all := lw_g (lw_at lw_m7 238 rfl) rfl
theorem q1778 : (Jvm.Cond.methodLink "EightLegsModel" (149 : Nat) ({ cls := "EightLegsModel", name := "isFit", desc := "(II)Z" } : Jvm.MethodName)) ∈ lw_all := lw_g (lw_at lw_m7 239 rfl) rfl
theorem q1779 : (Jvm.Cond.static ({ cls := "EightLegsModel", name := "isFit", desc := "(II)Z" } : Jvm.MethodName)) ∈ lw_all := lw_g (lw_at lw_m8 0 rfl) rfl
theorem q1780 : (Jvm.Cond.code ({ cls := "EightLegsModel", name := "isFit", desc := "(II)Z" } : Jvm.MethodName) prog_31_method_10_code (2 : Nat) (Option.some Jvm.ClassFile.FieldType.boolean)) ∈ lw_all := lw_g (lw_at lw_m8 1 rfl) rfl
theorem q1781 : (Jvm.Cond.constant "EightLegsModel" (152 : Nat) (-2000000000 : Int32)) ∈ lw_all := lw_g (lw_at lw_m8 2 rfl) rfl
theorem q1782 : (Jvm.Cond.methodLink "EightLegsModel" (153 : Nat) ({ cls := "EightLegsModel", name := "get", desc := "(II)I" } : Jvm.MethodName)) ∈ lw_all := lw_g (lw_at lw_m8 3 rfl) rfl
theorem q1783 : (Jvm.Cond.privateMethod ({ cls := "EightLegsModel", name := "get", desc := "(II)I" } : Jvm.MethodName)) ∈ lw_tbl := lw_at lw_m8 4 rfl
theorem q1784 : (Jvm.Cond.instanceMethod ({ cls := "EightLegsModel", name := "get", desc := "(II)I" } : Jvm.MethodName)) ∈ lw_all := lw_g (lw_at lw_m8 5 rfl) rfl
theorem q1785 : (Jvm.Cond.code ({ cls := "EightLegsModel", name := "get", desc := "(II)I" } : Jvm.MethodName) prog_31_method_11_code (3 : Nat) (Option.some Jvm.ClassFile.FieldType.int)) ∈ lw_all := lw_g (lw_at lw_m8 6 rfl) rfl
theorem q1786 : (Jvm.Cond.methodLink "EightLegsModel" (157 : Nat) ({ cls := "EightLegsModel", name := "becomes", desc := "(III)V" } : Jvm.MethodName)) ∈ lw_all := lw_g (lw_at lw_m8 7 rfl) rfl
theorem q1787 : (Jvm.Cond.privateMethod ({ cls := "EightLegsModel", name := "becomes", desc := "(III)V" } : Jvm.MethodName)) ∈ lw_tbl := lw_at lw_m8 8 rfl
theorem q1788 : (Jvm.Cond.instanceMethod ({ cls := "EightLegsModel", name := "becomes", desc := "(III)V" } : Jvm.MethodName)) ∈ lw_all := lw_g (lw_at lw_m8 9 rfl) rfl
theorem q1789 : (Jvm.Cond.code ({ cls := "EightLegsModel", name := "becomes", desc := "(III)V" } : Jvm.MethodName) prog_31_method_12_code (4 : Nat) (Option.none : Option Jvm.ClassFile.FieldType)) ∈ lw_all := lw_g (lw_at lw_m8 10 rfl) rfl
theorem q1791 : (Jvm.Cond.instanceMethod ({ cls := "EightLegsModel", name := "of", desc := "(II)I" } : Jvm.MethodName)) ∈ lw_all := lw_g (lw_at lw_m8 12 rfl) rfl
theorem q1792 : (Jvm.Cond.selects "EightLegsModel" ({ cls := "EightLegsModel", name := "of", desc := "(II)I" } : Jvm.MethodName) ({ cls := "EightLegsModel", name := "of", desc := "(II)I" } : Jvm.MethodName)) ∈ lw_all := lw_g (lw_at lw_m8 13 rfl) rfl
theorem q1793 : (Jvm.Cond.code ({ cls := "EightLegsModel", name := "of", desc := "(II)I" } : Jvm.MethodName) prog_31_method_14_code (3 : Nat) (Option.some Jvm.ClassFile.FieldType.int)) ∈ lw_all := lw_g (lw_at lw_m8 14 rfl) rfl
theorem q1795 : (Jvm.Cond.instanceMethod ({ cls := "EightLegsModel", name := "undo", desc := "()I" } : Jvm.MethodName)) ∈ lw_all := lw_g (lw_at lw_m8 16 rfl) rfl
theorem q1796 : (Jvm.Cond.selects "EightLegsModel" ({ cls := "EightLegsModel", name := "undo", desc := "()I" } : Jvm.MethodName) ({ cls := "EightLegsModel", name := "undo", desc := "()I" } : Jvm.MethodName)) ∈ lw_all := lw_g (lw_at lw_m8 17 rfl) rfl
theorem q1797 : (Jvm.Cond.code ({ cls := "EightLegsModel", name := "undo", desc := "()I" } : Jvm.MethodName) prog_31_method_15_code (1 : Nat) (Option.some Jvm.ClassFile.FieldType.int)) ∈ lw_all := lw_g (lw_at lw_m8 18 rfl) rfl
theorem q1799 : (Jvm.Cond.instanceMethod ({ cls := "EightLegsModel", name := "redo", desc := "()I" } : Jvm.MethodName)) ∈ lw_all := lw_g (lw_at lw_m8 20 rfl) rfl
theorem q1800 : (Jvm.Cond.selects "EightLegsModel" ({ cls := "EightLegsModel", name := "redo", desc := "()I" } : Jvm.MethodName) ({ cls := "EightLegsModel", name := "redo", desc := "()I" } : Jvm.MethodName)) ∈ lw_all := lw_g (lw_at lw_m8 21 rfl) rfl
theorem q1801 : (Jvm.Cond.code ({ cls := "EightLegsModel", name := "redo", desc := "()I" } : Jvm.MethodName) prog_31_method_16_code (1 : Nat) (Option.some Jvm.ClassFile.FieldType.int)) ∈ lw_all := lw_g (lw_at lw_m8 22 rfl) rfl
theorem q1803 : (Jvm.Cond.instanceMethod ({ cls := "EightLegsModel", name := "feed", desc := "(I)I" } : Jvm.MethodName)) ∈ lw_all := lw_g (lw_at lw_m8 24 rfl) rfl
theorem q1804 : (Jvm.Cond.selects "EightLegsModel" ({ cls := "EightLegsModel", name := "feed", desc := "(I)I" } : Jvm.MethodName) ({ cls := "EightLegsModel", name := "feed", desc := "(I)I" } : Jvm.MethodName)) ∈ lw_all := lw_g (lw_at lw_m8 25 rfl) rfl
theorem q1805 : (Jvm.Cond.code ({ cls := "EightLegsModel", name := "feed", desc := "(I)I" } : Jvm.MethodName) prog_31_method_17_code (2 : Nat) (Option.some Jvm.ClassFile.FieldType.int)) ∈ lw_all := lw_g (lw_at lw_m8 26 rfl) rfl
theorem q1807 : (Jvm.Cond.instanceMethod ({ cls := "EightLegsModel", name := "law", desc := "()I" } : Jvm.MethodName)) ∈ lw_all := lw_g (lw_at lw_m8 28 rfl) rfl
theorem q1808 : (Jvm.Cond.selects "EightLegsModel" ({ cls := "EightLegsModel", name := "law", desc := "()I" } : Jvm.MethodName) ({ cls := "EightLegsModel", name := "law", desc := "()I" } : Jvm.MethodName)) ∈ lw_all := lw_g (lw_at lw_m8 29 rfl) rfl
theorem q1809 : (Jvm.Cond.code ({ cls := "EightLegsModel", name := "law", desc := "()I" } : Jvm.MethodName) prog_31_method_30_code (4 : Nat) (Option.some Jvm.ClassFile.FieldType.int)) ∈ lw_all := lw_g (lw_at lw_m8 30 rfl) rfl
theorem q1810 : (Jvm.Cond.methodLink "EightLegsModel" (218 : Nat) ({ cls := "EightLegsModel", name := "isLine", desc := "()Z" } : Jvm.MethodName)) ∈ lw_all := lw_g (lw_at lw_m8 31 rfl) rfl
theorem q1811 : (Jvm.Cond.privateMethod ({ cls := "EightLegsModel", name := "isLine", desc := "()Z" } : Jvm.MethodName)) ∈ lw_tbl := lw_at lw_m8 32 rfl
theorem q1812 : (Jvm.Cond.instanceMethod ({ cls := "EightLegsModel", name := "isLine", desc := "()Z" } : Jvm.MethodName)) ∈ lw_all := lw_g (lw_at lw_m8 33 rfl) rfl
theorem q1813 : (Jvm.Cond.code ({ cls := "EightLegsModel", name := "isLine", desc := "()Z" } : Jvm.MethodName) prog_31_method_29_code (1 : Nat) (Option.some Jvm.ClassFile.FieldType.boolean)) ∈ lw_all := lw_g (lw_at lw_m8 34 rfl) rfl
theorem q1814 : (Jvm.Cond.methodLink "EightLegsModel" (200 : Nat) ({ cls := "EightLegsModel", name := "isE", desc := "()Z" } : Jvm.MethodName)) ∈ lw_all := lw_g (lw_at lw_m8 35 rfl) rfl
theorem q1815 : (Jvm.Cond.privateMethod ({ cls := "EightLegsModel", name := "isE", desc := "()Z" } : Jvm.MethodName)) ∈ lw_tbl := lw_at lw_m8 36 rfl
theorem q1816 : (Jvm.Cond.instanceMethod ({ cls := "EightLegsModel", name := "isE", desc := "()Z" } : Jvm.MethodName)) ∈ lw_all := lw_g (lw_at lw_m8 37 rfl) rfl
theorem q1817 : (Jvm.Cond.code ({ cls := "EightLegsModel", name := "isE", desc := "()Z" } : Jvm.MethodName) prog_31_method_28_code (1 : Nat) (Option.some Jvm.ClassFile.FieldType.boolean)) ∈ lw_all := lw_g (lw_at lw_m8 38 rfl) rfl
theorem q1818 : (Jvm.Cond.methodLink "EightLegsModel" (212 : Nat) ({ cls := "EightLegsModel", name := "isA", desc := "()Z" } : Jvm.MethodName)) ∈ lw_all := lw_g (lw_at lw_m8 39 rfl) rfl
theorem q1819 : (Jvm.Cond.privateMethod ({ cls := "EightLegsModel", name := "isA", desc := "()Z" } : Jvm.MethodName)) ∈ lw_tbl := lw_at lw_m8 40 rfl
theorem q1820 : (Jvm.Cond.instanceMethod ({ cls := "EightLegsModel", name := "isA", desc := "()Z" } : Jvm.MethodName)) ∈ lw_all := lw_g (lw_at lw_m8 41 rfl) rfl
theorem q1821 : (Jvm.Cond.code ({ cls := "EightLegsModel", name := "isA", desc := "()Z" } : Jvm.MethodName) prog_31_method_27_code (1 : Nat) (Option.some Jvm.ClassFile.FieldType.boolean)) ∈ lw_all := lw_g (lw_at lw_m8 42 rfl) rfl
theorem q1822 : (Jvm.Cond.methodLink "EightLegsModel" (209 : Nat) ({ cls := "EightLegsModel", name := "isB", desc := "()Z" } : Jvm.MethodName)) ∈ lw_all := lw_g (lw_at lw_m8 43 rfl) rfl
theorem q1823 : (Jvm.Cond.privateMethod ({ cls := "EightLegsModel", name := "isB", desc := "()Z" } : Jvm.MethodName)) ∈ lw_tbl := lw_at lw_m8 44 rfl
theorem q1824 : (Jvm.Cond.instanceMethod ({ cls := "EightLegsModel", name := "isB", desc := "()Z" } : Jvm.MethodName)) ∈ lw_all := lw_g (lw_at lw_m8 45 rfl) rfl
theorem q1825 : (Jvm.Cond.code ({ cls := "EightLegsModel", name := "isB", desc := "()Z" } : Jvm.MethodName) prog_31_method_26_code (2 : Nat) (Option.some Jvm.ClassFile.FieldType.boolean)) ∈ lw_all := lw_g (lw_at lw_m8 46 rfl) rfl
theorem q1826 : (Jvm.Cond.methodLink "EightLegsModel" (206 : Nat) ({ cls := "EightLegsModel", name := "isS", desc := "()Z" } : Jvm.MethodName)) ∈ lw_all := lw_g (lw_at lw_m8 47 rfl) rfl
theorem q1827 : (Jvm.Cond.privateMethod ({ cls := "EightLegsModel", name := "isS", desc := "()Z" } : Jvm.MethodName)) ∈ lw_tbl := lw_at lw_m8 48 rfl
theorem q1828 : (Jvm.Cond.instanceMethod ({ cls := "EightLegsModel", name := "isS", desc := "()Z" } : Jvm.MethodName)) ∈ lw_all := lw_g (lw_at lw_m8 49 rfl) rfl
theorem q1829 : (Jvm.Cond.code ({ cls := "EightLegsModel", name := "isS", desc := "()Z" } : Jvm.MethodName) prog_31_method_25_code (2 : Nat) (Option.some Jvm.ClassFile.FieldType.boolean)) ∈ lw_all := lw_g (lw_at lw_m8 50 rfl) rfl
theorem q1830 : (Jvm.Cond.methodLink "EightLegsModel" (203 : Nat) ({ cls := "EightLegsModel", name := "isP", desc := "()Z" } : Jvm.MethodName)) ∈ lw_all := lw_g (lw_at lw_m8 51 rfl) rfl
theorem q1831 : (Jvm.Cond.privateMethod ({ cls := "EightLegsModel", name := "isP", desc := "()Z" } : Jvm.MethodName)) ∈ lw_tbl := lw_at lw_m8 52 rfl
theorem q1832 : (Jvm.Cond.instanceMethod ({ cls := "EightLegsModel", name := "isP", desc := "()Z" } : Jvm.MethodName)) ∈ lw_all := lw_g (lw_at lw_m8 53 rfl) rfl
theorem q1833 : (Jvm.Cond.code ({ cls := "EightLegsModel", name := "isP", desc := "()Z" } : Jvm.MethodName) prog_31_method_24_code (2 : Nat) (Option.some Jvm.ClassFile.FieldType.boolean)) ∈ lw_all := lw_g (lw_at lw_m8 54 rfl) rfl
theorem q1834 : (Jvm.Cond.methodLink "EightLegsModel" (197 : Nat) ({ cls := "EightLegsModel", name := "isO", desc := "()Z" } : Jvm.MethodName)) ∈ lw_all := lw_g (lw_at lw_m8 55 rfl) rfl
theorem q1835 : (Jvm.Cond.privateMethod ({ cls := "EightLegsModel", name := "isO", desc := "()Z" } : Jvm.MethodName)) ∈ lw_tbl := lw_at lw_m8 56 rfl
theorem q1836 : (Jvm.Cond.instanceMethod ({ cls := "EightLegsModel", name := "isO", desc := "()Z" } : Jvm.MethodName)) ∈ lw_all := lw_g (lw_at lw_m8 57 rfl) rfl
theorem q1837 : (Jvm.Cond.code ({ cls := "EightLegsModel", name := "isO", desc := "()Z" } : Jvm.MethodName) prog_31_method_23_code (3 : Nat) (Option.some Jvm.ClassFile.FieldType.boolean)) ∈ lw_all := lw_g (lw_at lw_m8 58 rfl) rfl
theorem q1838 : (Jvm.Cond.methodLink "EightLegsModel" (180 : Nat) ({ cls := "EightLegsModel", name := "isDigit", desc := "()Z" } : Jvm.MethodName)) ∈ lw_all := lw_g (lw_at lw_m8 59 rfl) rfl
theorem q1839 : (Jvm.Cond.privateMethod ({ cls := "EightLegsModel", name := "isDigit", desc := "()Z" } : Jvm.MethodName)) ∈ lw_tbl := lw_at lw_m8 60 rfl
theorem q1840 : (Jvm.Cond.instanceMethod ({ cls := "EightLegsModel", name := "isDigit", desc := "()Z" } : Jvm.MethodName)) ∈ lw_all := lw_g (lw_at lw_m8 61 rfl) rfl
theorem q1841 : (Jvm.Cond.code ({ cls := "EightLegsModel", name := "isDigit", desc := "()Z" } : Jvm.MethodName) prog_31_method_21_code (1 : Nat) (Option.some Jvm.ClassFile.FieldType.boolean)) ∈ lw_all := lw_g (lw_at lw_m8 62 rfl) rfl
theorem q1842 : (Jvm.Cond.methodLink "EightLegsModel" (173 : Nat) ({ cls := "EightLegsModel", name := "sign", desc := "()I" } : Jvm.MethodName)) ∈ lw_all := lw_g (lw_at lw_m8 63 rfl) rfl
theorem q1843 : (Jvm.Cond.privateMethod ({ cls := "EightLegsModel", name := "sign", desc := "()I" } : Jvm.MethodName)) ∈ lw_tbl := lw_at lw_m8 64 rfl
theorem q1844 : (Jvm.Cond.instanceMethod ({ cls := "EightLegsModel", name := "sign", desc := "()I" } : Jvm.MethodName)) ∈ lw_all := lw_g (lw_at lw_m8 65 rfl) rfl
theorem q1845 : (Jvm.Cond.code ({ cls := "EightLegsModel", name := "sign", desc := "()I" } : Jvm.MethodName) prog_31_method_18_code (1 : Nat) (Option.some Jvm.ClassFile.FieldType.int)) ∈ lw_all := lw_g (lw_at lw_m8 66 rfl) rfl
theorem q1846 : (Jvm.Cond.methodLink "EightLegsModel" (184 : Nat) ({ cls := "EightLegsModel", name := "codes", desc := "(I)Z" } : Jvm.MethodName)) ∈ lw_all := lw_g (lw_at lw_m8 67 rfl) rfl
theorem q1847 : (Jvm.Cond.privateMethod ({ cls := "EightLegsModel", name := "codes", desc := "(I)Z" } : Jvm.MethodName)) ∈ lw_tbl := lw_at lw_m8 68 rfl
theorem q1848 : (Jvm.Cond.instanceMethod ({ cls := "EightLegsModel", name := "codes", desc := "(I)Z" } : Jvm.MethodName)) ∈ lw_all := lw_g (lw_at lw_m8 69 rfl) rfl
theorem q1849 : (Jvm.Cond.code ({ cls := "EightLegsModel", name := "codes", desc := "(I)Z" } : Jvm.MethodName) prog_31_method_20_code (2 : Nat) (Option.some Jvm.ClassFile.FieldType.boolean)) ∈ lw_all := lw_g (lw_at lw_m8 70 rfl) rfl
theorem q1850 : (Jvm.Cond.methodLink "EightLegsModel" (187 : Nat) ({ cls := "EightLegsModel", name := "nameOf", desc := "(I)I" } : Jvm.MethodName)) ∈ lw_all := lw_g (lw_at lw_m8 71 rfl) rfl
theorem q1851 : (Jvm.Cond.static ({ cls := "EightLegsModel", name := "nameOf", desc := "(I)I" } : Jvm.MethodName)) ∈ lw_all := lw_g (lw_at lw_m8 72 rfl) rfl
theorem q1852 : (Jvm.Cond.code ({ cls := "EightLegsModel", name := "nameOf", desc := "(I)I" } : Jvm.MethodName) prog_31_method_22_code (1 : Nat) (Option.some Jvm.ClassFile.FieldType.int)) ∈ lw_all := lw_g (lw_at lw_m8 73 rfl) rfl
theorem q1853 : (Jvm.Cond.methodLink "EightLegsModel" (194 : Nat) ({ cls := "EightLegsModel", name := "is", desc := "(I)Z" } : Jvm.MethodName)) ∈ lw_all := lw_g (lw_at lw_m8 74 rfl) rfl
theorem q1854 : (Jvm.Cond.privateMethod ({ cls := "EightLegsModel", name := "is", desc := "(I)Z" } : Jvm.MethodName)) ∈ lw_tbl := lw_at lw_m8 75 rfl
theorem q1855 : (Jvm.Cond.instanceMethod ({ cls := "EightLegsModel", name := "is", desc := "(I)Z" } : Jvm.MethodName)) ∈ lw_all := lw_g (lw_at lw_m8 76 rfl) rfl
theorem q1856 : (Jvm.Cond.code ({ cls := "EightLegsModel", name := "is", desc := "(I)Z" } : Jvm.MethodName) prog_31_method_19_code (2 : Nat) (Option.some Jvm.ClassFile.FieldType.boolean)) ∈ lw_all := lw_g (lw_at lw_m8 77 rfl) rfl
theorem q1858 : (Jvm.Cond.instanceMethod ({ cls := "EightLegsModel", name := "loses", desc := "(III)I" } : Jvm.MethodName)) ∈ lw_all := lw_g (lw_at lw_m8 79 rfl) rfl
theorem q1859 : (Jvm.Cond.selects "EightLegsModel" ({ cls := "EightLegsModel", name := "loses", desc := "(III)I" } : Jvm.MethodName) ({ cls := "EightLegsModel", name := "loses", desc := "(III)I" } : Jvm.MethodName)) ∈ lw_all := lw_g (lw_at lw_m8 80 rfl) rfl
theorem q1860 : (Jvm.Cond.code ({ cls := "EightLegsModel", name := "loses", desc := "(III)I" } : Jvm.MethodName) prog_31_method_34_code (4 : Nat) (Option.some Jvm.ClassFile.FieldType.int)) ∈ lw_all := lw_g (lw_at lw_m8 81 rfl) rfl
theorem q1861 : (Jvm.Cond.methodLink "EightLegsModel" (246 : Nat) ({ cls := "EightLegsModel", name := "areTwo", desc := "(I)Z" } : Jvm.MethodName)) ∈ lw_all := lw_g (lw_at lw_m8 82 rfl) rfl
theorem q1862 : (Jvm.Cond.privateMethod ({ cls := "EightLegsModel", name := "areTwo", desc := "(I)Z" } : Jvm.MethodName)) ∈ lw_tbl := lw_at lw_m8 83 rfl
theorem q1863 : (Jvm.Cond.instanceMethod ({ cls := "EightLegsModel", name := "areTwo", desc := "(I)Z" } : Jvm.MethodName)) ∈ lw_all := lw_g (lw_at lw_m8 84 rfl) rfl
theorem q1864 : (Jvm.Cond.code ({ cls := "EightLegsModel", name := "areTwo", desc := "(I)Z" } : Jvm.MethodName) prog_31_method_4_code (2 : Nat) (Option.some Jvm.ClassFile.FieldType.boolean)) ∈ lw_all := lw_g (lw_at lw_m8 85 rfl) rfl
theorem q1865 : (Jvm.Cond.methodLink "EightLegsModel" (249 : Nat) ({ cls := "EightLegsModel", name := "loss", desc := "(IIIII)I" } : Jvm.MethodName)) ∈ lw_all := lw_g (lw_at lw_m8 86 rfl) rfl
theorem q1866 : (Jvm.Cond.privateMethod ({ cls := "EightLegsModel", name := "loss", desc := "(IIIII)I" } : Jvm.MethodName)) ∈ lw_tbl := lw_at lw_m8 87 rfl
theorem q1867 : (Jvm.Cond.instanceMethod ({ cls := "EightLegsModel", name := "loss", desc := "(IIIII)I" } : Jvm.MethodName)) ∈ lw_all := lw_g (lw_at lw_m8 88 rfl) rfl
theorem q1868 : (Jvm.Cond.code ({ cls := "EightLegsModel", name := "loss", desc := "(IIIII)I" } : Jvm.MethodName) prog_31_method_33_code (7 : Nat) (Option.some Jvm.ClassFile.FieldType.int)) ∈ lw_all := lw_g (lw_at lw_m8 89 rfl) rfl
theorem q1869 : (Jvm.Cond.methodLink "EightLegsModel" (232 : Nat) ({ cls := "java/lang/Math", name := "min", desc := "(II)I" } : Jvm.MethodName)) ∈ lw_all := lw_g (lw_at lw_m8 90 rfl) rfl
theorem q1870 : (Jvm.Cond.methodLink "EightLegsModel" (237 : Nat) ({ cls := "java/lang/Math", name := "abs", desc := "(I)I" } : Jvm.MethodName)) ∈ lw_all := lw_g (lw_at lw_m8 91 rfl) rfl
theorem q1871 : (Jvm.Cond.methodLink "EightLegsModel" (240 : Nat) ({ cls := "EightLegsModel", name := "worked", desc := "(II)I" } : Jvm.MethodName)) ∈ lw_all := lw_g (lw_at lw_m8 92 rfl) rfl
theorem q1872 : (Jvm.Cond.privateMethod ({ cls := "EightLegsModel", name := "worked", desc := "(II)I" } : Jvm.MethodName)) ∈ lw_tbl := lw_at lw_m8 93 rfl
theorem q1873 : (Jvm.Cond.instanceMethod ({ cls := "EightLegsModel", name := "worked", desc := "(II)I" } : Jvm.MethodName)) ∈ lw_all := lw_g (lw_at lw_m8 94 rfl) rfl
theorem q1874 : (Jvm.Cond.code ({ cls := "EightLegsModel", name := "worked", desc := "(II)I" } : Jvm.MethodName) prog_31_method_32_code (6 : Nat) (Option.some Jvm.ClassFile.FieldType.int)) ∈ lw_all := lw_g (lw_at lw_m8 95 rfl) rfl
theorem q1875 : (Jvm.Cond.methodLink "EightLegsModel" (228 : Nat) ({ cls := "EightLegsModel", name := "both", desc := "(III)I" } : Jvm.MethodName)) ∈ lw_all := lw_g (lw_at lw_m8 96 rfl) rfl
theorem q1876 : (Jvm.Cond.static ({ cls := "EightLegsModel", name := "both", desc := "(III)I" } : Jvm.MethodName)) ∈ lw_all := lw_g (lw_at lw_m8 97 rfl) rfl
theorem q1877 : (Jvm.Cond.code ({ cls := "EightLegsModel", name := "both", desc := "(III)I" } : Jvm.MethodName) prog_31_method_31_code (3 : Nat) (Option.some Jvm.ClassFile.FieldType.int)) ∈ lw_all := lw_g (lw_at lw_m8 98 rfl) rfl
theorem q1878 : (Jvm.Cond.methodLink "EightLegsModel" (243 : Nat) ({ cls := "java/lang/Math", name := "max", desc := "(II)I" } : Jvm.MethodName)) ∈ lw_all := lw_g (lw_at lw_m8 99 rfl) rfl
theorem q1880 : (Jvm.Cond.instanceMethod ({ cls := "EightLegsModel", name := "routine", desc := "(II)I" } : Jvm.MethodName)) ∈ lw_all := lw_g (lw_at lw_m8 101 rfl) rfl
theorem q1881 : (Jvm.Cond.selects "EightLegsModel" ({ cls := "EightLegsModel", name := "routine", desc := "(II)I" } : Jvm.MethodName) ({ cls := "EightLegsModel", name := "routine", desc := "(II)I" } : Jvm.MethodName)) ∈ lw_all := lw_g (lw_at lw_m8 102 rfl) rfl
theorem q1882 : (Jvm.Cond.code ({ cls := "EightLegsModel", name := "routine", desc := "(II)I" } : Jvm.MethodName) prog_31_method_46_code (5 : Nat) (Option.some Jvm.ClassFile.FieldType.int)) ∈ lw_all := lw_g (lw_at lw_m8 103 rfl) rfl
theorem q1883 : (Jvm.Cond.methodLink "EightLegsModel" (288 : Nat) ({ cls := "EightLegsModel", name := "noRow", desc := "(II)I" } : Jvm.MethodName)) ∈ lw_all := lw_g (lw_at lw_m8 104 rfl) rfl
theorem q1884 : (Jvm.Cond.privateMethod ({ cls := "EightLegsModel", name := "noRow", desc := "(II)I" } : Jvm.MethodName)) ∈ lw_tbl := lw_at lw_m8 105 rfl
theorem q1885 : (Jvm.Cond.instanceMethod ({ cls := "EightLegsModel", name := "noRow", desc := "(II)I" } : Jvm.MethodName)) ∈ lw_all := lw_g (lw_at lw_m8 106 rfl) rfl
theorem q1886 : (Jvm.Cond.code ({ cls := "EightLegsModel", name := "noRow", desc := "(II)I" } : Jvm.MethodName) prog_31_method_35_code (3 : Nat) (Option.some Jvm.ClassFile.FieldType.int)) ∈ lw_all := lw_g (lw_at lw_m8 107 rfl) rfl
theorem q1887 : (Jvm.Cond.methodLink "EightLegsModel" (291 : Nat) ({ cls := "EightLegsModel", name := "reads", desc := "(I)V" } : Jvm.MethodName)) ∈ lw_all := lw_g (lw_at lw_m8 108 rfl) rfl
theorem q1888 : (Jvm.Cond.privateMethod ({ cls := "EightLegsModel", name := "reads", desc := "(I)V" } : Jvm.MethodName)) ∈ lw_tbl := lw_at lw_m8 109 rfl
theorem q1889 : (Jvm.Cond.instanceMethod ({ cls := "EightLegsModel", name := "reads", desc := "(I)V" } : Jvm.MethodName)) ∈ lw_all := lw_g (lw_at lw_m8 110 rfl) rfl
theorem q1890 : (Jvm.Cond.code ({ cls := "EightLegsModel", name := "reads", desc := "(I)V" } : Jvm.MethodName) prog_31_method_36_code (2 : Nat) (Option.none : Option Jvm.ClassFile.FieldType)) ∈ lw_all := lw_g (lw_at lw_m8 111 rfl) rfl
theorem q1891 : (Jvm.Cond.methodLink "EightLegsModel" (295 : Nat) ({ cls := "EightLegsModel", name := "marksNow", desc := "()I" } : Jvm.MethodName)) ∈ lw_all := lw_g (lw_at lw_m8 112 rfl) rfl
theorem q1892 : (Jvm.Cond.privateMethod ({ cls := "EightLegsModel", name := "marksNow", desc := "()I" } : Jvm.MethodName)) ∈ lw_tbl := lw_at lw_m8 113 rfl
theorem q1893 : (Jvm.Cond.instanceMethod ({ cls := "EightLegsModel", name := "marksNow", desc := "()I" } : Jvm.MethodName)) ∈ lw_all := lw_g (lw_at lw_m8 114 rfl) rfl
theorem q1894 : (Jvm.Cond.code ({ cls := "EightLegsModel", name := "marksNow", desc := "()I" } : Jvm.MethodName) prog_31_method_43_code (1 : Nat) (Option.some Jvm.ClassFile.FieldType.int)) ∈ lw_all := lw_g (lw_at lw_m8 115 rfl) rfl
theorem q1895 : (Jvm.Cond.methodLink "EightLegsModel" (278 : Nat) ({ cls := "EightLegsModel", name := "drifts", desc := "(Z)V" } : Jvm.MethodName)) ∈ lw_all := lw_g (lw_at lw_m8 116 rfl) rfl
theorem q1896 : (Jvm.Cond.privateMethod ({ cls := "EightLegsModel", name := "drifts", desc := "(Z)V" } : Jvm.MethodName)) ∈ lw_tbl := lw_at lw_m8 117 rfl
theorem q1897 : (Jvm.Cond.instanceMethod ({ cls := "EightLegsModel", name := "drifts", desc := "(Z)V" } : Jvm.MethodName)) ∈ lw_all := lw_g (lw_at lw_m8 118 rfl) rfl
theorem q1898 : (Jvm.Cond.code ({ cls := "EightLegsModel", name := "drifts", desc := "(Z)V" } : Jvm.MethodName) prog_31_method_37_code (5 : Nat) (Option.none : Option Jvm.ClassFile.FieldType)) ∈ lw_all := lw_g (lw_at lw_m8 119 rfl) rfl
theorem q1899 : (Jvm.Cond.constant "EightLegsModel" (259 : Nat) (1103515245 : Int32)) ∈ lw_all := lw_g (lw_at lw_m8 120 rfl) rfl
theorem q1900 : (Jvm.Cond.methodLink "EightLegsModel" (282 : Nat) ({ cls := "EightLegsModel", name := "marks", desc := "()I" } : Jvm.MethodName)) ∈ lw_all := lw_g (lw_at lw_m8 121 rfl) rfl
theorem q1901 : (Jvm.Cond.privateMethod ({ cls := "EightLegsModel", name := "marks", desc := "()I" } : Jvm.MethodName)) ∈ lw_tbl := lw_at lw_m8 122 rfl
theorem q1902 : (Jvm.Cond.instanceMethod ({ cls := "EightLegsModel", name := "marks", desc := "()I" } : Jvm.MethodName)) ∈ lw_all := lw_g (lw_at lw_m8 123 rfl) rfl
theorem q1903 : (Jvm.Cond.code ({ cls := "EightLegsModel", name := "marks", desc := "()I" } : Jvm.MethodName) prog_31_method_42_code (5 : Nat) (Option.some Jvm.ClassFile.FieldType.int)) ∈ lw_all := lw_g (lw_at lw_m8 124 rfl) rfl
theorem q1904 : (Jvm.Cond.methodLink "EightLegsModel" (272 : Nat) ({ cls := "EightLegsModel", name := "apartOf", desc := "(III)I" } : Jvm.MethodName)) ∈ lw_all := lw_g (lw_at lw_m8 125 rfl) rfl
theorem q1905 : (Jvm.Cond.privateMethod ({ cls := "EightLegsModel", name := "apartOf", desc := "(III)I" } : Jvm.MethodName)) ∈ lw_tbl := lw_at lw_m8 126 rfl
theorem q1906 : (Jvm.Cond.instanceMethod ({ cls := "EightLegsModel", name := "apartOf", desc := "(III)I" } : Jvm.MethodName)) ∈ lw_all := lw_g (lw_at lw_m8 127 rfl) rfl
theorem q1907 : (Jvm.Cond.code ({ cls := "EightLegsModel", name := "apartOf", desc := "(III)I" } : Jvm.MethodName) prog_31_method_39_code (4 : Nat) (Option.some Jvm.ClassFile.FieldType.int)) ∈ lw_all := lw_g (lw_at lw_m8 128 rfl) rfl
theorem q1908 : (Jvm.Cond.methodLink "EightLegsModel" (269 : Nat) ({ cls := "EightLegsModel", name := "offOf", desc := "(II)I" } : Jvm.MethodName)) ∈ lw_all := lw_g (lw_at lw_m8 129 rfl) rfl
theorem q1909 : (Jvm.Cond.privateMethod ({ cls := "EightLegsModel", name := "offOf", desc := "(II)I" } : Jvm.MethodName)) ∈ lw_tbl := lw_at lw_m8 130 rfl
theorem q1910 : (Jvm.Cond.instanceMethod ({ cls := "EightLegsModel", name := "offOf", desc := "(II)I" } : Jvm.MethodName)) ∈ lw_all := lw_g (lw_at lw_m8 131 rfl) rfl
theorem q1911 : (Jvm.Cond.code ({ cls := "EightLegsModel", name := "offOf", desc := "(II)I" } : Jvm.MethodName) prog_31_method_38_code (3 : Nat) (Option.some Jvm.ClassFile.FieldType.int)) ∈ lw_all := lw_g (lw_at lw_m8 132 rfl) rfl
theorem q1912 : (Jvm.Cond.methodLink "EightLegsModel" (298 : Nat) ({ cls := "EightLegsModel", name := "firstApart", desc := "()I" } : Jvm.MethodName)) ∈ lw_all := lw_g (lw_at lw_m8 133 rfl) rfl
theorem q1913 : (Jvm.Cond.privateMethod ({ cls := "EightLegsModel", name := "firstApart", desc := "()I" } : Jvm.MethodName)) ∈ lw_tbl := lw_at lw_m8 134 rfl
theorem q1914 : (Jvm.Cond.instanceMethod ({ cls := "EightLegsModel", name := "firstApart", desc := "()I" } : Jvm.MethodName)) ∈ lw_all := lw_g (lw_at lw_m8 135 rfl) rfl
theorem q1915 : (Jvm.Cond.code ({ cls := "EightLegsModel", name := "firstApart", desc := "()I" } : Jvm.MethodName) prog_31_method_44_code (2 : Nat) (Option.some Jvm.ClassFile.FieldType.int)) ∈ lw_all := lw_g (lw_at lw_m8 136 rfl) rfl
theorem q1916 : (Jvm.Cond.methodLink "EightLegsModel" (285 : Nat) ({ cls := "EightLegsModel", name := "greatest", desc := "(I)I" } : Jvm.MethodName)) ∈ lw_all := lw_g (lw_at lw_m8 137 rfl) rfl
theorem q1917 : (Jvm.Cond.privateMethod ({ cls := "EightLegsModel", name := "greatest", desc := "(I)I" } : Jvm.MethodName)) ∈ lw_tbl := lw_at lw_m8 138 rfl
theorem q1918 : (Jvm.Cond.instanceMethod ({ cls := "EightLegsModel", name := "greatest", desc := "(I)I" } : Jvm.MethodName)) ∈ lw_all := lw_g (lw_at lw_m8 139 rfl) rfl
theorem q1919 : (Jvm.Cond.code ({ cls := "EightLegsModel", name := "greatest", desc := "(I)I" } : Jvm.MethodName) prog_31_method_41_code (3 : Nat) (Option.some Jvm.ClassFile.FieldType.int)) ∈ lw_all := lw_g (lw_at lw_m8 140 rfl) rfl
theorem q1920 : (Jvm.Cond.methodLink "EightLegsModel" (275 : Nat) ({ cls := "EightLegsModel", name := "farthest", desc := "(I)I" } : Jvm.MethodName)) ∈ lw_all := lw_g (lw_at lw_m8 141 rfl) rfl
theorem q1921 : (Jvm.Cond.privateMethod ({ cls := "EightLegsModel", name := "farthest", desc := "(I)I" } : Jvm.MethodName)) ∈ lw_tbl := lw_at lw_m8 142 rfl
theorem q1922 : (Jvm.Cond.instanceMethod ({ cls := "EightLegsModel", name := "farthest", desc := "(I)I" } : Jvm.MethodName)) ∈ lw_all := lw_g (lw_at lw_m8 143 rfl) rfl
theorem q1923 : (Jvm.Cond.code ({ cls := "EightLegsModel", name := "farthest", desc := "(I)I" } : Jvm.MethodName) prog_31_method_40_code (6 : Nat) (Option.some Jvm.ClassFile.FieldType.int)) ∈ lw_all := lw_g (lw_at lw_m8 144 rfl) rfl
theorem q1924 : (Jvm.Cond.methodLink "EightLegsModel" (301 : Nat) ({ cls := "EightLegsModel", name := "losers", desc := "()I" } : Jvm.MethodName)) ∈ lw_all := lw_g (lw_at lw_m8 145 rfl) rfl
theorem q1925 : (Jvm.Cond.privateMethod ({ cls := "EightLegsModel", name := "losers", desc := "()I" } : Jvm.MethodName)) ∈ lw_tbl := lw_at lw_m8 146 rfl
theorem q1926 : (Jvm.Cond.instanceMethod ({ cls := "EightLegsModel", name := "losers", desc := "()I" } : Jvm.MethodName)) ∈ lw_all := lw_g (lw_at lw_m8 147 rfl) rfl
theorem q1927 : (Jvm.Cond.code ({ cls := "EightLegsModel", name := "losers", desc := "()I" } : Jvm.MethodName) prog_31_method_45_code (5 : Nat) (Option.some Jvm.ClassFile.FieldType.int)) ∈ lw_all := lw_g (lw_at lw_m8 148 rfl) rfl
theorem q1929 : (Jvm.Cond.instanceMethod ({ cls := "EightLegsModel", name := "off", desc := "(III)I" } : Jvm.MethodName)) ∈ lw_all := lw_g (lw_at lw_m8 150 rfl) rfl
theorem q1930 : (Jvm.Cond.selects "EightLegsModel" ({ cls := "EightLegsModel", name := "off", desc := "(III)I" } : Jvm.MethodName) ({ cls := "EightLegsModel", name := "off", desc := "(III)I" } : Jvm.MethodName)) ∈ lw_all := lw_g (lw_at lw_m8 151 rfl) rfl
theorem q1931 : (Jvm.Cond.code ({ cls := "EightLegsModel", name := "off", desc := "(III)I" } : Jvm.MethodName) prog_31_method_47_code (4 : Nat) (Option.some Jvm.ClassFile.FieldType.int)) ∈ lw_all := lw_g (lw_at lw_m8 152 rfl) rfl
theorem q1933 : (Jvm.Cond.instanceMethod ({ cls := "EightLegsModel", name := "apart", desc := "(III)I" } : Jvm.MethodName)) ∈ lw_all := lw_g (lw_at lw_m8 154 rfl) rfl
theorem q1934 : (Jvm.Cond.selects "EightLegsModel" ({ cls := "EightLegsModel", name := "apart", desc := "(III)I" } : Jvm.MethodName) ({ cls := "EightLegsModel", name := "apart", desc := "(III)I" } : Jvm.MethodName)) ∈ lw_all := lw_g (lw_at lw_m8 155 rfl) rfl
theorem q1935 : (Jvm.Cond.code ({ cls := "EightLegsModel", name := "apart", desc := "(III)I" } : Jvm.MethodName) prog_31_method_48_code (5 : Nat) (Option.some Jvm.ClassFile.FieldType.int)) ∈ lw_all := lw_g (lw_at lw_m8 156 rfl) rfl
theorem q1937 : (Jvm.Cond.instanceMethod ({ cls := "EightLegsModel", name := "gone", desc := "(II)I" } : Jvm.MethodName)) ∈ lw_all := lw_g (lw_at lw_m8 158 rfl) rfl
theorem q1938 : (Jvm.Cond.selects "EightLegsModel" ({ cls := "EightLegsModel", name := "gone", desc := "(II)I" } : Jvm.MethodName) ({ cls := "EightLegsModel", name := "gone", desc := "(II)I" } : Jvm.MethodName)) ∈ lw_all := lw_g (lw_at lw_m8 159 rfl) rfl
theorem q1939 : (Jvm.Cond.code ({ cls := "EightLegsModel", name := "gone", desc := "(II)I" } : Jvm.MethodName) prog_31_method_52_code (4 : Nat) (Option.some Jvm.ClassFile.FieldType.int)) ∈ lw_all := lw_g (lw_at lw_m8 160 rfl) rfl
theorem q1940 : (Jvm.Cond.methodLink "EightLegsModel" (310 : Nat) ({ cls := "EightLegsModel", name := "goneBits", desc := "()I" } : Jvm.MethodName)) ∈ lw_all := lw_g (lw_at lw_m8 161 rfl) rfl
theorem q1941 : (Jvm.Cond.privateMethod ({ cls := "EightLegsModel", name := "goneBits", desc := "()I" } : Jvm.MethodName)) ∈ lw_tbl := lw_at lw_m8 162 rfl
theorem q1942 : (Jvm.Cond.instanceMethod ({ cls := "EightLegsModel", name := "goneBits", desc := "()I" } : Jvm.MethodName)) ∈ lw_all := lw_g (lw_at lw_m8 163 rfl) rfl
theorem q1943 : (Jvm.Cond.code ({ cls := "EightLegsModel", name := "goneBits", desc := "()I" } : Jvm.MethodName) prog_31_method_51_code (3 : Nat) (Option.some Jvm.ClassFile.FieldType.int)) ∈ lw_all := lw_g (lw_at lw_m8 164 rfl) rfl
theorem q1944 : (Jvm.Cond.methodLink "EightLegsModel" (307 : Nat) ({ cls := "EightLegsModel", name := "goneAt", desc := "(I)I" } : Jvm.MethodName)) ∈ lw_all := lw_g (lw_at lw_m8 165 rfl) rfl
theorem q1945 : (Jvm.Cond.privateMethod ({ cls := "EightLegsModel", name := "goneAt", desc := "(I)I" } : Jvm.MethodName)) ∈ lw_tbl := lw_at lw_m8 166 rfl
theorem q1946 : (Jvm.Cond.instanceMethod ({ cls := "EightLegsModel", name := "goneAt", desc := "(I)I" } : Jvm.MethodName)) ∈ lw_all := lw_g (lw_at lw_m8 167 rfl) rfl
theorem q1947 : (Jvm.Cond.code ({ cls := "EightLegsModel", name := "goneAt", desc := "(I)I" } : Jvm.MethodName) prog_31_method_50_code (5 : Nat) (Option.some Jvm.ClassFile.FieldType.int)) ∈ lw_all := lw_g (lw_at lw_m8 168 rfl) rfl
theorem q1948 : (Jvm.Cond.methodLink "EightLegsModel" (304 : Nat) ({ cls := "EightLegsModel", name := "isUnder", desc := "(I)Z" } : Jvm.MethodName)) ∈ lw_all := lw_g (lw_at lw_m8 169 rfl) rfl
theorem q1949 : (Jvm.Cond.static ({ cls := "EightLegsModel", name := "isUnder", desc := "(I)Z" } : Jvm.MethodName)) ∈ lw_all := lw_g (lw_at lw_m8 170 rfl) rfl
theorem q1950 : (Jvm.Cond.code ({ cls := "EightLegsModel", name := "isUnder", desc := "(I)Z" } : Jvm.MethodName) prog_31_method_49_code (1 : Nat) (Option.some Jvm.ClassFile.FieldType.boolean)) ∈ lw_all := lw_g (lw_at lw_m8 171 rfl) rfl
theorem q1952 : (Jvm.Cond.instanceMethod ({ cls := "EightLegsModel", name := "least", desc := "(II)I" } : Jvm.MethodName)) ∈ lw_all := lw_g (lw_at lw_m8 173 rfl) rfl
theorem q1953 : (Jvm.Cond.selects "EightLegsModel" ({ cls := "EightLegsModel", name := "least", desc := "(II)I" } : Jvm.MethodName) ({ cls := "EightLegsModel", name := "least", desc := "(II)I" } : Jvm.MethodName)) ∈ lw_all := lw_g (lw_at lw_m8 174 rfl) rfl
theorem q1954 : (Jvm.Cond.code ({ cls := "EightLegsModel", name := "least", desc := "(II)I" } : Jvm.MethodName) prog_31_method_53_code (5 : Nat) (Option.some Jvm.ClassFile.FieldType.int)) ∈ lw_all := lw_g (lw_at lw_m8 175 rfl) rfl
theorem q1956 : (Jvm.Cond.instanceMethod ({ cls := "EightLegsModel", name := "gasps", desc := "(II)I" } : Jvm.MethodName)) ∈ lw_all := lw_g (lw_at lw_m8 177 rfl) rfl
theorem q1957 : (Jvm.Cond.selects "EightLegsModel" ({ cls := "EightLegsModel", name := "gasps", desc := "(II)I" } : Jvm.MethodName) ({ cls := "EightLegsModel", name := "gasps", desc := "(II)I" } : Jvm.MethodName)) ∈ lw_all := lw_g (lw_at lw_m8 178 rfl) rfl
theorem q1958 : (Jvm.Cond.code ({ cls := "EightLegsModel", name := "gasps", desc := "(II)I" } : Jvm.MethodName) prog_31_method_57_code (3 : Nat) (Option.some Jvm.ClassFile.FieldType.int)) ∈ lw_all := lw_g (lw_at lw_m8 179 rfl) rfl
theorem q1959 : (Jvm.Cond.methodLink "EightLegsModel" (320 : Nat) ({ cls := "EightLegsModel", name := "fewest", desc := "(IIII)I" } : Jvm.MethodName)) ∈ lw_all := lw_g (lw_at lw_m8 180 rfl) rfl
theorem q1960 : (Jvm.Cond.privateMethod ({ cls := "EightLegsModel", name := "fewest", desc := "(IIII)I" } : Jvm.MethodName)) ∈ lw_tbl := lw_at lw_m8 181 rfl
theorem q1961 : (Jvm.Cond.instanceMethod ({ cls := "EightLegsModel", name := "fewest", desc := "(IIII)I" } : Jvm.MethodName)) ∈ lw_all := lw_g (lw_at lw_m8 182 rfl) rfl
theorem q1962 : (Jvm.Cond.code ({ cls := "EightLegsModel", name := "fewest", desc := "(IIII)I" } : Jvm.MethodName) prog_31_method_56_code (7 : Nat) (Option.some Jvm.ClassFile.FieldType.int)) ∈ lw_all := lw_g (lw_at lw_m8 183 rfl) rfl
theorem q1963 : (Jvm.Cond.methodLink "EightLegsModel" (316 : Nat) ({ cls := "EightLegsModel", name := "picks", desc := "(IIIII)Z" } : Jvm.MethodName)) ∈ lw_all := lw_g (lw_at lw_m8 184 rfl) rfl
theorem q1964 : (Jvm.Cond.privateMethod ({ cls := "EightLegsModel", name := "picks", desc := "(IIIII)Z" } : Jvm.MethodName)) ∈ lw_tbl := lw_at lw_m8 185 rfl
theorem q1965 : (Jvm.Cond.instanceMethod ({ cls := "EightLegsModel", name := "picks", desc := "(IIIII)Z" } : Jvm.MethodName)) ∈ lw_all := lw_g (lw_at lw_m8 186 rfl) rfl
theorem q1966 : (Jvm.Cond.code ({ cls := "EightLegsModel", name := "picks", desc := "(IIIII)Z" } : Jvm.MethodName) prog_31_method_55_code (8 : Nat) (Option.some Jvm.ClassFile.FieldType.boolean)) ∈ lw_all := lw_g (lw_at lw_m8 187 rfl) rfl
theorem q1967 : (Jvm.Cond.methodLink "EightLegsModel" (313 : Nat) ({ cls := "EightLegsModel", name := "isNeverApart", desc := "()Z" } : Jvm.MethodName)) ∈ lw_all := lw_g (lw_at lw_m8 188 rfl) rfl
theorem q1968 : (Jvm.Cond.privateMethod ({ cls := "EightLegsModel", name := "isNeverApart", desc := "()Z" } : Jvm.MethodName)) ∈ lw_tbl := lw_at lw_m8 189 rfl
theorem q1969 : (Jvm.Cond.instanceMethod ({ cls := "EightLegsModel", name := "isNeverApart", desc := "()Z" } : Jvm.MethodName)) ∈ lw_all := lw_g (lw_at lw_m8 190 rfl) rfl
theorem q1970 : (Jvm.Cond.code ({ cls := "EightLegsModel", name := "isNeverApart", desc := "()Z" } : Jvm.MethodName) prog_31_method_54_code (1 : Nat) (Option.some Jvm.ClassFile.FieldType.boolean)) ∈ lw_all := lw_g (lw_at lw_m8 191 rfl) rfl
theorem q1972 : (Jvm.Cond.instanceMethod ({ cls := "EightLegsModel", name := "looks", desc := "(II)I" } : Jvm.MethodName)) ∈ lw_all := lw_g (lw_at lw_m8 193 rfl) rfl
theorem q1973 : (Jvm.Cond.selects "EightLegsModel" ({ cls := "EightLegsModel", name := "looks", desc := "(II)I" } : Jvm.MethodName) ({ cls := "EightLegsModel", name := "looks", desc := "(II)I" } : Jvm.MethodName)) ∈ lw_all := lw_g (lw_at lw_m8 194 rfl) rfl
theorem q1974 : (Jvm.Cond.code ({ cls := "EightLegsModel", name := "looks", desc := "(II)I" } : Jvm.MethodName) prog_31_method_58_code (3 : Nat) (Option.some Jvm.ClassFile.FieldType.int)) ∈ lw_all := lw_g (lw_at lw_m8 195 rfl) rfl
theorem q1976 : (Jvm.Cond.instanceMethod ({ cls := "EightLegsModel", name := "whose", desc := "(II)I" } : Jvm.MethodName)) ∈ lw_all := lw_g (lw_at lw_m8 197 rfl) rfl
theorem q1977 : (Jvm.Cond.selects "EightLegsModel" ({ cls := "EightLegsModel", name := "whose", desc := "(II)I" } : Jvm.MethodName) ({ cls := "EightLegsModel", name := "whose", desc := "(II)I" } : Jvm.MethodName)) ∈ lw_all := lw_g (lw_at lw_m8 198 rfl) rfl
theorem q1978 : (Jvm.Cond.code ({ cls := "EightLegsModel", name := "whose", desc := "(II)I" } : Jvm.MethodName) prog_31_method_59_code (9 : Nat) (Option.some Jvm.ClassFile.FieldType.int)) ∈ lw_all := lw_g (lw_at lw_m8 199 rfl) rfl
theorem q1980 : (Jvm.Cond.instanceMethod ({ cls := "EightLegsModel", name := "first", desc := "(II)I" } : Jvm.MethodName)) ∈ lw_all := lw_g (lw_at lw_m8 201 rfl) rfl
theorem q1981 : (Jvm.Cond.selects "EightLegsModel" ({ cls := "EightLegsModel", name := "first", desc := "(II)I" } : Jvm.MethodName) ({ cls := "EightLegsModel", name := "first", desc := "(II)I" } : Jvm.MethodName)) ∈ lw_all := lw_g (lw_at lw_m8 202 rfl) rfl
theorem q1982 : (Jvm.Cond.code ({ cls := "EightLegsModel", name := "first", desc := "(II)I" } : Jvm.MethodName) prog_31_method_60_code (9 : Nat) (Option.some Jvm.ClassFile.FieldType.int)) ∈ lw_all := lw_g (lw_at lw_m8 203 rfl) rfl
theorem q1984 : (Jvm.Cond.instanceMethod ({ cls := "EightLegsModel", name := "slip", desc := "(III)I" } : Jvm.MethodName)) ∈ lw_all := lw_g (lw_at lw_m8 205 rfl) rfl
theorem q1985 : (Jvm.Cond.selects "EightLegsModel" ({ cls := "EightLegsModel", name := "slip", desc := "(III)I" } : Jvm.MethodName) ({ cls := "EightLegsModel", name := "slip", desc := "(III)I" } : Jvm.MethodName)) ∈ lw_all := lw_g (lw_at lw_m8 206 rfl) rfl
theorem q1986 : (Jvm.Cond.code ({ cls := "EightLegsModel", name := "slip", desc := "(III)I" } : Jvm.MethodName) prog_31_method_61_code (6 : Nat) (Option.some Jvm.ClassFile.FieldType.int)) ∈ lw_all := lw_g (lw_at lw_m8 207 rfl) rfl
theorem q1988 : (Jvm.Cond.instanceMethod ({ cls := "EightLegsModel", name := "line", desc := "(II)I" } : Jvm.MethodName)) ∈ lw_all := lw_g (lw_at lw_m8 209 rfl) rfl
theorem q1989 : (Jvm.Cond.selects "EightLegsModel" ({ cls := "EightLegsModel", name := "line", desc := "(II)I" } : Jvm.MethodName) ({ cls := "EightLegsModel", name := "line", desc := "(II)I" } : Jvm.MethodName)) ∈ lw_all := lw_g (lw_at lw_m8 210 rfl) rfl
theorem q1990 : (Jvm.Cond.code ({ cls := "EightLegsModel", name := "line", desc := "(II)I" } : Jvm.MethodName) prog_31_method_65_code (7 : Nat) (Option.some Jvm.ClassFile.FieldType.int)) ∈ lw_all := lw_g (lw_at lw_m8 211 rfl) rfl
theorem q1991 : (Jvm.Cond.methodLink "EightLegsModel" (327 : Nat) ({ cls := "EightLegsModel", name := "unlike", desc := "(I)I" } : Jvm.MethodName)) ∈ lw_all := lw_g (lw_at lw_m8 212 rfl) rfl
theorem q1992 : (Jvm.Cond.privateMethod ({ cls := "EightLegsModel", name := "unlike", desc := "(I)I" } : Jvm.MethodName)) ∈ lw_tbl := lw_at lw_m8 213 rfl
theorem q1993 : (Jvm.Cond.instanceMethod ({ cls := "EightLegsModel", name := "unlike", desc := "(I)I" } : Jvm.MethodName)) ∈ lw_all := lw_g (lw_at lw_m8 214 rfl) rfl
theorem q1994 : (Jvm.Cond.code ({ cls := "EightLegsModel", name := "unlike", desc := "(I)I" } : Jvm.MethodName) prog_31_method_62_code (6 : Nat) (Option.some Jvm.ClassFile.FieldType.int)) ∈ lw_all := lw_g (lw_at lw_m8 215 rfl) rfl
theorem q1995 : (Jvm.Cond.methodLink "EightLegsModel" (330 : Nat) ({ cls := "EightLegsModel", name := "nextOrder", desc := "()Z" } : Jvm.MethodName)) ∈ lw_all := lw_g (lw_at lw_m8 216 rfl) rfl
theorem q1996 : (Jvm.Cond.privateMethod ({ cls := "EightLegsModel", name := "nextOrder", desc := "()Z" } : Jvm.MethodName)) ∈ lw_tbl := lw_at lw_m8 217 rfl
theorem q1997 : (Jvm.Cond.instanceMethod ({ cls := "EightLegsModel", name := "nextOrder", desc := "()Z" } : Jvm.MethodName)) ∈ lw_all := lw_g (lw_at lw_m8 218 rfl) rfl
theorem q1998 : (Jvm.Cond.code ({ cls := "EightLegsModel", name := "nextOrder", desc := "()Z" } : Jvm.MethodName) prog_31_method_63_code (5 : Nat) (Option.some Jvm.ClassFile.FieldType.boolean)) ∈ lw_all := lw_g (lw_at lw_m8 219 rfl) rfl
theorem q1999 : (Jvm.Cond.methodLink "EightLegsModel" (323 : Nat) ({ cls := "EightLegsModel", name := "exchange", desc := "(II)V" } : Jvm.MethodName)) ∈ lw_all := lw_g (lw_at lw_m8 220 rfl) rfl
theorem q2000 : (Jvm.Cond.privateMethod ({ cls := "EightLegsModel", name := "exchange", desc := "(II)V" } : Jvm.MethodName)) ∈ lw_tbl := lw_at lw_m8 221 rfl
theorem q2001 : (Jvm.Cond.instanceMethod ({ cls := "EightLegsModel", name := "exchange", desc := "(II)V" } : Jvm.MethodName)) ∈ lw_all := lw_g (lw_at lw_m8 222 rfl) rfl
theorem q2002 : (Jvm.Cond.code ({ cls := "EightLegsModel", name := "exchange", desc := "(II)V" } : Jvm.MethodName) prog_31_method_64_code (4 : Nat) (Option.none : Option Jvm.ClassFile.FieldType)) ∈ lw_all := lw_g (lw_at lw_m8 223 rfl) rfl
theorem q2004 : (Jvm.Cond.instanceMethod ({ cls := "EightLegsModel", name := "lift", desc := "(I)I" } : Jvm.MethodName)) ∈ lw_all := lw_g (lw_at lw_m8 225 rfl) rfl
theorem q2005 : (Jvm.Cond.selects "EightLegsModel" ({ cls := "EightLegsModel", name := "lift", desc := "(I)I" } : Jvm.MethodName) ({ cls := "EightLegsModel", name := "lift", desc := "(I)I" } : Jvm.MethodName)) ∈ lw_all := lw_g (lw_at lw_m8 226 rfl) rfl
theorem q2006 : (Jvm.Cond.code ({ cls := "EightLegsModel", name := "lift", desc := "(I)I" } : Jvm.MethodName) prog_31_method_66_code (9 : Nat) (Option.some Jvm.ClassFile.FieldType.int)) ∈ lw_all := lw_g (lw_at lw_m8 227 rfl) rfl
theorem q2007 : (Jvm.Cond.methodLink "EightLegsModel" (333 : Nat) ({ cls := "java/lang/Integer", name := "bitCount", desc := "(I)I" } : Jvm.MethodName)) ∈ lw_all := lw_g (lw_at lw_m8 228 rfl) rfl
theorem q2009 : (Jvm.Cond.instanceMethod ({ cls := "EightLegsModel", name := "star", desc := "(I)I" } : Jvm.MethodName)) ∈ lw_all := lw_g (lw_at lw_m8 230 rfl) rfl
theorem q2010 : (Jvm.Cond.selects "EightLegsModel" ({ cls := "EightLegsModel", name := "star", desc := "(I)I" } : Jvm.MethodName) ({ cls := "EightLegsModel", name := "star", desc := "(I)I" } : Jvm.MethodName)) ∈ lw_all := lw_g (lw_at lw_m8 231 rfl) rfl
theorem q2011 : (Jvm.Cond.code ({ cls := "EightLegsModel", name := "star", desc := "(I)I" } : Jvm.MethodName) prog_31_method_69_code (5 : Nat) (Option.some Jvm.ClassFile.FieldType.int)) ∈ lw_all := lw_g (lw_at lw_m8 232 rfl) rfl
theorem q2012 : (Jvm.Cond.methodLink "EightLegsModel" (338 : Nat) ({ cls := "EightLegsModel", name := "span", desc := "([II)I" } : Jvm.MethodName)) ∈ lw_all := lw_g (lw_at lw_m8 233 rfl) rfl
theorem q2013 : (Jvm.Cond.static ({ cls := "EightLegsModel", name := "span", desc := "([II)I" } : Jvm.MethodName)) ∈ lw_all := lw_g (lw_at lw_m8 234 rfl) rfl
theorem q2014 : (Jvm.Cond.code ({ cls := "EightLegsModel", name := "span", desc := "([II)I" } : Jvm.MethodName) prog_31_method_67_code (5 : Nat) (Option.some Jvm.ClassFile.FieldType.int)) ∈ lw_all := lw_g (lw_at lw_m8 235 rfl) rfl
theorem q2015 : (Jvm.Cond.methodLink "EightLegsModel" (342 : Nat) ({ cls := "EightLegsModel", name := "isAt", desc := "(III)Z" } : Jvm.MethodName)) ∈ lw_all := lw_g (lw_at lw_m8 236 rfl) rfl
theorem q2016 : (Jvm.Cond.privateMethod ({ cls := "EightLegsModel", name := "isAt", desc := "(III)Z" } : Jvm.MethodName)) ∈ lw_tbl := lw_at lw_m8 237 rfl
theorem q2017 : (Jvm.Cond.instanceMethod ({ cls := "EightLegsModel", name := "isAt", desc := "(III)Z" } : Jvm.MethodName)) ∈ lw_all := lw_g (lw_at lw_m8 238 rfl) rfl
theorem q2018 : (Jvm.Cond.code ({ cls := "EightLegsModel", name := "isAt", desc := "(III)Z" } : Jvm.MethodName) prog_31_method_68_code (5 : Nat) (Option.some Jvm.ClassFile.FieldType.boolean)) ∈ lw_all := lw_g (lw_at lw_m8 239 rfl) rfl
theorem q2020 : (Jvm.Cond.instanceMethod ({ cls := "EightLegsModel", name := "judge", desc := "(I)I" } : Jvm.MethodName)) ∈ lw_all := lw_g (lw_at lw_m9 1 rfl) rfl
theorem q2021 : (Jvm.Cond.selects "EightLegsModel" ({ cls := "EightLegsModel", name := "judge", desc := "(I)I" } : Jvm.MethodName) ({ cls := "EightLegsModel", name := "judge", desc := "(I)I" } : Jvm.MethodName)) ∈ lw_all := lw_g (lw_at lw_m9 2 rfl) rfl
theorem q2022 : (Jvm.Cond.code ({ cls := "EightLegsModel", name := "judge", desc := "(I)I" } : Jvm.MethodName) prog_31_method_73_code (3 : Nat) (Option.some Jvm.ClassFile.FieldType.int)) ∈ lw_all := lw_g (lw_at lw_m9 3 rfl) rfl
theorem q2023 : (Jvm.Cond.methodLink "EightLegsModel" (345 : Nat) ({ cls := "EightLegsModel", name := "areShelves", desc := "(I)Z" } : Jvm.MethodName)) ∈ lw_all := lw_g (lw_at lw_m9 4 rfl) rfl
theorem q2024 : (Jvm.Cond.static ({ cls := "EightLegsModel", name := "areShelves", desc := "(I)Z" } : Jvm.MethodName)) ∈ lw_all := lw_g (lw_at lw_m9 5 rfl) rfl
theorem q2025 : (Jvm.Cond.code ({ cls := "EightLegsModel", name := "areShelves", desc := "(I)Z" } : Jvm.MethodName) prog_31_method_70_code (1 : Nat) (Option.some Jvm.ClassFile.FieldType.boolean)) ∈ lw_all := lw_g (lw_at lw_m9 6 rfl) rfl
theorem q2026 : (Jvm.Cond.methodLink "EightLegsModel" (348 : Nat) ({ cls := "EightLegsModel", name := "noRipples", desc := "(I)I" } : Jvm.MethodName)) ∈ lw_all := lw_g (lw_at lw_m9 7 rfl) rfl
theorem q2027 : (Jvm.Cond.privateMethod ({ cls := "EightLegsModel", name := "noRipples", desc := "(I)I" } : Jvm.MethodName)) ∈ lw_tbl := lw_at lw_m9 8 rfl
theorem q2028 : (Jvm.Cond.instanceMethod ({ cls := "EightLegsModel", name := "noRipples", desc := "(I)I" } : Jvm.MethodName)) ∈ lw_all := lw_g (lw_at lw_m9 9 rfl) rfl
theorem q2029 : (Jvm.Cond.code ({ cls := "EightLegsModel", name := "noRipples", desc := "(I)I" } : Jvm.MethodName) prog_31_method_71_code (2 : Nat) (Option.some Jvm.ClassFile.FieldType.int)) ∈ lw_all := lw_g (lw_at lw_m9 10 rfl) rfl
theorem q2030 : (Jvm.Cond.methodLink "EightLegsModel" (351 : Nat) ({ cls := "EightLegsModel", name := "wrong", desc := "(I)I" } : Jvm.MethodName)) ∈ lw_all := lw_g (lw_at lw_m9 11 rfl) rfl
theorem q2031 : (Jvm.Cond.privateMethod ({ cls := "EightLegsModel", name := "wrong", desc := "(I)I" } : Jvm.MethodName)) ∈ lw_tbl := lw_at lw_m9 12 rfl
theorem q2032 : (Jvm.Cond.instanceMethod ({ cls := "EightLegsModel", name := "wrong", desc := "(I)I" } : Jvm.MethodName)) ∈ lw_all := lw_g (lw_at lw_m9 13 rfl) rfl
theorem q2033 : (Jvm.Cond.code ({ cls := "EightLegsModel", name := "wrong", desc := "(I)I" } : Jvm.MethodName) prog_31_method_72_code (3 : Nat) (Option.some Jvm.ClassFile.FieldType.int)) ∈ lw_all := lw_g (lw_at lw_m9 14 rfl) rfl
theorem q2035 : (Jvm.Cond.instanceMethod ({ cls := "EightLegsModel", name := "whoLed", desc := "(I)I" } : Jvm.MethodName)) ∈ lw_all := lw_g (lw_at lw_m9 16 rfl) rfl
theorem q2036 : (Jvm.Cond.selects "EightLegsModel" ({ cls := "EightLegsModel", name := "whoLed", desc := "(I)I" } : Jvm.MethodName) ({ cls := "EightLegsModel", name := "whoLed", desc := "(I)I" } : Jvm.MethodName)) ∈ lw_all := lw_g (lw_at lw_m9 17 rfl) rfl
theorem q2037 : (Jvm.Cond.code ({ cls := "EightLegsModel", name := "whoLed", desc := "(I)I" } : Jvm.MethodName) prog_31_method_74_code (6 : Nat) (Option.some Jvm.ClassFile.FieldType.int)) ∈ lw_all := lw_g (lw_at lw_m9 18 rfl) rfl
theorem q2039 : (Jvm.Cond.instanceMethod ({ cls := "EightLegsModel", name := "later", desc := "(II)I" } : Jvm.MethodName)) ∈ lw_all := lw_g (lw_at lw_m9 20 rfl) rfl
theorem q2040 : (Jvm.Cond.selects "EightLegsModel" ({ cls := "EightLegsModel", name := "later", desc := "(II)I" } : Jvm.MethodName) ({ cls := "EightLegsModel", name := "later", desc := "(II)I" } : Jvm.MethodName)) ∈ lw_all := lw_g (lw_at lw_m9 21 rfl) rfl
theorem q2041 : (Jvm.Cond.code ({ cls := "EightLegsModel", name := "later", desc := "(II)I" } : Jvm.MethodName) prog_31_method_75_code (7 : Nat) (Option.some Jvm.ClassFile.FieldType.int)) ∈ lw_all := lw_g (lw_at lw_m9 22 rfl) rfl
theorem q2043 : (Jvm.Cond.instanceMethod ({ cls := "EightLegsModel", name := "quicker", desc := "(II)I" } : Jvm.MethodName)) ∈ lw_all := lw_g (lw_at lw_m9 24 rfl) rfl
theorem q2044 : (Jvm.Cond.selects "EightLegsModel" ({ cls := "EightLegsModel", name := "quicker", desc := "(II)I" } : Jvm.MethodName) ({ cls := "EightLegsModel", name := "quicker", desc := "(II)I" } : Jvm.MethodName)) ∈ lw_all := lw_g (lw_at lw_m9 25 rfl) rfl
theorem q2045 : (Jvm.Cond.code ({ cls := "EightLegsModel", name := "quicker", desc := "(II)I" } : Jvm.MethodName) prog_31_method_76_code (7 : Nat) (Option.some Jvm.ClassFile.FieldType.int)) ∈ lw_all := lw_g (lw_at lw_m9 26 rfl) rfl
theorem q2047 : (Jvm.Cond.instanceMethod ({ cls := "EightLegsModel", name := "drawn", desc := "(IIII)I" } : Jvm.MethodName)) ∈ lw_all := lw_g (lw_at lw_m9 28 rfl) rfl
theorem q2048 : (Jvm.Cond.selects "EightLegsModel" ({ cls := "EightLegsModel", name := "drawn", desc := "(IIII)I" } : Jvm.MethodName) ({ cls := "EightLegsModel", name := "drawn", desc := "(IIII)I" } : Jvm.MethodName)) ∈ lw_all := lw_g (lw_at lw_m9 29 rfl) rfl
theorem q2049 : (Jvm.Cond.code ({ cls := "EightLegsModel", name := "drawn", desc := "(IIII)I" } : Jvm.MethodName) prog_31_method_77_code (10 : Nat) (Option.some Jvm.ClassFile.FieldType.int)) ∈ lw_all := lw_g (lw_at lw_m9 30 rfl) rfl
theorem q2051 : (Jvm.Cond.instanceMethod ({ cls := "EightLegsModel", name := "swim", desc := "(I)I" } : Jvm.MethodName)) ∈ lw_all := lw_g (lw_at lw_m9 32 rfl) rfl
theorem q2052 : (Jvm.Cond.selects "EightLegsModel" ({ cls := "EightLegsModel", name := "swim", desc := "(I)I" } : Jvm.MethodName) ({ cls := "EightLegsModel", name := "swim", desc := "(I)I" } : Jvm.MethodName)) ∈ lw_all := lw_g (lw_at lw_m9 33 rfl) rfl
theorem q2053 : (Jvm.Cond.code ({ cls := "EightLegsModel", name := "swim", desc := "(I)I" } : Jvm.MethodName) prog_31_method_78_code (6 : Nat) (Option.some Jvm.ClassFile.FieldType.int)) ∈ lw_all := lw_g (lw_at lw_m9 34 rfl) rfl
theorem q2055 : (Jvm.Cond.instanceMethod ({ cls := "EightLegsModel", name := "led", desc := "(I)I" } : Jvm.MethodName)) ∈ lw_all := lw_g (lw_at lw_m9 36 rfl) rfl
theorem q2056 : (Jvm.Cond.selects "EightLegsModel" ({ cls := "EightLegsModel", name := "led", desc := "(I)I" } : Jvm.MethodName) ({ cls := "EightLegsModel", name := "led", desc := "(I)I" } : Jvm.MethodName)) ∈ lw_all := lw_g (lw_at lw_m9 37 rfl) rfl
theorem q2057 : (Jvm.Cond.code ({ cls := "EightLegsModel", name := "led", desc := "(I)I" } : Jvm.MethodName) prog_31_method_79_code (2 : Nat) (Option.some Jvm.ClassFile.FieldType.int)) ∈ lw_all := lw_g (lw_at lw_m9 38 rfl) rfl
theorem q2059 : (Jvm.Cond.instanceMethod ({ cls := "EightLegsModel", name := "image", desc := "()I" } : Jvm.MethodName)) ∈ lw_all := lw_g (lw_at lw_m9 40 rfl) rfl
theorem q2060 : (Jvm.Cond.selects "EightLegsModel" ({ cls := "EightLegsModel", name := "image", desc := "()I" } : Jvm.MethodName) ({ cls := "EightLegsModel", name := "image", desc := "()I" } : Jvm.MethodName)) ∈ lw_all := lw_g (lw_at lw_m9 41 rfl) rfl
theorem q2061 : (Jvm.Cond.code ({ cls := "EightLegsModel", name := "image", desc := "()I" } : Jvm.MethodName) prog_31_method_80_code (2 : Nat) (Option.some Jvm.ClassFile.FieldType.int)) ∈ lw_all := lw_g (lw_at lw_m9 42 rfl) rfl
theorem q2063 : (Jvm.Cond.instanceMethod ({ cls := "EightLegsModel", name := "back", desc := "()I" } : Jvm.MethodName)) ∈ lw_all := lw_g (lw_at lw_m9 44 rfl) rfl
theorem q2064 : (Jvm.Cond.selects "EightLegsModel" ({ cls := "EightLegsModel", name := "back", desc := "()I" } : Jvm.MethodName) ({ cls := "EightLegsModel", name := "back", desc := "()I" } : Jvm.MethodName)) ∈ lw_all := lw_g (lw_at lw_m9 45 rfl) rfl
theorem q2065 : (Jvm.Cond.code ({ cls := "EightLegsModel", name := "back", desc := "()I" } : Jvm.MethodName) prog_31_method_81_code (2 : Nat) (Option.some Jvm.ClassFile.FieldType.int)) ∈ lw_all := lw_g (lw_at lw_m9 46 rfl) rfl
theorem q2067 : (Jvm.Cond.instanceMethod ({ cls := "EightLegsModel", name := "body", desc := "(I)I" } : Jvm.MethodName)) ∈ lw_all := lw_g (lw_at lw_m9 48 rfl) rfl
theorem q2068 : (Jvm.Cond.selects "EightLegsModel" ({ cls := "EightLegsModel", name := "body", desc := "(I)I" } : Jvm.MethodName) ({ cls := "EightLegsModel", name := "body", desc := "(I)I" } : Jvm.MethodName)) ∈ lw_all := lw_g (lw_at lw_m9 49 rfl) rfl
theorem q2069 : (Jvm.Cond.code ({ cls := "EightLegsModel", name := "body", desc := "(I)I" } : Jvm.MethodName) prog_31_method_88_code (2 : Nat) (Option.some Jvm.ClassFile.FieldType.int)) ∈ lw_all := lw_g (lw_at lw_m9 50 rfl) rfl
theorem q2071 : (Jvm.Cond.instanceMethod ({ cls := "EightLegsModel", name := "act", desc := "(III)I" } : Jvm.MethodName)) ∈ lw_all := lw_g (lw_at lw_m9 52 rfl) rfl
theorem q2072 : (Jvm.Cond.selects "EightLegsModel" ({ cls := "EightLegsModel", name := "act", desc := "(III)I" } : Jvm.MethodName) ({ cls := "EightLegsModel", name := "act", desc := "(III)I" } : Jvm.MethodName)) ∈ lw_all := lw_g (lw_at lw_m9 53 rfl) rfl
theorem q2073 : (Jvm.Cond.code ({ cls := "EightLegsModel", name := "act", desc := "(III)I" } : Jvm.MethodName) prog_31_method_89_code (5 : Nat) (Option.some Jvm.ClassFile.FieldType.int)) ∈ lw_all := lw_g (lw_at lw_m9 54 rfl) rfl
theorem q2074 : (Jvm.Cond.methodLink "EightLegsModel" (366 : Nat) ({ cls := "EightLegsModel", name := "countsBy", desc := "(III)I" } : Jvm.MethodName)) ∈ lw_all := lw_g (lw_at lw_m9 55 rfl) rfl
theorem q2075 : (Jvm.Cond.privateMethod ({ cls := "EightLegsModel", name := "countsBy", desc := "(III)I" } : Jvm.MethodName)) ∈ lw_tbl := lw_at lw_m9 56 rfl
theorem q2076 : (Jvm.Cond.instanceMethod ({ cls := "EightLegsModel", name := "countsBy", desc := "(III)I" } : Jvm.MethodName)) ∈ lw_all := lw_g (lw_at lw_m9 57 rfl) rfl
theorem q2077 : (Jvm.Cond.code ({ cls := "EightLegsModel", name := "countsBy", desc := "(III)I" } : Jvm.MethodName) prog_31_method_84_code (4 : Nat) (Option.some Jvm.ClassFile.FieldType.int)) ∈ lw_all := lw_g (lw_at lw_m9 58 rfl) rfl
theorem q2078 : (Jvm.Cond.methodLink "EightLegsModel" (363 : Nat) ({ cls := "EightLegsModel", name := "ran", desc := "(I)V" } : Jvm.MethodName)) ∈ lw_all := lw_g (lw_at lw_m9 59 rfl) rfl
theorem q2079 : (Jvm.Cond.privateMethod ({ cls := "EightLegsModel", name := "ran", desc := "(I)V" } : Jvm.MethodName)) ∈ lw_tbl := lw_at lw_m9 60 rfl
theorem q2080 : (Jvm.Cond.instanceMethod ({ cls := "EightLegsModel", name := "ran", desc := "(I)V" } : Jvm.MethodName)) ∈ lw_all := lw_g (lw_at lw_m9 61 rfl) rfl
theorem q2081 : (Jvm.Cond.code ({ cls := "EightLegsModel", name := "ran", desc := "(I)V" } : Jvm.MethodName) prog_31_method_83_code (2 : Nat) (Option.none : Option Jvm.ClassFile.FieldType)) ∈ lw_all := lw_g (lw_at lw_m9 62 rfl) rfl
theorem q2082 : (Jvm.Cond.methodLink "EightLegsModel" (369 : Nat) ({ cls := "EightLegsModel", name := "above", desc := "(I)I" } : Jvm.MethodName)) ∈ lw_all := lw_g (lw_at lw_m9 63 rfl) rfl
theorem q2083 : (Jvm.Cond.static ({ cls := "EightLegsModel", name := "above", desc := "(I)I" } : Jvm.MethodName)) ∈ lw_all := lw_g (lw_at lw_m9 64 rfl) rfl
theorem q2084 : (Jvm.Cond.code ({ cls := "EightLegsModel", name := "above", desc := "(I)I" } : Jvm.MethodName) prog_31_method_82_code (1 : Nat) (Option.some Jvm.ClassFile.FieldType.int)) ∈ lw_all := lw_g (lw_at lw_m9 65 rfl) rfl
theorem q2085 : (Jvm.Cond.methodLink "EightLegsModel" (372 : Nat) ({ cls := "EightLegsModel", name := "turnsBy", desc := "(III)I" } : Jvm.MethodName)) ∈ lw_all := lw_g (lw_at lw_m9 66 rfl) rfl
theorem q2086 : (Jvm.Cond.privateMethod ({ cls := "EightLegsModel", name := "turnsBy", desc := "(III)I" } : Jvm.MethodName)) ∈ lw_tbl := lw_at lw_m9 67 rfl
theorem q2087 : (Jvm.Cond.instanceMethod ({ cls := "EightLegsModel", name := "turnsBy", desc := "(III)I" } : Jvm.MethodName)) ∈ lw_all := lw_g (lw_at lw_m9 68 rfl) rfl
theorem q2088 : (Jvm.Cond.code ({ cls := "EightLegsModel", name := "turnsBy", desc := "(III)I" } : Jvm.MethodName) prog_31_method_85_code (5 : Nat) (Option.some Jvm.ClassFile.FieldType.int)) ∈ lw_all := lw_g (lw_at lw_m9 69 rfl) rfl
theorem q2089 : (Jvm.Cond.methodLink "EightLegsModel" (375 : Nat) ({ cls := "EightLegsModel", name := "sinksBy", desc := "(III)I" } : Jvm.MethodName)) ∈ lw_all := lw_g (lw_at lw_m9 70 rfl) rfl
theorem q2090 : (Jvm.Cond.privateMethod ({ cls := "EightLegsModel", name := "sinksBy", desc := "(III)I" } : Jvm.MethodName)) ∈ lw_tbl := lw_at lw_m9 71 rfl
theorem q2091 : (Jvm.Cond.instanceMethod ({ cls := "EightLegsModel", name := "sinksBy", desc := "(III)I" } : Jvm.MethodName)) ∈ lw_all := lw_g (lw_at lw_m9 72 rfl) rfl
theorem q2092 : (Jvm.Cond.code ({ cls := "EightLegsModel", name := "sinksBy", desc := "(III)I" } : Jvm.MethodName) prog_31_method_86_code (5 : Nat) (Option.some Jvm.ClassFile.FieldType.int)) ∈ lw_all := lw_g (lw_at lw_m9 73 rfl) rfl
theorem q2093 : (Jvm.Cond.methodLink "EightLegsModel" (378 : Nat) ({ cls := "EightLegsModel", name := "tells", desc := "(III)I" } : Jvm.MethodName)) ∈ lw_all := lw_g (lw_at lw_m9 74 rfl) rfl
theorem q2094 : (Jvm.Cond.privateMethod ({ cls := "EightLegsModel", name := "tells", desc := "(III)I" } : Jvm.MethodName)) ∈ lw_tbl := lw_at lw_m9 75 rfl
theorem q2095 : (Jvm.Cond.instanceMethod ({ cls := "EightLegsModel", name := "tells", desc := "(III)I" } : Jvm.MethodName)) ∈ lw_all := lw_g (lw_at lw_m9 76 rfl) rfl
theorem q2096 : (Jvm.Cond.code ({ cls := "EightLegsModel", name := "tells", desc := "(III)I" } : Jvm.MethodName) prog_31_method_87_code (5 : Nat) (Option.some Jvm.ClassFile.FieldType.int)) ∈ lw_all := lw_g (lw_at lw_m9 77 rfl) rfl
theorem q2098 : (Jvm.Cond.instanceMethod ({ cls := "EightLegsModel", name := "trace", desc := "(I)I" } : Jvm.MethodName)) ∈ lw_all := lw_g (lw_at lw_m9 79 rfl) rfl
theorem q2099 : (Jvm.Cond.selects "EightLegsModel" ({ cls := "EightLegsModel", name := "trace", desc := "(I)I" } : Jvm.MethodName) ({ cls := "EightLegsModel", name := "trace", desc := "(I)I" } : Jvm.MethodName)) ∈ lw_all := lw_g (lw_at lw_m9 80 rfl) rfl
theorem q2100 : (Jvm.Cond.code ({ cls := "EightLegsModel", name := "trace", desc := "(I)I" } : Jvm.MethodName) prog_31_method_90_code (2 : Nat) (Option.some Jvm.ClassFile.FieldType.int)) ∈ lw_all := lw_g (lw_at lw_m9 81 rfl) rfl
theorem q2102 : (Jvm.Cond.instanceMethod ({ cls := "EightLegsModel", name := "keep", desc := "(II)I" } : Jvm.MethodName)) ∈ lw_all := lw_g (lw_at lw_m9 83 rfl) rfl
theorem q2103 : (Jvm.Cond.selects "EightLegsModel" ({ cls := "EightLegsModel", name := "keep", desc := "(II)I" } : Jvm.MethodName) ({ cls := "EightLegsModel", name := "keep", desc := "(II)I" } : Jvm.MethodName)) ∈ lw_all := lw_g (lw_at lw_m9 84 rfl) rfl
theorem q2104 : (Jvm.Cond.code ({ cls := "EightLegsModel", name := "keep", desc := "(II)I" } : Jvm.MethodName) prog_31_method_91_code (3 : Nat) (Option.some Jvm.ClassFile.FieldType.int)) ∈ lw_all := lw_g (lw_at lw_m9 85 rfl) rfl
theorem q2106 : (Jvm.Cond.instanceMethod ({ cls := "EightLegsModel", name := "row", desc := "(III)I" } : Jvm.MethodName)) ∈ lw_all := lw_g (lw_at lw_m9 87 rfl) rfl
theorem q2107 : (Jvm.Cond.selects "EightLegsModel" ({ cls := "EightLegsModel", name := "row", desc := "(III)I" } : Jvm.MethodName) ({ cls := "EightLegsModel", name := "row", desc := "(III)I" } : Jvm.MethodName)) ∈ lw_all := lw_g (lw_at lw_m9 88 rfl) rfl
theorem q2108 : (Jvm.Cond.code ({ cls := "EightLegsModel", name := "row", desc := "(III)I" } : Jvm.MethodName) prog_31_method_92_code (5 : Nat) (Option.some Jvm.ClassFile.FieldType.int)) ∈ lw_all := lw_g (lw_at lw_m9 89 rfl) rfl
theorem q2110 : (Jvm.Cond.instanceMethod ({ cls := "EightLegsModel", name := "put", desc := "(IIJ)I" } : Jvm.MethodName)) ∈ lw_all := lw_g (lw_at lw_m9 91 rfl) rfl
theorem q2111 : (Jvm.Cond.selects "EightLegsModel" ({ cls := "EightLegsModel", name := "put", desc := "(IIJ)I" } : Jvm.MethodName) ({ cls := "EightLegsModel", name := "put", desc := "(IIJ)I" } : Jvm.MethodName)) ∈ lw_all := lw_g (lw_at lw_m9 92 rfl) rfl
theorem q2112 : (Jvm.Cond.code ({ cls := "EightLegsModel", name := "put", desc := "(IIJ)I" } : Jvm.MethodName) prog_31_method_95_code (5 : Nat) (Option.some Jvm.ClassFile.FieldType.int)) ∈ lw_all := lw_g (lw_at lw_m9 93 rfl) rfl
theorem q2113 : (Jvm.Cond.methodLink "EightLegsModel" (384 : Nat) ({ cls := "EightLegsModel", name := "isRow", desc := "(I)Z" } : Jvm.MethodName)) ∈ lw_all := lw_g (lw_at lw_m9 94 rfl) rfl
theorem q2114 : (Jvm.Cond.privateMethod ({ cls := "EightLegsModel", name := "isRow", desc := "(I)Z" } : Jvm.MethodName)) ∈ lw_tbl := lw_at lw_m9 95 rfl
theorem q2115 : (Jvm.Cond.instanceMethod ({ cls := "EightLegsModel", name := "isRow", desc := "(I)Z" } : Jvm.MethodName)) ∈ lw_all := lw_g (lw_at lw_m9 96 rfl) rfl
theorem q2116 : (Jvm.Cond.code ({ cls := "EightLegsModel", name := "isRow", desc := "(I)Z" } : Jvm.MethodName) prog_31_method_93_code (2 : Nat) (Option.some Jvm.ClassFile.FieldType.boolean)) ∈ lw_all := lw_g (lw_at lw_m9 97 rfl) rfl
theorem q2117 : (Jvm.Cond.methodLink "EightLegsModel" (387 : Nat) ({ cls := "EightLegsModel", name := "kept", desc := "(IJ)J" } : Jvm.MethodName)) ∈ lw_all := lw_g (lw_at lw_m9 98 rfl) rfl
theorem q2118 : (Jvm.Cond.static ({ cls := "EightLegsModel", name := "kept", desc := "(IJ)J" } : Jvm.MethodName)) ∈ lw_all := lw_g (lw_at lw_m9 99 rfl) rfl
theorem q2119 : (Jvm.Cond.code ({ cls := "EightLegsModel", name := "kept", desc := "(IJ)J" } : Jvm.MethodName) prog_31_method_94_code (3 : Nat) (Option.some Jvm.ClassFile.FieldType.long)) ∈ lw_all := lw_g (lw_at lw_m9 100 rfl) rfl
theorem q2121 : (Jvm.Cond.instanceMethod ({ cls := "EightLegsModel", name := "element", desc := "(II)J" } : Jvm.MethodName)) ∈ lw_all := lw_g (lw_at lw_m9 102 rfl) rfl
theorem q2122 : (Jvm.Cond.selects "EightLegsModel" ({ cls := "EightLegsModel", name := "element", desc := "(II)J" } : Jvm.MethodName) ({ cls := "EightLegsModel", name := "element", desc := "(II)J" } : Jvm.MethodName)) ∈ lw_all := lw_g (lw_at lw_m9 103 rfl) rfl
theorem q2123 : (Jvm.Cond.code ({ cls := "EightLegsModel", name := "element", desc := "(II)J" } : Jvm.MethodName) prog_31_method_96_code (3 : Nat) (Option.some Jvm.ClassFile.FieldType.long)) ∈ lw_all := lw_g (lw_at lw_m9 104 rfl) rfl
theorem q2124 : (Jvm.Cond.constantLong "EightLegsModel" (391 : Nat) (-9223372036854775808 : Int64)) ∈ lw_all := lw_g (lw_at lw_m9 105 rfl) rfl
theorem q2126 : (Jvm.Cond.instanceMethod ({ cls := "EightLegsModel", name := "shift", desc := "(IIIII)I" } : Jvm.MethodName)) ∈ lw_all := lw_g (lw_at lw_m9 107 rfl) rfl
theorem q2127 : (Jvm.Cond.selects "EightLegsModel" ({ cls := "EightLegsModel", name := "shift", desc := "(IIIII)I" } : Jvm.MethodName) ({ cls := "EightLegsModel", name := "shift", desc := "(IIIII)I" } : Jvm.MethodName)) ∈ lw_all := lw_g (lw_at lw_m9 108 rfl) rfl
theorem q2128 : (Jvm.Cond.code ({ cls := "EightLegsModel", name := "shift", desc := "(IIIII)I" } : Jvm.MethodName) prog_31_method_97_code (7 : Nat) (Option.some Jvm.ClassFile.FieldType.int)) ∈ lw_all := lw_g (lw_at lw_m9 109 rfl) rfl
theorem q2130 : (Jvm.Cond.instanceMethod ({ cls := "EightLegsModel", name := "taken", desc := "(II)I" } : Jvm.MethodName)) ∈ lw_all := lw_g (lw_at lw_m9 111 rfl) rfl
theorem q2131 : (Jvm.Cond.selects "EightLegsModel" ({ cls := "EightLegsModel", name := "taken", desc := "(II)I" } : Jvm.MethodName) ({ cls := "EightLegsModel", name := "taken", desc := "(II)I" } : Jvm.MethodName)) ∈ lw_all := lw_g (lw_at lw_m9 112 rfl) rfl
theorem q2132 : (Jvm.Cond.code ({ cls := "EightLegsModel", name := "taken", desc := "(II)I" } : Jvm.MethodName) prog_31_method_98_code (5 : Nat) (Option.some Jvm.ClassFile.FieldType.int)) ∈ lw_all := lw_g (lw_at lw_m9 113 rfl) rfl
theorem q2134 : (Jvm.Cond.instanceMethod ({ cls := "EightLegsModel", name := "count", desc := "(I)I" } : Jvm.MethodName)) ∈ lw_all := lw_g (lw_at lw_m9 115 rfl) rfl
theorem q2135 : (Jvm.Cond.selects "EightLegsModel" ({ cls := "EightLegsModel", name := "count", desc := "(I)I" } : Jvm.MethodName) ({ cls := "EightLegsModel", name := "count", desc := "(I)I" } : Jvm.MethodName)) ∈ lw_all := lw_g (lw_at lw_m9 116 rfl) rfl
theorem q2136 : (Jvm.Cond.code ({ cls := "EightLegsModel", name := "count", desc := "(I)I" } : Jvm.MethodName) prog_31_method_99_code (2 : Nat) (Option.some Jvm.ClassFile.FieldType.int)) ∈ lw_all := lw_g (lw_at lw_m9 117 rfl) rfl
theorem in_X2 : ∀ w ∈ wsX20, w ∈ lw_all := lw_in wsX20 [1634, 1636, 1638, 1640, 1642, 1644, 1646, 1648, 1650, 1652, 1654, 1656, 1658, 1660, 1662, 1664, 1666, 1668, 1670, 1672, 1674, 1676, 1678, 1680, 1682, 1684, 1686, 1688, 1690, 1692, 1694, 1696, 1698, 1700, 1702, 1704, 1706, 1708, 1710, 1712, 1714, 1716, 1718, 1720, 1722, 1724, 1726, 1728, 1730, 1732, 1734, 1736, 1738, 1740, 1742, 1744] (by decide +kernel) (by decide +kernel)

/-! java/lang/Math -/
set_option maxRecDepth 100000
def RJ9 : String := "java/lang/Math"
abbrev cJ9_max : ByteArray := prog_38_method_65_code
def yJ9_max : MethodName := ⟨RJ9, "max", "(II)I"⟩
def dkwJ9_max_0 : List UInt8 := [26, 27, 161, 0, 7, 26, 167, 0, 4, 27, 172]
abbrev dktJ9_max_0 : List UInt8 := dkwJ9_max_0 ++ []
theorem dksJ9_max_0 : cJ9_max.data.toList.drop 0 = dktJ9_max_0 := by decide +kernel
theorem dJ9_max_0 : decode cJ9_max 0 = .ok (.iload_n 0, 1) := dk_26 (dk_at dksJ9_max_0 0 rfl rfl)
theorem dJ9_max_1 : decode cJ9_max 1 = .ok (.iload_n 1, 1) := dk_27 (dk_at dksJ9_max_0 1 rfl rfl)
theorem dJ9_max_2 : decode cJ9_max 2 = .ok (.if_icmp .lt 7, 3) := dk_161 0 7 (dk_at dksJ9_max_0 2 rfl rfl)
theorem dJ9_max_5 : decode cJ9_max 5 = .ok (.iload_n 0, 1) := dk_26 (dk_at dksJ9_max_0 5 rfl rfl)
theorem dJ9_max_6 : decode cJ9_max 6 = .ok (.goto 4, 3) := dk_167 0 4 (dk_at dksJ9_max_0 6 rfl rfl)
theorem dJ9_max_9 : decode cJ9_max 9 = .ok (.iload_n 1, 1) := dk_27 (dk_at dksJ9_max_0 9 rfl rfl)
theorem dJ9_max_10 : decode cJ9_max 10 = .ok (.ireturn, 1) := dk_172 (dk_at dksJ9_max_0 10 rfl rfl)
abbrev cJ9_min : ByteArray := prog_38_method_69_code
def yJ9_min : MethodName := ⟨RJ9, "min", "(II)I"⟩
def dkwJ9_min_0 : List UInt8 := [26, 27, 163, 0, 7, 26, 167, 0, 4, 27, 172]
abbrev dktJ9_min_0 : List UInt8 := dkwJ9_min_0 ++ []
theorem dksJ9_min_0 : cJ9_min.data.toList.drop 0 = dktJ9_min_0 := by decide +kernel
theorem dJ9_min_0 : decode cJ9_min 0 = .ok (.iload_n 0, 1) := dk_26 (dk_at dksJ9_min_0 0 rfl rfl)
theorem dJ9_min_1 : decode cJ9_min 1 = .ok (.iload_n 1, 1) := dk_27 (dk_at dksJ9_min_0 1 rfl rfl)
theorem dJ9_min_2 : decode cJ9_min 2 = .ok (.if_icmp .gt 7, 3) := dk_163 0 7 (dk_at dksJ9_min_0 2 rfl rfl)
theorem dJ9_min_5 : decode cJ9_min 5 = .ok (.iload_n 0, 1) := dk_26 (dk_at dksJ9_min_0 5 rfl rfl)
theorem dJ9_min_6 : decode cJ9_min 6 = .ok (.goto 4, 3) := dk_167 0 4 (dk_at dksJ9_min_0 6 rfl rfl)
theorem dJ9_min_9 : decode cJ9_min 9 = .ok (.iload_n 1, 1) := dk_27 (dk_at dksJ9_min_0 9 rfl rfl)
theorem dJ9_min_10 : decode cJ9_min 10 = .ok (.ireturn, 1) := dk_172 (dk_at dksJ9_min_0 10 rfl rfl)
abbrev cJ9_abs : ByteArray := prog_38_method_59_code
def yJ9_abs : MethodName := ⟨RJ9, "abs", "(I)I"⟩
def dkwJ9_abs_0 : List UInt8 := [26, 156, 0, 8, 26, 116, 167, 0, 4, 26, 172]
abbrev dktJ9_abs_0 : List UInt8 := dkwJ9_abs_0 ++ []
theorem dksJ9_abs_0 : cJ9_abs.data.toList.drop 0 = dktJ9_abs_0 := by decide +kernel
theorem dJ9_abs_0 : decode cJ9_abs 0 = .ok (.iload_n 0, 1) := dk_26 (dk_at dksJ9_abs_0 0 rfl rfl)
theorem dJ9_abs_1 : decode cJ9_abs 1 = .ok (.ifCond .ge 8, 3) := dk_156 0 8 (dk_at dksJ9_abs_0 1 rfl rfl)
theorem dJ9_abs_4 : decode cJ9_abs 4 = .ok (.iload_n 0, 1) := dk_26 (dk_at dksJ9_abs_0 4 rfl rfl)
theorem dJ9_abs_5 : decode cJ9_abs 5 = .ok (.ineg, 1) := dk_116 (dk_at dksJ9_abs_0 5 rfl rfl)
theorem dJ9_abs_6 : decode cJ9_abs 6 = .ok (.goto 4, 3) := dk_167 0 4 (dk_at dksJ9_abs_0 6 rfl rfl)
theorem dJ9_abs_9 : decode cJ9_abs 9 = .ok (.iload_n 0, 1) := dk_26 (dk_at dksJ9_abs_0 9 rfl rfl)
theorem dJ9_abs_10 : decode cJ9_abs 10 = .ok (.ireturn, 1) := dk_172 (dk_at dksJ9_abs_0 10 rfl rfl)
theorem q116 : (Jvm.Cond.initialized "java/lang/Math") ∈ lw_all := lw_g (lw_at lw_m1 17 rfl) rfl
theorem q676 : (Jvm.Cond.static ({ cls := "java/lang/Math", name := "max", desc := "(II)I" } : Jvm.MethodName)) ∈ lw_all := lw_g (lw_at lw_m3 97 rfl) rfl
theorem q677 : (Jvm.Cond.code ({ cls := "java/lang/Math", name := "max", desc := "(II)I" } : Jvm.MethodName) prog_38_method_65_code (2 : Nat) (Option.some Jvm.ClassFile.FieldType.int)) ∈ lw_all := lw_g (lw_at lw_m3 98 rfl) rfl
theorem q679 : (Jvm.Cond.static ({ cls := "java/lang/Math", name := "min", desc := "(II)I" } : Jvm.MethodName)) ∈ lw_all := lw_g (lw_at lw_m3 100 rfl) rfl
theorem q680 : (Jvm.Cond.code ({ cls := "java/lang/Math", name := "min", desc := "(II)I" } : Jvm.MethodName) prog_38_method_69_code (2 : Nat) (Option.some Jvm.ClassFile.FieldType.int)) ∈ lw_all := lw_g (lw_at lw_m3 101 rfl) rfl
theorem q825 : (Jvm.Cond.static ({ cls := "java/lang/Math", name := "abs", desc := "(I)I" } : Jvm.MethodName)) ∈ lw_all := lw_g (lw_at lw_m4 6 rfl) rfl
theorem q826 : (Jvm.Cond.code ({ cls := "java/lang/Math", name := "abs", desc := "(I)I" } : Jvm.MethodName) prog_38_method_59_code (1 : Nat) (Option.some Jvm.ClassFile.FieldType.int)) ∈ lw_all := lw_g (lw_at lw_m4 7 rfl) rfl

/-! java/lang/Integer -/
set_option maxRecDepth 100000
def RJ13 : String := "java/lang/Integer"
abbrev cJ13_numberOfTrailingZeros : ByteArray := prog_37_method_48_code
def yJ13_numberOfTrailingZeros : MethodName := ⟨RJ13, "numberOfTrailingZeros", "(I)I"⟩
def dkwJ13_numberOfTrailingZeros_3 : List UInt8 := [5, 124, 59, 27, 26, 4, 124, 96, 172]
abbrev dktJ13_numberOfTrailingZeros_3 : List UInt8 := dkwJ13_numberOfTrailingZeros_3 ++ []
def dkwJ13_numberOfTrailingZeros_2 : List UInt8 := [124, 59, 26, 16, 16, 164, 0, 10, 132, 1, 4, 26, 7, 124, 59, 26, 7, 164, 0, 10, 132, 1, 2, 26]
abbrev dktJ13_numberOfTrailingZeros_2 : List UInt8 := dkwJ13_numberOfTrailingZeros_2 ++ dktJ13_numberOfTrailingZeros_3
def dkwJ13_numberOfTrailingZeros_1 : List UInt8 := [164, 0, 11, 132, 1, 16, 26, 16, 16, 124, 59, 26, 17, 1, 0, 164, 0, 11, 132, 1, 8, 26, 16, 8]
abbrev dktJ13_numberOfTrailingZeros_1 : List UInt8 := dkwJ13_numberOfTrailingZeros_1 ++ dktJ13_numberOfTrailingZeros_2
def dkwJ13_numberOfTrailingZeros_0 : List UInt8 := [26, 2, 130, 26, 4, 100, 126, 59, 26, 157, 0, 8, 26, 16, 32, 126, 172, 4, 60, 26, 19, 1, 8]
abbrev dktJ13_numberOfTrailingZeros_0 : List UInt8 := dkwJ13_numberOfTrailingZeros_0 ++ dktJ13_numberOfTrailingZeros_1
theorem dksJ13_numberOfTrailingZeros_0 : cJ13_numberOfTrailingZeros.data.toList.drop 0 = dktJ13_numberOfTrailingZeros_0 := by decide +kernel
theorem dksJ13_numberOfTrailingZeros_1 : cJ13_numberOfTrailingZeros.data.toList.drop 23 = dktJ13_numberOfTrailingZeros_1 := dk_seg dksJ13_numberOfTrailingZeros_0 23 rfl rfl
theorem dksJ13_numberOfTrailingZeros_2 : cJ13_numberOfTrailingZeros.data.toList.drop 47 = dktJ13_numberOfTrailingZeros_2 := dk_seg dksJ13_numberOfTrailingZeros_1 24 rfl rfl
theorem dksJ13_numberOfTrailingZeros_3 : cJ13_numberOfTrailingZeros.data.toList.drop 71 = dktJ13_numberOfTrailingZeros_3 := dk_seg dksJ13_numberOfTrailingZeros_2 24 rfl rfl
theorem dJ13_numberOfTrailingZeros_0 : decode cJ13_numberOfTrailingZeros 0 = .ok (.iload_n 0, 1) := dk_26 (dk_at dksJ13_numberOfTrailingZeros_0 0 rfl rfl)
theorem dJ13_numberOfTrailingZeros_1 : decode cJ13_numberOfTrailingZeros 1 = .ok (.iconst (-1), 1) := dk_2 (dk_at dksJ13_numberOfTrailingZeros_0 1 rfl rfl)
theorem dJ13_numberOfTrailingZeros_2 : decode cJ13_numberOfTrailingZeros 2 = .ok (.ixor, 1) := dk_130 (dk_at dksJ13_numberOfTrailingZeros_0 2 rfl rfl)
theorem dJ13_numberOfTrailingZeros_3 : decode cJ13_numberOfTrailingZeros 3 = .ok (.iload_n 0, 1) := dk_26 (dk_at dksJ13_numberOfTrailingZeros_0 3 rfl rfl)
theorem dJ13_numberOfTrailingZeros_4 : decode cJ13_numberOfTrailingZeros 4 = .ok (.iconst 1, 1) := dk_4 (dk_at dksJ13_numberOfTrailingZeros_0 4 rfl rfl)
theorem dJ13_numberOfTrailingZeros_5 : decode cJ13_numberOfTrailingZeros 5 = .ok (.isub, 1) := dk_100 (dk_at dksJ13_numberOfTrailingZeros_0 5 rfl rfl)
theorem dJ13_numberOfTrailingZeros_6 : decode cJ13_numberOfTrailingZeros 6 = .ok (.iand, 1) := dk_126 (dk_at dksJ13_numberOfTrailingZeros_0 6 rfl rfl)
theorem dJ13_numberOfTrailingZeros_7 : decode cJ13_numberOfTrailingZeros 7 = .ok (.istore_n 0, 1) := dk_59 (dk_at dksJ13_numberOfTrailingZeros_0 7 rfl rfl)
theorem dJ13_numberOfTrailingZeros_8 : decode cJ13_numberOfTrailingZeros 8 = .ok (.iload_n 0, 1) := dk_26 (dk_at dksJ13_numberOfTrailingZeros_0 8 rfl rfl)
theorem dJ13_numberOfTrailingZeros_9 : decode cJ13_numberOfTrailingZeros 9 = .ok (.ifCond .gt 8, 3) := dk_157 0 8 (dk_at dksJ13_numberOfTrailingZeros_0 9 rfl rfl)
theorem dJ13_numberOfTrailingZeros_12 : decode cJ13_numberOfTrailingZeros 12 = .ok (.iload_n 0, 1) := dk_26 (dk_at dksJ13_numberOfTrailingZeros_0 12 rfl rfl)
theorem dJ13_numberOfTrailingZeros_13 : decode cJ13_numberOfTrailingZeros 13 = .ok (.bipush 32, 2) := dk_16 32 (dk_at dksJ13_numberOfTrailingZeros_0 13 rfl rfl)
theorem dJ13_numberOfTrailingZeros_15 : decode cJ13_numberOfTrailingZeros 15 = .ok (.iand, 1) := dk_126 (dk_at dksJ13_numberOfTrailingZeros_0 15 rfl rfl)
theorem dJ13_numberOfTrailingZeros_16 : decode cJ13_numberOfTrailingZeros 16 = .ok (.ireturn, 1) := dk_172 (dk_at dksJ13_numberOfTrailingZeros_0 16 rfl rfl)
theorem dJ13_numberOfTrailingZeros_17 : decode cJ13_numberOfTrailingZeros 17 = .ok (.iconst 1, 1) := dk_4 (dk_at dksJ13_numberOfTrailingZeros_0 17 rfl rfl)
theorem dJ13_numberOfTrailingZeros_18 : decode cJ13_numberOfTrailingZeros 18 = .ok (.istore_n 1, 1) := dk_60 (dk_at dksJ13_numberOfTrailingZeros_0 18 rfl rfl)
theorem dJ13_numberOfTrailingZeros_19 : decode cJ13_numberOfTrailingZeros 19 = .ok (.iload_n 0, 1) := dk_26 (dk_at dksJ13_numberOfTrailingZeros_0 19 rfl rfl)
theorem dJ13_numberOfTrailingZeros_20 : decode cJ13_numberOfTrailingZeros 20 = .ok (.ldc_w 264, 3) := dk_19 1 8 (dk_at dksJ13_numberOfTrailingZeros_0 20 rfl rfl)
theorem dJ13_numberOfTrailingZeros_23 : decode cJ13_numberOfTrailingZeros 23 = .ok (.if_icmp .le 11, 3) := dk_164 0 11 (dk_at dksJ13_numberOfTrailingZeros_1 0 rfl rfl)
theorem dJ13_numberOfTrailingZeros_26 : decode cJ13_numberOfTrailingZeros 26 = .ok (.iinc 1 16, 3) := dk_132 1 16 (dk_at dksJ13_numberOfTrailingZeros_1 3 rfl rfl)
theorem dJ13_numberOfTrailingZeros_29 : decode cJ13_numberOfTrailingZeros 29 = .ok (.iload_n 0, 1) := dk_26 (dk_at dksJ13_numberOfTrailingZeros_1 6 rfl rfl)
theorem dJ13_numberOfTrailingZeros_30 : decode cJ13_numberOfTrailingZeros 30 = .ok (.bipush 16, 2) := dk_16 16 (dk_at dksJ13_numberOfTrailingZeros_1 7 rfl rfl)
theorem dJ13_numberOfTrailingZeros_32 : decode cJ13_numberOfTrailingZeros 32 = .ok (.iushr, 1) := dk_124 (dk_at dksJ13_numberOfTrailingZeros_1 9 rfl rfl)
theorem dJ13_numberOfTrailingZeros_33 : decode cJ13_numberOfTrailingZeros 33 = .ok (.istore_n 0, 1) := dk_59 (dk_at dksJ13_numberOfTrailingZeros_1 10 rfl rfl)
theorem dJ13_numberOfTrailingZeros_34 : decode cJ13_numberOfTrailingZeros 34 = .ok (.iload_n 0, 1) := dk_26 (dk_at dksJ13_numberOfTrailingZeros_1 11 rfl rfl)
theorem dJ13_numberOfTrailingZeros_35 : decode cJ13_numberOfTrailingZeros 35 = .ok (.sipush 256, 3) := dk_17 1 0 (dk_at dksJ13_numberOfTrailingZeros_1 12 rfl rfl)
theorem dJ13_numberOfTrailingZeros_38 : decode cJ13_numberOfTrailingZeros 38 = .ok (.if_icmp .le 11, 3) := dk_164 0 11 (dk_at dksJ13_numberOfTrailingZeros_1 15 rfl rfl)
theorem dJ13_numberOfTrailingZeros_41 : decode cJ13_numberOfTrailingZeros 41 = .ok (.iinc 1 8, 3) := dk_132 1 8 (dk_at dksJ13_numberOfTrailingZeros_1 18 rfl rfl)
theorem dJ13_numberOfTrailingZeros_44 : decode cJ13_numberOfTrailingZeros 44 = .ok (.iload_n 0, 1) := dk_26 (dk_at dksJ13_numberOfTrailingZeros_1 21 rfl rfl)
theorem dJ13_numberOfTrailingZeros_45 : decode cJ13_numberOfTrailingZeros 45 = .ok (.bipush 8, 2) := dk_16 8 (dk_at dksJ13_numberOfTrailingZeros_1 22 rfl rfl)
theorem dJ13_numberOfTrailingZeros_47 : decode cJ13_numberOfTrailingZeros 47 = .ok (.iushr, 1) := dk_124 (dk_at dksJ13_numberOfTrailingZeros_2 0 rfl rfl)
theorem dJ13_numberOfTrailingZeros_48 : decode cJ13_numberOfTrailingZeros 48 = .ok (.istore_n 0, 1) := dk_59 (dk_at dksJ13_numberOfTrailingZeros_2 1 rfl rfl)
theorem dJ13_numberOfTrailingZeros_49 : decode cJ13_numberOfTrailingZeros 49 = .ok (.iload_n 0, 1) := dk_26 (dk_at dksJ13_numberOfTrailingZeros_2 2 rfl rfl)
theorem dJ13_numberOfTrailingZeros_50 : decode cJ13_numberOfTrailingZeros 50 = .ok (.bipush 16, 2) := dk_16 16 (dk_at dksJ13_numberOfTrailingZeros_2 3 rfl rfl)
theorem dJ13_numberOfTrailingZeros_52 : decode cJ13_numberOfTrailingZeros 52 = .ok (.if_icmp .le 10, 3) := dk_164 0 10 (dk_at dksJ13_numberOfTrailingZeros_2 5 rfl rfl)
theorem dJ13_numberOfTrailingZeros_55 : decode cJ13_numberOfTrailingZeros 55 = .ok (.iinc 1 4, 3) := dk_132 1 4 (dk_at dksJ13_numberOfTrailingZeros_2 8 rfl rfl)
theorem dJ13_numberOfTrailingZeros_58 : decode cJ13_numberOfTrailingZeros 58 = .ok (.iload_n 0, 1) := dk_26 (dk_at dksJ13_numberOfTrailingZeros_2 11 rfl rfl)
theorem dJ13_numberOfTrailingZeros_59 : decode cJ13_numberOfTrailingZeros 59 = .ok (.iconst 4, 1) := dk_7 (dk_at dksJ13_numberOfTrailingZeros_2 12 rfl rfl)
theorem dJ13_numberOfTrailingZeros_60 : decode cJ13_numberOfTrailingZeros 60 = .ok (.iushr, 1) := dk_124 (dk_at dksJ13_numberOfTrailingZeros_2 13 rfl rfl)
theorem dJ13_numberOfTrailingZeros_61 : decode cJ13_numberOfTrailingZeros 61 = .ok (.istore_n 0, 1) := dk_59 (dk_at dksJ13_numberOfTrailingZeros_2 14 rfl rfl)
theorem dJ13_numberOfTrailingZeros_62 : decode cJ13_numberOfTrailingZeros 62 = .ok (.iload_n 0, 1) := dk_26 (dk_at dksJ13_numberOfTrailingZeros_2 15 rfl rfl)
theorem dJ13_numberOfTrailingZeros_63 : decode cJ13_numberOfTrailingZeros 63 = .ok (.iconst 4, 1) := dk_7 (dk_at dksJ13_numberOfTrailingZeros_2 16 rfl rfl)
theorem dJ13_numberOfTrailingZeros_64 : decode cJ13_numberOfTrailingZeros 64 = .ok (.if_icmp .le 10, 3) := dk_164 0 10 (dk_at dksJ13_numberOfTrailingZeros_2 17 rfl rfl)
theorem dJ13_numberOfTrailingZeros_67 : decode cJ13_numberOfTrailingZeros 67 = .ok (.iinc 1 2, 3) := dk_132 1 2 (dk_at dksJ13_numberOfTrailingZeros_2 20 rfl rfl)
theorem dJ13_numberOfTrailingZeros_70 : decode cJ13_numberOfTrailingZeros 70 = .ok (.iload_n 0, 1) := dk_26 (dk_at dksJ13_numberOfTrailingZeros_2 23 rfl rfl)
theorem dJ13_numberOfTrailingZeros_71 : decode cJ13_numberOfTrailingZeros 71 = .ok (.iconst 2, 1) := dk_5 (dk_at dksJ13_numberOfTrailingZeros_3 0 rfl rfl)
theorem dJ13_numberOfTrailingZeros_72 : decode cJ13_numberOfTrailingZeros 72 = .ok (.iushr, 1) := dk_124 (dk_at dksJ13_numberOfTrailingZeros_3 1 rfl rfl)
theorem dJ13_numberOfTrailingZeros_73 : decode cJ13_numberOfTrailingZeros 73 = .ok (.istore_n 0, 1) := dk_59 (dk_at dksJ13_numberOfTrailingZeros_3 2 rfl rfl)
theorem dJ13_numberOfTrailingZeros_74 : decode cJ13_numberOfTrailingZeros 74 = .ok (.iload_n 1, 1) := dk_27 (dk_at dksJ13_numberOfTrailingZeros_3 3 rfl rfl)
theorem dJ13_numberOfTrailingZeros_75 : decode cJ13_numberOfTrailingZeros 75 = .ok (.iload_n 0, 1) := dk_26 (dk_at dksJ13_numberOfTrailingZeros_3 4 rfl rfl)
theorem dJ13_numberOfTrailingZeros_76 : decode cJ13_numberOfTrailingZeros 76 = .ok (.iconst 1, 1) := dk_4 (dk_at dksJ13_numberOfTrailingZeros_3 5 rfl rfl)
theorem dJ13_numberOfTrailingZeros_77 : decode cJ13_numberOfTrailingZeros 77 = .ok (.iushr, 1) := dk_124 (dk_at dksJ13_numberOfTrailingZeros_3 6 rfl rfl)
theorem dJ13_numberOfTrailingZeros_78 : decode cJ13_numberOfTrailingZeros 78 = .ok (.iadd, 1) := dk_96 (dk_at dksJ13_numberOfTrailingZeros_3 7 rfl rfl)
theorem dJ13_numberOfTrailingZeros_79 : decode cJ13_numberOfTrailingZeros 79 = .ok (.ireturn, 1) := dk_172 (dk_at dksJ13_numberOfTrailingZeros_3 8 rfl rfl)
abbrev cJ13_bitCount : ByteArray := prog_37_method_49_code
def yJ13_bitCount : MethodName := ⟨RJ13, "bitCount", "(I)I"⟩
def dkwJ13_bitCount_2 : List UInt8 := [26, 16, 63, 126, 172]
abbrev dktJ13_bitCount_2 : List UInt8 := dkwJ13_bitCount_2 ++ []
def dkwJ13_bitCount_1 : List UInt8 := [26, 26, 7, 124, 96, 19, 1, 11, 126, 59, 26, 26, 16, 8, 124, 96, 59, 26, 26, 16, 16, 124, 96, 59]
abbrev dktJ13_bitCount_1 : List UInt8 := dkwJ13_bitCount_1 ++ dktJ13_bitCount_2
def dkwJ13_bitCount_0 : List UInt8 := [26, 26, 4, 124, 19, 1, 9, 126, 100, 59, 26, 19, 1, 10, 126, 26, 5, 124, 19, 1, 10, 126, 96, 59]
abbrev dktJ13_bitCount_0 : List UInt8 := dkwJ13_bitCount_0 ++ dktJ13_bitCount_1
theorem dksJ13_bitCount_0 : cJ13_bitCount.data.toList.drop 0 = dktJ13_bitCount_0 := by decide +kernel
theorem dksJ13_bitCount_1 : cJ13_bitCount.data.toList.drop 24 = dktJ13_bitCount_1 := dk_seg dksJ13_bitCount_0 24 rfl rfl
theorem dksJ13_bitCount_2 : cJ13_bitCount.data.toList.drop 48 = dktJ13_bitCount_2 := dk_seg dksJ13_bitCount_1 24 rfl rfl
theorem dJ13_bitCount_0 : decode cJ13_bitCount 0 = .ok (.iload_n 0, 1) := dk_26 (dk_at dksJ13_bitCount_0 0 rfl rfl)
theorem dJ13_bitCount_1 : decode cJ13_bitCount 1 = .ok (.iload_n 0, 1) := dk_26 (dk_at dksJ13_bitCount_0 1 rfl rfl)
theorem dJ13_bitCount_2 : decode cJ13_bitCount 2 = .ok (.iconst 1, 1) := dk_4 (dk_at dksJ13_bitCount_0 2 rfl rfl)
theorem dJ13_bitCount_3 : decode cJ13_bitCount 3 = .ok (.iushr, 1) := dk_124 (dk_at dksJ13_bitCount_0 3 rfl rfl)
theorem dJ13_bitCount_4 : decode cJ13_bitCount 4 = .ok (.ldc_w 265, 3) := dk_19 1 9 (dk_at dksJ13_bitCount_0 4 rfl rfl)
theorem dJ13_bitCount_7 : decode cJ13_bitCount 7 = .ok (.iand, 1) := dk_126 (dk_at dksJ13_bitCount_0 7 rfl rfl)
theorem dJ13_bitCount_8 : decode cJ13_bitCount 8 = .ok (.isub, 1) := dk_100 (dk_at dksJ13_bitCount_0 8 rfl rfl)
theorem dJ13_bitCount_9 : decode cJ13_bitCount 9 = .ok (.istore_n 0, 1) := dk_59 (dk_at dksJ13_bitCount_0 9 rfl rfl)
theorem dJ13_bitCount_10 : decode cJ13_bitCount 10 = .ok (.iload_n 0, 1) := dk_26 (dk_at dksJ13_bitCount_0 10 rfl rfl)
theorem dJ13_bitCount_11 : decode cJ13_bitCount 11 = .ok (.ldc_w 266, 3) := dk_19 1 10 (dk_at dksJ13_bitCount_0 11 rfl rfl)
theorem dJ13_bitCount_14 : decode cJ13_bitCount 14 = .ok (.iand, 1) := dk_126 (dk_at dksJ13_bitCount_0 14 rfl rfl)
theorem dJ13_bitCount_15 : decode cJ13_bitCount 15 = .ok (.iload_n 0, 1) := dk_26 (dk_at dksJ13_bitCount_0 15 rfl rfl)
theorem dJ13_bitCount_16 : decode cJ13_bitCount 16 = .ok (.iconst 2, 1) := dk_5 (dk_at dksJ13_bitCount_0 16 rfl rfl)
theorem dJ13_bitCount_17 : decode cJ13_bitCount 17 = .ok (.iushr, 1) := dk_124 (dk_at dksJ13_bitCount_0 17 rfl rfl)
theorem dJ13_bitCount_18 : decode cJ13_bitCount 18 = .ok (.ldc_w 266, 3) := dk_19 1 10 (dk_at dksJ13_bitCount_0 18 rfl rfl)
theorem dJ13_bitCount_21 : decode cJ13_bitCount 21 = .ok (.iand, 1) := dk_126 (dk_at dksJ13_bitCount_0 21 rfl rfl)
theorem dJ13_bitCount_22 : decode cJ13_bitCount 22 = .ok (.iadd, 1) := dk_96 (dk_at dksJ13_bitCount_0 22 rfl rfl)
theorem dJ13_bitCount_23 : decode cJ13_bitCount 23 = .ok (.istore_n 0, 1) := dk_59 (dk_at dksJ13_bitCount_0 23 rfl rfl)
theorem dJ13_bitCount_24 : decode cJ13_bitCount 24 = .ok (.iload_n 0, 1) := dk_26 (dk_at dksJ13_bitCount_1 0 rfl rfl)
theorem dJ13_bitCount_25 : decode cJ13_bitCount 25 = .ok (.iload_n 0, 1) := dk_26 (dk_at dksJ13_bitCount_1 1 rfl rfl)
theorem dJ13_bitCount_26 : decode cJ13_bitCount 26 = .ok (.iconst 4, 1) := dk_7 (dk_at dksJ13_bitCount_1 2 rfl rfl)
theorem dJ13_bitCount_27 : decode cJ13_bitCount 27 = .ok (.iushr, 1) := dk_124 (dk_at dksJ13_bitCount_1 3 rfl rfl)
theorem dJ13_bitCount_28 : decode cJ13_bitCount 28 = .ok (.iadd, 1) := dk_96 (dk_at dksJ13_bitCount_1 4 rfl rfl)
theorem dJ13_bitCount_29 : decode cJ13_bitCount 29 = .ok (.ldc_w 267, 3) := dk_19 1 11 (dk_at dksJ13_bitCount_1 5 rfl rfl)
theorem dJ13_bitCount_32 : decode cJ13_bitCount 32 = .ok (.iand, 1) := dk_126 (dk_at dksJ13_bitCount_1 8 rfl rfl)
theorem dJ13_bitCount_33 : decode cJ13_bitCount 33 = .ok (.istore_n 0, 1) := dk_59 (dk_at dksJ13_bitCount_1 9 rfl rfl)
theorem dJ13_bitCount_34 : decode cJ13_bitCount 34 = .ok (.iload_n 0, 1) := dk_26 (dk_at dksJ13_bitCount_1 10 rfl rfl)
theorem dJ13_bitCount_35 : decode cJ13_bitCount 35 = .ok (.iload_n 0, 1) := dk_26 (dk_at dksJ13_bitCount_1 11 rfl rfl)
theorem dJ13_bitCount_36 : decode cJ13_bitCount 36 = .ok (.bipush 8, 2) := dk_16 8 (dk_at dksJ13_bitCount_1 12 rfl rfl)
theorem dJ13_bitCount_38 : decode cJ13_bitCount 38 = .ok (.iushr, 1) := dk_124 (dk_at dksJ13_bitCount_1 14 rfl rfl)
theorem dJ13_bitCount_39 : decode cJ13_bitCount 39 = .ok (.iadd, 1) := dk_96 (dk_at dksJ13_bitCount_1 15 rfl rfl)
theorem dJ13_bitCount_40 : decode cJ13_bitCount 40 = .ok (.istore_n 0, 1) := dk_59 (dk_at dksJ13_bitCount_1 16 rfl rfl)
theorem dJ13_bitCount_41 : decode cJ13_bitCount 41 = .ok (.iload_n 0, 1) := dk_26 (dk_at dksJ13_bitCount_1 17 rfl rfl)
theorem dJ13_bitCount_42 : decode cJ13_bitCount 42 = .ok (.iload_n 0, 1) := dk_26 (dk_at dksJ13_bitCount_1 18 rfl rfl)
theorem dJ13_bitCount_43 : decode cJ13_bitCount 43 = .ok (.bipush 16, 2) := dk_16 16 (dk_at dksJ13_bitCount_1 19 rfl rfl)
theorem dJ13_bitCount_45 : decode cJ13_bitCount 45 = .ok (.iushr, 1) := dk_124 (dk_at dksJ13_bitCount_1 21 rfl rfl)
theorem dJ13_bitCount_46 : decode cJ13_bitCount 46 = .ok (.iadd, 1) := dk_96 (dk_at dksJ13_bitCount_1 22 rfl rfl)
theorem dJ13_bitCount_47 : decode cJ13_bitCount 47 = .ok (.istore_n 0, 1) := dk_59 (dk_at dksJ13_bitCount_1 23 rfl rfl)
theorem dJ13_bitCount_48 : decode cJ13_bitCount 48 = .ok (.iload_n 0, 1) := dk_26 (dk_at dksJ13_bitCount_2 0 rfl rfl)
theorem dJ13_bitCount_49 : decode cJ13_bitCount 49 = .ok (.bipush 63, 2) := dk_16 63 (dk_at dksJ13_bitCount_2 1 rfl rfl)
theorem dJ13_bitCount_51 : decode cJ13_bitCount 51 = .ok (.iand, 1) := dk_126 (dk_at dksJ13_bitCount_2 3 rfl rfl)
theorem dJ13_bitCount_52 : decode cJ13_bitCount 52 = .ok (.ireturn, 1) := dk_172 (dk_at dksJ13_bitCount_2 4 rfl rfl)
theorem q126 : (Jvm.Cond.initialized "java/lang/Integer") ∈ lw_all := lw_g (lw_at lw_m1 27 rfl) rfl
theorem q964 : (Jvm.Cond.static ({ cls := "java/lang/Integer", name := "numberOfTrailingZeros", desc := "(I)I" } : Jvm.MethodName)) ∈ lw_all := lw_g (lw_at lw_m4 145 rfl) rfl
theorem q965 : (Jvm.Cond.code ({ cls := "java/lang/Integer", name := "numberOfTrailingZeros", desc := "(I)I" } : Jvm.MethodName) prog_37_method_48_code (2 : Nat) (Option.some Jvm.ClassFile.FieldType.int)) ∈ lw_all := lw_g (lw_at lw_m4 146 rfl) rfl
theorem q966 : (Jvm.Cond.constant "java/lang/Integer" (264 : Nat) (65536 : Int32)) ∈ lw_all := lw_g (lw_at lw_m4 147 rfl) rfl
theorem q1000 : (Jvm.Cond.static ({ cls := "java/lang/Integer", name := "bitCount", desc := "(I)I" } : Jvm.MethodName)) ∈ lw_all := lw_g (lw_at lw_m4 181 rfl) rfl
theorem q1001 : (Jvm.Cond.code ({ cls := "java/lang/Integer", name := "bitCount", desc := "(I)I" } : Jvm.MethodName) prog_37_method_49_code (1 : Nat) (Option.some Jvm.ClassFile.FieldType.int)) ∈ lw_all := lw_g (lw_at lw_m4 182 rfl) rfl
theorem q1002 : (Jvm.Cond.constant "java/lang/Integer" (265 : Nat) (1431655765 : Int32)) ∈ lw_all := lw_g (lw_at lw_m4 183 rfl) rfl
theorem q1003 : (Jvm.Cond.constant "java/lang/Integer" (266 : Nat) (858993459 : Int32)) ∈ lw_all := lw_g (lw_at lw_m4 184 rfl) rfl
theorem q1004 : (Jvm.Cond.constant "java/lang/Integer" (267 : Nat) (252645135 : Int32)) ∈ lw_all := lw_g (lw_at lw_m4 185 rfl) rfl

theorem q99 : (Jvm.Cond.initialized "EightLegsLaw") ∈ lw_all := lw_g (lw_at lw_m1 0 rfl) rfl
set_option maxRecDepth 100000
theorem q144 : (Jvm.Cond.classLink "EightLegsLaw" (7 : Nat) "EightLegs") ∈ lw_all := lw_g (lw_at lw_m1 45 rfl) rfl
theorem q146 : (Jvm.Cond.methodLink "EightLegsLaw" (9 : Nat) ({ cls := "EightLegs", name := "<init>", desc := "()V" } : Jvm.MethodName)) ∈ lw_all := lw_g (lw_at lw_m1 47 rfl) rfl
theorem q309 : (Jvm.Cond.methodLink "EightLegsLaw" (13 : Nat) ({ cls := "EightLegs", name := "swimmer", desc := "(II)I" } : Jvm.MethodName)) ∈ lw_all := lw_g (lw_at lw_m1 210 rfl) rfl
theorem q357 : (Jvm.Cond.methodLink "EightLegsLaw" (18 : Nat) ({ cls := "EightLegs", name := "swimmers", desc := "(III)I" } : Jvm.MethodName)) ∈ lw_all := lw_g (lw_at lw_m2 18 rfl) rfl
theorem q497 : (Jvm.Cond.methodLink "EightLegsLaw" (134 : Nat) ({ cls := "EightLegs", name := "undo", desc := "()I" } : Jvm.MethodName)) ∈ lw_all := lw_g (lw_at lw_m2 158 rfl) rfl
theorem q505 : (Jvm.Cond.methodLink "EightLegsLaw" (138 : Nat) ({ cls := "EightLegs", name := "redo", desc := "()I" } : Jvm.MethodName)) ∈ lw_all := lw_g (lw_at lw_m2 166 rfl) rfl
theorem q509 : (Jvm.Cond.methodLink "EightLegsLaw" (23 : Nat) ({ cls := "EightLegs", name := "mend", desc := "(III)I" } : Jvm.MethodName)) ∈ lw_all := lw_g (lw_at lw_m2 170 rfl) rfl
theorem q555 : (Jvm.Cond.methodLink "EightLegsLaw" (27 : Nat) ({ cls := "EightLegs", name := "of", desc := "(II)I" } : Jvm.MethodName)) ∈ lw_all := lw_g (lw_at lw_m2 216 rfl) rfl
theorem q559 : (Jvm.Cond.methodLink "EightLegsLaw" (31 : Nat) ({ cls := "EightLegs", name := "feed", desc := "(I)I" } : Jvm.MethodName)) ∈ lw_all := lw_g (lw_at lw_m2 220 rfl) rfl
theorem q563 : (Jvm.Cond.methodLink "EightLegsLaw" (36 : Nat) ({ cls := "EightLegs", name := "law", desc := "()I" } : Jvm.MethodName)) ∈ lw_all := lw_g (lw_at lw_m2 224 rfl) rfl
theorem q808 : (Jvm.Cond.methodLink "EightLegsLaw" (41 : Nat) ({ cls := "EightLegs", name := "loses", desc := "(III)I" } : Jvm.MethodName)) ∈ lw_all := lw_g (lw_at lw_m3 229 rfl) rfl
theorem q858 : (Jvm.Cond.methodLink "EightLegsLaw" (45 : Nat) ({ cls := "EightLegs", name := "routine", desc := "(II)I" } : Jvm.MethodName)) ∈ lw_all := lw_g (lw_at lw_m4 39 rfl) rfl
theorem q906 : (Jvm.Cond.methodLink "EightLegsLaw" (49 : Nat) ({ cls := "EightLegs", name := "off", desc := "(III)I" } : Jvm.MethodName)) ∈ lw_all := lw_g (lw_at lw_m4 87 rfl) rfl
theorem q914 : (Jvm.Cond.methodLink "EightLegsLaw" (53 : Nat) ({ cls := "EightLegs", name := "apart", desc := "(III)I" } : Jvm.MethodName)) ∈ lw_all := lw_g (lw_at lw_m4 95 rfl) rfl
theorem q922 : (Jvm.Cond.methodLink "EightLegsLaw" (57 : Nat) ({ cls := "EightLegs", name := "gone", desc := "(II)I" } : Jvm.MethodName)) ∈ lw_all := lw_g (lw_at lw_m4 103 rfl) rfl
theorem q937 : (Jvm.Cond.methodLink "EightLegsLaw" (61 : Nat) ({ cls := "EightLegs", name := "least", desc := "(II)I" } : Jvm.MethodName)) ∈ lw_all := lw_g (lw_at lw_m4 118 rfl) rfl
theorem q941 : (Jvm.Cond.methodLink "EightLegsLaw" (65 : Nat) ({ cls := "EightLegs", name := "gasps", desc := "(II)I" } : Jvm.MethodName)) ∈ lw_all := lw_g (lw_at lw_m4 122 rfl) rfl
theorem q967 : (Jvm.Cond.methodLink "EightLegsLaw" (69 : Nat) ({ cls := "EightLegs", name := "looks", desc := "(II)I" } : Jvm.MethodName)) ∈ lw_all := lw_g (lw_at lw_m4 148 rfl) rfl
theorem q971 : (Jvm.Cond.methodLink "EightLegsLaw" (73 : Nat) ({ cls := "EightLegs", name := "whose", desc := "(II)I" } : Jvm.MethodName)) ∈ lw_all := lw_g (lw_at lw_m4 152 rfl) rfl
theorem q975 : (Jvm.Cond.methodLink "EightLegsLaw" (77 : Nat) ({ cls := "EightLegs", name := "first", desc := "(II)I" } : Jvm.MethodName)) ∈ lw_all := lw_g (lw_at lw_m4 156 rfl) rfl
theorem q979 : (Jvm.Cond.methodLink "EightLegsLaw" (81 : Nat) ({ cls := "EightLegs", name := "slip", desc := "(III)I" } : Jvm.MethodName)) ∈ lw_all := lw_g (lw_at lw_m4 160 rfl) rfl
theorem q983 : (Jvm.Cond.methodLink "EightLegsLaw" (85 : Nat) ({ cls := "EightLegs", name := "line", desc := "(II)I" } : Jvm.MethodName)) ∈ lw_all := lw_g (lw_at lw_m4 164 rfl) rfl
theorem q995 : (Jvm.Cond.methodLink "EightLegsLaw" (89 : Nat) ({ cls := "EightLegs", name := "lift", desc := "(I)I" } : Jvm.MethodName)) ∈ lw_all := lw_g (lw_at lw_m4 176 rfl) rfl
theorem q1009 : (Jvm.Cond.methodLink "EightLegsLaw" (93 : Nat) ({ cls := "EightLegs", name := "star", desc := "(I)I" } : Jvm.MethodName)) ∈ lw_all := lw_g (lw_at lw_m4 190 rfl) rfl
theorem q1029 : (Jvm.Cond.methodLink "EightLegsLaw" (97 : Nat) ({ cls := "EightLegs", name := "judge", desc := "(I)I" } : Jvm.MethodName)) ∈ lw_all := lw_g (lw_at lw_m4 210 rfl) rfl
theorem q1057 : (Jvm.Cond.methodLink "EightLegsLaw" (101 : Nat) ({ cls := "EightLegs", name := "whoLed", desc := "(I)I" } : Jvm.MethodName)) ∈ lw_all := lw_g (lw_at lw_m4 238 rfl) rfl
theorem q1061 : (Jvm.Cond.methodLink "EightLegsLaw" (105 : Nat) ({ cls := "EightLegs", name := "later", desc := "(II)I" } : Jvm.MethodName)) ∈ lw_all := lw_g (lw_at lw_m5 2 rfl) rfl
theorem q1065 : (Jvm.Cond.methodLink "EightLegsLaw" (109 : Nat) ({ cls := "EightLegs", name := "quicker", desc := "(II)I" } : Jvm.MethodName)) ∈ lw_all := lw_g (lw_at lw_m5 6 rfl) rfl
theorem q1069 : (Jvm.Cond.methodLink "EightLegsLaw" (113 : Nat) ({ cls := "EightLegs", name := "drawn", desc := "(IIII)I" } : Jvm.MethodName)) ∈ lw_all := lw_g (lw_at lw_m5 10 rfl) rfl
theorem q1074 : (Jvm.Cond.methodLink "EightLegsLaw" (118 : Nat) ({ cls := "EightLegs", name := "swim", desc := "(I)I" } : Jvm.MethodName)) ∈ lw_all := lw_g (lw_at lw_m5 15 rfl) rfl
theorem q1082 : (Jvm.Cond.methodLink "EightLegsLaw" (122 : Nat) ({ cls := "EightLegs", name := "led", desc := "(I)I" } : Jvm.MethodName)) ∈ lw_all := lw_g (lw_at lw_m5 23 rfl) rfl
theorem q1086 : (Jvm.Cond.methodLink "EightLegsLaw" (126 : Nat) ({ cls := "EightLegs", name := "image", desc := "()I" } : Jvm.MethodName)) ∈ lw_all := lw_g (lw_at lw_m5 27 rfl) rfl
theorem q1090 : (Jvm.Cond.methodLink "EightLegsLaw" (130 : Nat) ({ cls := "EightLegs", name := "back", desc := "()I" } : Jvm.MethodName)) ∈ lw_all := lw_g (lw_at lw_m5 31 rfl) rfl
theorem q1094 : (Jvm.Cond.methodLink "EightLegsLaw" (142 : Nat) ({ cls := "EightLegs", name := "body", desc := "(I)I" } : Jvm.MethodName)) ∈ lw_all := lw_g (lw_at lw_m5 35 rfl) rfl
theorem q1207 : (Jvm.Cond.methodLink "EightLegsLaw" (146 : Nat) ({ cls := "EightLegs", name := "act", desc := "(III)I" } : Jvm.MethodName)) ∈ lw_all := lw_g (lw_at lw_m5 148 rfl) rfl
theorem q1354 : (Jvm.Cond.methodLink "EightLegsLaw" (150 : Nat) ({ cls := "EightLegs", name := "trace", desc := "(I)I" } : Jvm.MethodName)) ∈ lw_all := lw_g (lw_at lw_m6 55 rfl) rfl
theorem q1358 : (Jvm.Cond.methodLink "EightLegsLaw" (154 : Nat) ({ cls := "EightLegs", name := "keep", desc := "(II)I" } : Jvm.MethodName)) ∈ lw_all := lw_g (lw_at lw_m6 59 rfl) rfl
theorem q1362 : (Jvm.Cond.methodLink "EightLegsLaw" (158 : Nat) ({ cls := "EightLegs", name := "row", desc := "(III)I" } : Jvm.MethodName)) ∈ lw_all := lw_g (lw_at lw_m6 63 rfl) rfl
theorem q1437 : (Jvm.Cond.methodLink "EightLegsLaw" (164 : Nat) ({ cls := "EightLegs", name := "put", desc := "(IIJ)I" } : Jvm.MethodName)) ∈ lw_all := lw_g (lw_at lw_m6 138 rfl) rfl
theorem q1460 : (Jvm.Cond.methodLink "EightLegsLaw" (169 : Nat) ({ cls := "EightLegs", name := "element", desc := "(II)J" } : Jvm.MethodName)) ∈ lw_all := lw_g (lw_at lw_m6 161 rfl) rfl
theorem q1479 : (Jvm.Cond.methodLink "EightLegsLaw" (174 : Nat) ({ cls := "EightLegs", name := "shift", desc := "(IIIII)I" } : Jvm.MethodName)) ∈ lw_all := lw_g (lw_at lw_m6 180 rfl) rfl
theorem q1513 : (Jvm.Cond.methodLink "EightLegsLaw" (179 : Nat) ({ cls := "EightLegs", name := "taken", desc := "(II)I" } : Jvm.MethodName)) ∈ lw_all := lw_g (lw_at lw_m6 214 rfl) rfl
theorem q1568 : (Jvm.Cond.methodLink "EightLegsLaw" (183 : Nat) ({ cls := "EightLegs", name := "count", desc := "(I)I" } : Jvm.MethodName)) ∈ lw_all := lw_g (lw_at lw_m7 29 rfl) rfl
theorem q1572 : (Jvm.Cond.classLink "EightLegsLaw" (10 : Nat) "EightLegsModel") ∈ lw_all := lw_g (lw_at lw_m7 33 rfl) rfl
theorem q1574 : (Jvm.Cond.methodLink "EightLegsLaw" (12 : Nat) ({ cls := "EightLegsModel", name := "<init>", desc := "()V" } : Jvm.MethodName)) ∈ lw_all := lw_g (lw_at lw_m7 35 rfl) rfl
theorem q1747 : (Jvm.Cond.methodLink "EightLegsLaw" (17 : Nat) ({ cls := "EightLegsModel", name := "swimmer", desc := "(II)I" } : Jvm.MethodName)) ∈ lw_all := lw_g (lw_at lw_m7 208 rfl) rfl
theorem q1758 : (Jvm.Cond.methodLink "EightLegsLaw" (22 : Nat) ({ cls := "EightLegsModel", name := "swimmers", desc := "(III)I" } : Jvm.MethodName)) ∈ lw_all := lw_g (lw_at lw_m7 219 rfl) rfl
theorem q1766 : (Jvm.Cond.methodLink "EightLegsLaw" (26 : Nat) ({ cls := "EightLegsModel", name := "mend", desc := "(III)I" } : Jvm.MethodName)) ∈ lw_all := lw_g (lw_at lw_m7 227 rfl) rfl
theorem q1790 : (Jvm.Cond.methodLink "EightLegsLaw" (30 : Nat) ({ cls := "EightLegsModel", name := "of", desc := "(II)I" } : Jvm.MethodName)) ∈ lw_all := lw_g (lw_at lw_m8 11 rfl) rfl
theorem q1794 : (Jvm.Cond.methodLink "EightLegsLaw" (137 : Nat) ({ cls := "EightLegsModel", name := "undo", desc := "()I" } : Jvm.MethodName)) ∈ lw_all := lw_g (lw_at lw_m8 15 rfl) rfl
theorem q1798 : (Jvm.Cond.methodLink "EightLegsLaw" (141 : Nat) ({ cls := "EightLegsModel", name := "redo", desc := "()I" } : Jvm.MethodName)) ∈ lw_all := lw_g (lw_at lw_m8 19 rfl) rfl
theorem q1802 : (Jvm.Cond.methodLink "EightLegsLaw" (35 : Nat) ({ cls := "EightLegsModel", name := "feed", desc := "(I)I" } : Jvm.MethodName)) ∈ lw_all := lw_g (lw_at lw_m8 23 rfl) rfl
theorem q1806 : (Jvm.Cond.methodLink "EightLegsLaw" (40 : Nat) ({ cls := "EightLegsModel", name := "law", desc := "()I" } : Jvm.MethodName)) ∈ lw_all := lw_g (lw_at lw_m8 27 rfl) rfl
theorem q1857 : (Jvm.Cond.methodLink "EightLegsLaw" (44 : Nat) ({ cls := "EightLegsModel", name := "loses", desc := "(III)I" } : Jvm.MethodName)) ∈ lw_all := lw_g (lw_at lw_m8 78 rfl) rfl
theorem q1879 : (Jvm.Cond.methodLink "EightLegsLaw" (48 : Nat) ({ cls := "EightLegsModel", name := "routine", desc := "(II)I" } : Jvm.MethodName)) ∈ lw_all := lw_g (lw_at lw_m8 100 rfl) rfl
theorem q1928 : (Jvm.Cond.methodLink "EightLegsLaw" (52 : Nat) ({ cls := "EightLegsModel", name := "off", desc := "(III)I" } : Jvm.MethodName)) ∈ lw_all := lw_g (lw_at lw_m8 149 rfl) rfl
theorem q1932 : (Jvm.Cond.methodLink "EightLegsLaw" (56 : Nat) ({ cls := "EightLegsModel", name := "apart", desc := "(III)I" } : Jvm.MethodName)) ∈ lw_all := lw_g (lw_at lw_m8 153 rfl) rfl
theorem q1936 : (Jvm.Cond.methodLink "EightLegsLaw" (60 : Nat) ({ cls := "EightLegsModel", name := "gone", desc := "(II)I" } : Jvm.MethodName)) ∈ lw_all := lw_g (lw_at lw_m8 157 rfl) rfl
theorem q1951 : (Jvm.Cond.methodLink "EightLegsLaw" (64 : Nat) ({ cls := "EightLegsModel", name := "least", desc := "(II)I" } : Jvm.MethodName)) ∈ lw_all := lw_g (lw_at lw_m8 172 rfl) rfl
theorem q1955 : (Jvm.Cond.methodLink "EightLegsLaw" (68 : Nat) ({ cls := "EightLegsModel", name := "gasps", desc := "(II)I" } : Jvm.MethodName)) ∈ lw_all := lw_g (lw_at lw_m8 176 rfl) rfl
theorem q1971 : (Jvm.Cond.methodLink "EightLegsLaw" (72 : Nat) ({ cls := "EightLegsModel", name := "looks", desc := "(II)I" } : Jvm.MethodName)) ∈ lw_all := lw_g (lw_at lw_m8 192 rfl) rfl
theorem q1975 : (Jvm.Cond.methodLink "EightLegsLaw" (76 : Nat) ({ cls := "EightLegsModel", name := "whose", desc := "(II)I" } : Jvm.MethodName)) ∈ lw_all := lw_g (lw_at lw_m8 196 rfl) rfl
theorem q1979 : (Jvm.Cond.methodLink "EightLegsLaw" (80 : Nat) ({ cls := "EightLegsModel", name := "first", desc := "(II)I" } : Jvm.MethodName)) ∈ lw_all := lw_g (lw_at lw_m8 200 rfl) rfl
theorem q1983 : (Jvm.Cond.methodLink "EightLegsLaw" (84 : Nat) ({ cls := "EightLegsModel", name := "slip", desc := "(III)I" } : Jvm.MethodName)) ∈ lw_all := lw_g (lw_at lw_m8 204 rfl) rfl
theorem q1987 : (Jvm.Cond.methodLink "EightLegsLaw" (88 : Nat) ({ cls := "EightLegsModel", name := "line", desc := "(II)I" } : Jvm.MethodName)) ∈ lw_all := lw_g (lw_at lw_m8 208 rfl) rfl
theorem q2003 : (Jvm.Cond.methodLink "EightLegsLaw" (92 : Nat) ({ cls := "EightLegsModel", name := "lift", desc := "(I)I" } : Jvm.MethodName)) ∈ lw_all := lw_g (lw_at lw_m8 224 rfl) rfl
theorem q2008 : (Jvm.Cond.methodLink "EightLegsLaw" (96 : Nat) ({ cls := "EightLegsModel", name := "star", desc := "(I)I" } : Jvm.MethodName)) ∈ lw_all := lw_g (lw_at lw_m8 229 rfl) rfl
theorem q2019 : (Jvm.Cond.methodLink "EightLegsLaw" (100 : Nat) ({ cls := "EightLegsModel", name := "judge", desc := "(I)I" } : Jvm.MethodName)) ∈ lw_all := lw_g (lw_at lw_m9 0 rfl) rfl
theorem q2034 : (Jvm.Cond.methodLink "EightLegsLaw" (104 : Nat) ({ cls := "EightLegsModel", name := "whoLed", desc := "(I)I" } : Jvm.MethodName)) ∈ lw_all := lw_g (lw_at lw_m9 15 rfl) rfl
theorem q2038 : (Jvm.Cond.methodLink "EightLegsLaw" (108 : Nat) ({ cls := "EightLegsModel", name := "later", desc := "(II)I" } : Jvm.MethodName)) ∈ lw_all := lw_g (lw_at lw_m9 19 rfl) rfl
theorem q2042 : (Jvm.Cond.methodLink "EightLegsLaw" (112 : Nat) ({ cls := "EightLegsModel", name := "quicker", desc := "(II)I" } : Jvm.MethodName)) ∈ lw_all := lw_g (lw_at lw_m9 23 rfl) rfl
theorem q2046 : (Jvm.Cond.methodLink "EightLegsLaw" (117 : Nat) ({ cls := "EightLegsModel", name := "drawn", desc := "(IIII)I" } : Jvm.MethodName)) ∈ lw_all := lw_g (lw_at lw_m9 27 rfl) rfl
theorem q2050 : (Jvm.Cond.methodLink "EightLegsLaw" (121 : Nat) ({ cls := "EightLegsModel", name := "swim", desc := "(I)I" } : Jvm.MethodName)) ∈ lw_all := lw_g (lw_at lw_m9 31 rfl) rfl
theorem q2054 : (Jvm.Cond.methodLink "EightLegsLaw" (125 : Nat) ({ cls := "EightLegsModel", name := "led", desc := "(I)I" } : Jvm.MethodName)) ∈ lw_all := lw_g (lw_at lw_m9 35 rfl) rfl
theorem q2058 : (Jvm.Cond.methodLink "EightLegsLaw" (129 : Nat) ({ cls := "EightLegsModel", name := "image", desc := "()I" } : Jvm.MethodName)) ∈ lw_all := lw_g (lw_at lw_m9 39 rfl) rfl
theorem q2062 : (Jvm.Cond.methodLink "EightLegsLaw" (133 : Nat) ({ cls := "EightLegsModel", name := "back", desc := "()I" } : Jvm.MethodName)) ∈ lw_all := lw_g (lw_at lw_m9 43 rfl) rfl
theorem q2066 : (Jvm.Cond.methodLink "EightLegsLaw" (145 : Nat) ({ cls := "EightLegsModel", name := "body", desc := "(I)I" } : Jvm.MethodName)) ∈ lw_all := lw_g (lw_at lw_m9 47 rfl) rfl
theorem q2070 : (Jvm.Cond.methodLink "EightLegsLaw" (149 : Nat) ({ cls := "EightLegsModel", name := "act", desc := "(III)I" } : Jvm.MethodName)) ∈ lw_all := lw_g (lw_at lw_m9 51 rfl) rfl
theorem q2097 : (Jvm.Cond.methodLink "EightLegsLaw" (153 : Nat) ({ cls := "EightLegsModel", name := "trace", desc := "(I)I" } : Jvm.MethodName)) ∈ lw_all := lw_g (lw_at lw_m9 78 rfl) rfl
theorem q2101 : (Jvm.Cond.methodLink "EightLegsLaw" (157 : Nat) ({ cls := "EightLegsModel", name := "keep", desc := "(II)I" } : Jvm.MethodName)) ∈ lw_all := lw_g (lw_at lw_m9 82 rfl) rfl
theorem q2105 : (Jvm.Cond.methodLink "EightLegsLaw" (161 : Nat) ({ cls := "EightLegsModel", name := "row", desc := "(III)I" } : Jvm.MethodName)) ∈ lw_all := lw_g (lw_at lw_m9 86 rfl) rfl
theorem q2109 : (Jvm.Cond.methodLink "EightLegsLaw" (168 : Nat) ({ cls := "EightLegsModel", name := "put", desc := "(IIJ)I" } : Jvm.MethodName)) ∈ lw_all := lw_g (lw_at lw_m9 90 rfl) rfl
theorem q2120 : (Jvm.Cond.methodLink "EightLegsLaw" (173 : Nat) ({ cls := "EightLegsModel", name := "element", desc := "(II)J" } : Jvm.MethodName)) ∈ lw_all := lw_g (lw_at lw_m9 101 rfl) rfl
theorem q2125 : (Jvm.Cond.methodLink "EightLegsLaw" (178 : Nat) ({ cls := "EightLegsModel", name := "shift", desc := "(IIIII)I" } : Jvm.MethodName)) ∈ lw_all := lw_g (lw_at lw_m9 106 rfl) rfl
theorem q2129 : (Jvm.Cond.methodLink "EightLegsLaw" (182 : Nat) ({ cls := "EightLegsModel", name := "taken", desc := "(II)I" } : Jvm.MethodName)) ∈ lw_all := lw_g (lw_at lw_m9 110 rfl) rfl
theorem q2133 : (Jvm.Cond.methodLink "EightLegsLaw" (186 : Nat) ({ cls := "EightLegsModel", name := "count", desc := "(I)I" } : Jvm.MethodName)) ∈ lw_all := lw_g (lw_at lw_m9 114 rfl) rfl
theorem q2137 : (Jvm.Cond.constantLong "EightLegsLaw" (162 : Nat) (4294967295 : Int64)) ∈ lw_all := lw_g (lw_at lw_m9 118 rfl) rfl

theorem q153 : (Jvm.Cond.arrayOver (Jvm.ClassFile.FieldType.object "EightLegs$Swimmer")) ∈ lw_tbl := lw_at lw_m1 54 rfl
set_option maxRecDepth 100000
theorem q155 : (Jvm.Cond.arrayOver (Jvm.ClassFile.FieldType.object "EightLegs$Change")) ∈ lw_tbl := lw_at lw_m1 56 rfl
theorem q168 : (Jvm.Cond.arrayClass Jvm.ClassFile.FieldType.byte) ∈ lw_all := lw_g (lw_at lw_m1 69 rfl) rfl
theorem q169 : (Jvm.Cond.arrayClass Jvm.ClassFile.FieldType.int) ∈ lw_all := lw_g (lw_at lw_m1 70 rfl) rfl
theorem q171 : (Jvm.Cond.arrayOver (Jvm.ClassFile.FieldType.object "EightLegs$Beat")) ∈ lw_tbl := lw_at lw_m1 72 rfl
theorem q173 : (Jvm.Cond.arrayOver (Jvm.ClassFile.FieldType.object "EightLegs$Held")) ∈ lw_tbl := lw_at lw_m1 74 rfl
theorem q1404 : (Jvm.Cond.arrayClass Jvm.ClassFile.FieldType.short) ∈ lw_all := lw_g (lw_at lw_m6 105 rfl) rfl
theorem q1425 : (Jvm.Cond.arrayClass Jvm.ClassFile.FieldType.long) ∈ lw_all := lw_g (lw_at lw_m6 126 rfl) rfl
theorem q1436 : (Jvm.Cond.arrayClass Jvm.ClassFile.FieldType.boolean) ∈ lw_all := lw_g (lw_at lw_m6 137 rfl) rfl
