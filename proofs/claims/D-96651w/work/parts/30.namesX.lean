/-! EightLegs -/
set_option maxRecDepth 100000
def RX0 : String := "EightLegs"
def TX0 : u_T := fun k => match k with
  | 0 => ("EightLegs", "swimmers", "[LEightLegs$Swimmer;", true)
  | 1 => ("EightLegs", "many", "I", false)
  | 2 => ("EightLegs", "leader", "I", false)
  | 3 => ("EightLegs", "seen", "I", false)
  | 4 => ("EightLegs", "gasp", "I", false)
  | 5 => ("EightLegs", "changes", "[LEightLegs$Change;", true)
  | 6 => ("EightLegs", "doneMany", "I", false)
  | 7 => ("EightLegs", "undoneMany", "I", false)
  | 8 => ("EightLegs", "tape", "[B", true)
  | 9 => ("EightLegs", "taped", "I", false)
  | 10 => ("EightLegs", "law", "LEightLegs$Line;", false)
  | 11 => ("EightLegs", "facts", "LEightLegs$Facts;", true)
  | 12 => ("EightLegs", "does", "[I", true)
  | 13 => ("EightLegs", "drift", "[I", true)
  | 14 => ("EightLegs", "lostBy", "[I", true)
  | 15 => ("EightLegs", "long0", "I", false)
  | 16 => ("EightLegs", "slipOf", "I", false)
  | 17 => ("EightLegs", "slipAt", "I", false)
  | 18 => ("EightLegs", "slipBy", "I", false)
  | 19 => ("EightLegs", "greatestNeed", "I", false)
  | 20 => ("EightLegs", "chosen", "I", false)
  | 21 => ("EightLegs", "order", "[I", true)
  | 22 => ("EightLegs", "bestOrder", "[I", true)
  | 23 => ("EightLegs", "bestSpread", "I", false)
  | 24 => ("EightLegs", "told", "[I", true)
  | 25 => ("EightLegs", "toldMany", "I", false)
  | 26 => ("EightLegs", "ledRoutines", "I", false)
  | 27 => ("EightLegs", "ledCounts", "I", false)
  | 28 => ("EightLegs", "ledMarks", "I", false)
  | 29 => ("EightLegs", "ledGasps", "I", false)
  | 30 => ("EightLegs", "ledRests", "I", false)
  | 31 => ("EightLegs", "hasImage", "Z", false)
  | 32 => ("EightLegs", "kept", "[I", true)
  | 33 => ("EightLegs", "keptMany", "I", false)
  | 34 => ("EightLegs", "keptRoutines", "I", false)
  | 35 => ("EightLegs", "keptCounts", "I", false)
  | 36 => ("EightLegs", "keptMarks", "I", false)
  | 37 => ("EightLegs", "keptGasps", "I", false)
  | 38 => ("EightLegs", "keptRests", "I", false)
  | 39 => ("EightLegs", "traces", "I", false)
  | 40 => ("EightLegs", "traced", "[B", true)
  | 41 => ("EightLegs", "bodies", "[LEightLegs$Beat;", true)
  | 42 => ("EightLegs", "bodyMany", "I", false)
  | _ => ("EightLegs", "shelves", "[LEightLegs$Held;", true)
def tyX0 : Nat → FieldType := fun k => match k with
  | 0 => .array (.object "EightLegs$Swimmer")
  | 1 => .int
  | 2 => .int
  | 3 => .int
  | 4 => .int
  | 5 => .array (.object "EightLegs$Change")
  | 6 => .int
  | 7 => .int
  | 8 => .array .byte
  | 9 => .int
  | 10 => .object "EightLegs$Line"
  | 11 => .object "EightLegs$Facts"
  | 12 => .array .int
  | 13 => .array .int
  | 14 => .array .int
  | 15 => .int
  | 16 => .int
  | 17 => .int
  | 18 => .int
  | 19 => .int
  | 20 => .int
  | 21 => .array .int
  | 22 => .array .int
  | 23 => .int
  | 24 => .array .int
  | 25 => .int
  | 26 => .int
  | 27 => .int
  | 28 => .int
  | 29 => .int
  | 30 => .int
  | 31 => .boolean
  | 32 => .array .int
  | 33 => .int
  | 34 => .int
  | 35 => .int
  | 36 => .int
  | 37 => .int
  | 38 => .int
  | 39 => .int
  | 40 => .array .byte
  | 41 => .array (.object "EightLegs$Beat")
  | 42 => .int
  | _ => .array (.object "EightLegs$Held")
abbrev wsX00 : List Cond := u_ws RX0 TX0 44
set_option maxRecDepth 100000 in
theorem nmX0 : ∀ a, a < 44 → ∀ b, b < 44 → a ≠ b → (TX0 a).2.1 ≠ (TX0 b).2.1 := by decide +kernel
set_option maxRecDepth 100000 in
theorem tyX0_ok : ∀ k, k < 44 → parseFieldDescriptor (TX0 k).2.2.1 = some (tyX0 k) := by decide +kernel
abbrev cX0_init : ByteArray := prog_1_method_1_code
def yX0_init : MethodName := ⟨RX0, "<init>", "()V"⟩
def dkwX0_init_5 : List UInt8 := [188, 8, 181, 0, 64, 42, 16, 50, 189, 0, 67, 181, 0, 69, 42, 16, 6, 189, 0, 73, 181, 0, 75, 177]
abbrev dktX0_init_5 : List UInt8 := dkwX0_init_5 ++ []
def dkwX0_init_4 : List UInt8 := [188, 10, 181, 0, 55, 42, 16, 60, 188, 10, 181, 0, 58, 42, 16, 16, 188, 10, 181, 0, 61, 42, 16, 24]
abbrev dktX0_init_4 : List UInt8 := dkwX0_init_4 ++ dktX0_init_5
def dkwX0_init_3 : List UInt8 := [16, 64, 188, 10, 181, 0, 46, 42, 16, 254, 181, 0, 49, 42, 16, 8, 188, 10, 181, 0, 52, 42, 16, 8]
abbrev dktX0_init_3 : List UInt8 := dkwX0_init_3 ++ dktX0_init_4
def dkwX0_init_2 : List UInt8 := [183, 0, 34, 181, 0, 35, 42, 16, 60, 188, 10, 181, 0, 39, 42, 16, 8, 188, 10, 181, 0, 43, 42]
abbrev dktX0_init_2 : List UInt8 := dkwX0_init_2 ++ dktX0_init_3
def dkwX0_init_1 : List UInt8 := [42, 16, 40, 189, 0, 22, 181, 0, 24, 42, 16, 120, 188, 8, 181, 0, 28, 42, 187, 0, 32, 89]
abbrev dktX0_init_1 : List UInt8 := dkwX0_init_1 ++ dktX0_init_2
def dkwX0_init_0 : List UInt8 := [42, 183, 0, 1, 42, 16, 8, 189, 0, 9, 181, 0, 11, 42, 16, 25, 181, 0, 15, 42, 4, 181, 0, 19]
abbrev dktX0_init_0 : List UInt8 := dkwX0_init_0 ++ dktX0_init_1
theorem dksX0_init_0 : cX0_init.data.toList.drop 0 = dktX0_init_0 := by decide +kernel
theorem dksX0_init_1 : cX0_init.data.toList.drop 24 = dktX0_init_1 := dk_seg dksX0_init_0 24 rfl rfl
theorem dksX0_init_2 : cX0_init.data.toList.drop 46 = dktX0_init_2 := dk_seg dksX0_init_1 22 rfl rfl
theorem dksX0_init_3 : cX0_init.data.toList.drop 69 = dktX0_init_3 := dk_seg dksX0_init_2 23 rfl rfl
theorem dksX0_init_4 : cX0_init.data.toList.drop 93 = dktX0_init_4 := dk_seg dksX0_init_3 24 rfl rfl
theorem dksX0_init_5 : cX0_init.data.toList.drop 117 = dktX0_init_5 := dk_seg dksX0_init_4 24 rfl rfl
theorem dX0_init_0 : decode cX0_init 0 = .ok (.aload_n 0, 1) := dk_42 (dk_at dksX0_init_0 0 rfl rfl)
theorem dX0_init_1 : decode cX0_init 1 = .ok (.invokespecial 1, 3) := dk_183 0 1 (dk_at dksX0_init_0 1 rfl rfl)
theorem dX0_init_4 : decode cX0_init 4 = .ok (.aload_n 0, 1) := dk_42 (dk_at dksX0_init_0 4 rfl rfl)
theorem dX0_init_5 : decode cX0_init 5 = .ok (.bipush 8, 2) := dk_16 8 (dk_at dksX0_init_0 5 rfl rfl)
theorem dX0_init_7 : decode cX0_init 7 = .ok (.anewarray 9, 3) := dk_189 0 9 (dk_at dksX0_init_0 7 rfl rfl)
theorem dX0_init_10 : decode cX0_init 10 = .ok (.putfield 11, 3) := dk_181 0 11 (dk_at dksX0_init_0 10 rfl rfl)
theorem dX0_init_13 : decode cX0_init 13 = .ok (.aload_n 0, 1) := dk_42 (dk_at dksX0_init_0 13 rfl rfl)
theorem dX0_init_14 : decode cX0_init 14 = .ok (.bipush 25, 2) := dk_16 25 (dk_at dksX0_init_0 14 rfl rfl)
theorem dX0_init_16 : decode cX0_init 16 = .ok (.putfield 15, 3) := dk_181 0 15 (dk_at dksX0_init_0 16 rfl rfl)
theorem dX0_init_19 : decode cX0_init 19 = .ok (.aload_n 0, 1) := dk_42 (dk_at dksX0_init_0 19 rfl rfl)
theorem dX0_init_20 : decode cX0_init 20 = .ok (.iconst 1, 1) := dk_4 (dk_at dksX0_init_0 20 rfl rfl)
theorem dX0_init_21 : decode cX0_init 21 = .ok (.putfield 19, 3) := dk_181 0 19 (dk_at dksX0_init_0 21 rfl rfl)
theorem dX0_init_24 : decode cX0_init 24 = .ok (.aload_n 0, 1) := dk_42 (dk_at dksX0_init_1 0 rfl rfl)
theorem dX0_init_25 : decode cX0_init 25 = .ok (.bipush 40, 2) := dk_16 40 (dk_at dksX0_init_1 1 rfl rfl)
theorem dX0_init_27 : decode cX0_init 27 = .ok (.anewarray 22, 3) := dk_189 0 22 (dk_at dksX0_init_1 3 rfl rfl)
theorem dX0_init_30 : decode cX0_init 30 = .ok (.putfield 24, 3) := dk_181 0 24 (dk_at dksX0_init_1 6 rfl rfl)
theorem dX0_init_33 : decode cX0_init 33 = .ok (.aload_n 0, 1) := dk_42 (dk_at dksX0_init_1 9 rfl rfl)
theorem dX0_init_34 : decode cX0_init 34 = .ok (.bipush 120, 2) := dk_16 120 (dk_at dksX0_init_1 10 rfl rfl)
theorem dX0_init_36 : decode cX0_init 36 = .ok (.newarray .byte, 2) := dk_188_8 (dk_at dksX0_init_1 12 rfl rfl)
theorem dX0_init_38 : decode cX0_init 38 = .ok (.putfield 28, 3) := dk_181 0 28 (dk_at dksX0_init_1 14 rfl rfl)
theorem dX0_init_41 : decode cX0_init 41 = .ok (.aload_n 0, 1) := dk_42 (dk_at dksX0_init_1 17 rfl rfl)
theorem dX0_init_42 : decode cX0_init 42 = .ok (.new 32, 3) := dk_187 0 32 (dk_at dksX0_init_1 18 rfl rfl)
theorem dX0_init_45 : decode cX0_init 45 = .ok (.dup, 1) := dk_89 (dk_at dksX0_init_1 21 rfl rfl)
theorem dX0_init_46 : decode cX0_init 46 = .ok (.invokespecial 34, 3) := dk_183 0 34 (dk_at dksX0_init_2 0 rfl rfl)
theorem dX0_init_49 : decode cX0_init 49 = .ok (.putfield 35, 3) := dk_181 0 35 (dk_at dksX0_init_2 3 rfl rfl)
theorem dX0_init_52 : decode cX0_init 52 = .ok (.aload_n 0, 1) := dk_42 (dk_at dksX0_init_2 6 rfl rfl)
theorem dX0_init_53 : decode cX0_init 53 = .ok (.bipush 60, 2) := dk_16 60 (dk_at dksX0_init_2 7 rfl rfl)
theorem dX0_init_55 : decode cX0_init 55 = .ok (.newarray .int, 2) := dk_188_10 (dk_at dksX0_init_2 9 rfl rfl)
theorem dX0_init_57 : decode cX0_init 57 = .ok (.putfield 39, 3) := dk_181 0 39 (dk_at dksX0_init_2 11 rfl rfl)
theorem dX0_init_60 : decode cX0_init 60 = .ok (.aload_n 0, 1) := dk_42 (dk_at dksX0_init_2 14 rfl rfl)
theorem dX0_init_61 : decode cX0_init 61 = .ok (.bipush 8, 2) := dk_16 8 (dk_at dksX0_init_2 15 rfl rfl)
theorem dX0_init_63 : decode cX0_init 63 = .ok (.newarray .int, 2) := dk_188_10 (dk_at dksX0_init_2 17 rfl rfl)
theorem dX0_init_65 : decode cX0_init 65 = .ok (.putfield 43, 3) := dk_181 0 43 (dk_at dksX0_init_2 19 rfl rfl)
theorem dX0_init_68 : decode cX0_init 68 = .ok (.aload_n 0, 1) := dk_42 (dk_at dksX0_init_2 22 rfl rfl)
theorem dX0_init_69 : decode cX0_init 69 = .ok (.bipush 64, 2) := dk_16 64 (dk_at dksX0_init_3 0 rfl rfl)
theorem dX0_init_71 : decode cX0_init 71 = .ok (.newarray .int, 2) := dk_188_10 (dk_at dksX0_init_3 2 rfl rfl)
theorem dX0_init_73 : decode cX0_init 73 = .ok (.putfield 46, 3) := dk_181 0 46 (dk_at dksX0_init_3 4 rfl rfl)
theorem dX0_init_76 : decode cX0_init 76 = .ok (.aload_n 0, 1) := dk_42 (dk_at dksX0_init_3 7 rfl rfl)
theorem dX0_init_77 : decode cX0_init 77 = .ok (.bipush (-2), 2) := dk_16 254 (dk_at dksX0_init_3 8 rfl rfl)
theorem dX0_init_79 : decode cX0_init 79 = .ok (.putfield 49, 3) := dk_181 0 49 (dk_at dksX0_init_3 10 rfl rfl)
theorem dX0_init_82 : decode cX0_init 82 = .ok (.aload_n 0, 1) := dk_42 (dk_at dksX0_init_3 13 rfl rfl)
theorem dX0_init_83 : decode cX0_init 83 = .ok (.bipush 8, 2) := dk_16 8 (dk_at dksX0_init_3 14 rfl rfl)
theorem dX0_init_85 : decode cX0_init 85 = .ok (.newarray .int, 2) := dk_188_10 (dk_at dksX0_init_3 16 rfl rfl)
theorem dX0_init_87 : decode cX0_init 87 = .ok (.putfield 52, 3) := dk_181 0 52 (dk_at dksX0_init_3 18 rfl rfl)
theorem dX0_init_90 : decode cX0_init 90 = .ok (.aload_n 0, 1) := dk_42 (dk_at dksX0_init_3 21 rfl rfl)
theorem dX0_init_91 : decode cX0_init 91 = .ok (.bipush 8, 2) := dk_16 8 (dk_at dksX0_init_3 22 rfl rfl)
theorem dX0_init_93 : decode cX0_init 93 = .ok (.newarray .int, 2) := dk_188_10 (dk_at dksX0_init_4 0 rfl rfl)
theorem dX0_init_95 : decode cX0_init 95 = .ok (.putfield 55, 3) := dk_181 0 55 (dk_at dksX0_init_4 2 rfl rfl)
theorem dX0_init_98 : decode cX0_init 98 = .ok (.aload_n 0, 1) := dk_42 (dk_at dksX0_init_4 5 rfl rfl)
theorem dX0_init_99 : decode cX0_init 99 = .ok (.bipush 60, 2) := dk_16 60 (dk_at dksX0_init_4 6 rfl rfl)
theorem dX0_init_101 : decode cX0_init 101 = .ok (.newarray .int, 2) := dk_188_10 (dk_at dksX0_init_4 8 rfl rfl)
theorem dX0_init_103 : decode cX0_init 103 = .ok (.putfield 58, 3) := dk_181 0 58 (dk_at dksX0_init_4 10 rfl rfl)
theorem dX0_init_106 : decode cX0_init 106 = .ok (.aload_n 0, 1) := dk_42 (dk_at dksX0_init_4 13 rfl rfl)
theorem dX0_init_107 : decode cX0_init 107 = .ok (.bipush 16, 2) := dk_16 16 (dk_at dksX0_init_4 14 rfl rfl)
theorem dX0_init_109 : decode cX0_init 109 = .ok (.newarray .int, 2) := dk_188_10 (dk_at dksX0_init_4 16 rfl rfl)
theorem dX0_init_111 : decode cX0_init 111 = .ok (.putfield 61, 3) := dk_181 0 61 (dk_at dksX0_init_4 18 rfl rfl)
theorem dX0_init_114 : decode cX0_init 114 = .ok (.aload_n 0, 1) := dk_42 (dk_at dksX0_init_4 21 rfl rfl)
theorem dX0_init_115 : decode cX0_init 115 = .ok (.bipush 24, 2) := dk_16 24 (dk_at dksX0_init_4 22 rfl rfl)
theorem dX0_init_117 : decode cX0_init 117 = .ok (.newarray .byte, 2) := dk_188_8 (dk_at dksX0_init_5 0 rfl rfl)
theorem dX0_init_119 : decode cX0_init 119 = .ok (.putfield 64, 3) := dk_181 0 64 (dk_at dksX0_init_5 2 rfl rfl)
theorem dX0_init_122 : decode cX0_init 122 = .ok (.aload_n 0, 1) := dk_42 (dk_at dksX0_init_5 5 rfl rfl)
theorem dX0_init_123 : decode cX0_init 123 = .ok (.bipush 50, 2) := dk_16 50 (dk_at dksX0_init_5 6 rfl rfl)
theorem dX0_init_125 : decode cX0_init 125 = .ok (.anewarray 67, 3) := dk_189 0 67 (dk_at dksX0_init_5 8 rfl rfl)
theorem dX0_init_128 : decode cX0_init 128 = .ok (.putfield 69, 3) := dk_181 0 69 (dk_at dksX0_init_5 11 rfl rfl)
theorem dX0_init_131 : decode cX0_init 131 = .ok (.aload_n 0, 1) := dk_42 (dk_at dksX0_init_5 14 rfl rfl)
theorem dX0_init_132 : decode cX0_init 132 = .ok (.bipush 6, 2) := dk_16 6 (dk_at dksX0_init_5 15 rfl rfl)
theorem dX0_init_134 : decode cX0_init 134 = .ok (.anewarray 73, 3) := dk_189 0 73 (dk_at dksX0_init_5 17 rfl rfl)
theorem dX0_init_137 : decode cX0_init 137 = .ok (.putfield 75, 3) := dk_181 0 75 (dk_at dksX0_init_5 20 rfl rfl)
theorem dX0_init_140 : decode cX0_init 140 = .ok (.return_, 1) := dk_177 (dk_at dksX0_init_5 23 rfl rfl)
abbrev cX0_swimmer : ByteArray := prog_1_method_7_code
def yX0_swimmer : MethodName := ⟨RX0, "swimmer", "(II)I"⟩
def dkwX0_swimmer_2 : List UInt8 := [42, 27, 16, 100, 112, 27, 16, 100, 108, 28, 182, 0, 93, 87, 42, 180, 0, 79, 4, 100, 172]
abbrev dktX0_swimmer_2 : List UInt8 := dkwX0_swimmer_2 ++ []
def dkwX0_swimmer_1 : List UInt8 := [28, 4, 16, 9, 184, 0, 82, 154, 0, 5, 2, 172, 42, 180, 0, 79, 16, 8, 160, 0, 6, 16, 253, 172]
abbrev dktX0_swimmer_1 : List UInt8 := dkwX0_swimmer_1 ++ dktX0_swimmer_2
def dkwX0_swimmer_0 : List UInt8 := [27, 155, 0, 33, 27, 16, 100, 108, 184, 0, 89, 153, 0, 23, 27, 16, 100, 112, 184, 0, 89, 153, 0, 13]
abbrev dktX0_swimmer_0 : List UInt8 := dkwX0_swimmer_0 ++ dktX0_swimmer_1
theorem dksX0_swimmer_0 : cX0_swimmer.data.toList.drop 0 = dktX0_swimmer_0 := by decide +kernel
theorem dksX0_swimmer_1 : cX0_swimmer.data.toList.drop 24 = dktX0_swimmer_1 := dk_seg dksX0_swimmer_0 24 rfl rfl
theorem dksX0_swimmer_2 : cX0_swimmer.data.toList.drop 48 = dktX0_swimmer_2 := dk_seg dksX0_swimmer_1 24 rfl rfl
theorem dX0_swimmer_0 : decode cX0_swimmer 0 = .ok (.iload_n 1, 1) := dk_27 (dk_at dksX0_swimmer_0 0 rfl rfl)
theorem dX0_swimmer_1 : decode cX0_swimmer 1 = .ok (.ifCond .lt 33, 3) := dk_155 0 33 (dk_at dksX0_swimmer_0 1 rfl rfl)
theorem dX0_swimmer_4 : decode cX0_swimmer 4 = .ok (.iload_n 1, 1) := dk_27 (dk_at dksX0_swimmer_0 4 rfl rfl)
theorem dX0_swimmer_5 : decode cX0_swimmer 5 = .ok (.bipush 100, 2) := dk_16 100 (dk_at dksX0_swimmer_0 5 rfl rfl)
theorem dX0_swimmer_7 : decode cX0_swimmer 7 = .ok (.idiv, 1) := dk_108 (dk_at dksX0_swimmer_0 7 rfl rfl)
theorem dX0_swimmer_8 : decode cX0_swimmer 8 = .ok (.invokestatic 89, 3) := dk_184 0 89 (dk_at dksX0_swimmer_0 8 rfl rfl)
theorem dX0_swimmer_11 : decode cX0_swimmer 11 = .ok (.ifCond .eq 23, 3) := dk_153 0 23 (dk_at dksX0_swimmer_0 11 rfl rfl)
theorem dX0_swimmer_14 : decode cX0_swimmer 14 = .ok (.iload_n 1, 1) := dk_27 (dk_at dksX0_swimmer_0 14 rfl rfl)
theorem dX0_swimmer_15 : decode cX0_swimmer 15 = .ok (.bipush 100, 2) := dk_16 100 (dk_at dksX0_swimmer_0 15 rfl rfl)
theorem dX0_swimmer_17 : decode cX0_swimmer 17 = .ok (.irem, 1) := dk_112 (dk_at dksX0_swimmer_0 17 rfl rfl)
theorem dX0_swimmer_18 : decode cX0_swimmer 18 = .ok (.invokestatic 89, 3) := dk_184 0 89 (dk_at dksX0_swimmer_0 18 rfl rfl)
theorem dX0_swimmer_21 : decode cX0_swimmer 21 = .ok (.ifCond .eq 13, 3) := dk_153 0 13 (dk_at dksX0_swimmer_0 21 rfl rfl)
theorem dX0_swimmer_24 : decode cX0_swimmer 24 = .ok (.iload_n 2, 1) := dk_28 (dk_at dksX0_swimmer_1 0 rfl rfl)
theorem dX0_swimmer_25 : decode cX0_swimmer 25 = .ok (.iconst 1, 1) := dk_4 (dk_at dksX0_swimmer_1 1 rfl rfl)
theorem dX0_swimmer_26 : decode cX0_swimmer 26 = .ok (.bipush 9, 2) := dk_16 9 (dk_at dksX0_swimmer_1 2 rfl rfl)
theorem dX0_swimmer_28 : decode cX0_swimmer 28 = .ok (.invokestatic 82, 3) := dk_184 0 82 (dk_at dksX0_swimmer_1 4 rfl rfl)
theorem dX0_swimmer_31 : decode cX0_swimmer 31 = .ok (.ifCond .ne 5, 3) := dk_154 0 5 (dk_at dksX0_swimmer_1 7 rfl rfl)
theorem dX0_swimmer_34 : decode cX0_swimmer 34 = .ok (.iconst (-1), 1) := dk_2 (dk_at dksX0_swimmer_1 10 rfl rfl)
theorem dX0_swimmer_35 : decode cX0_swimmer 35 = .ok (.ireturn, 1) := dk_172 (dk_at dksX0_swimmer_1 11 rfl rfl)
theorem dX0_swimmer_36 : decode cX0_swimmer 36 = .ok (.aload_n 0, 1) := dk_42 (dk_at dksX0_swimmer_1 12 rfl rfl)
theorem dX0_swimmer_37 : decode cX0_swimmer 37 = .ok (.getfield 79, 3) := dk_180 0 79 (dk_at dksX0_swimmer_1 13 rfl rfl)
theorem dX0_swimmer_40 : decode cX0_swimmer 40 = .ok (.bipush 8, 2) := dk_16 8 (dk_at dksX0_swimmer_1 16 rfl rfl)
theorem dX0_swimmer_42 : decode cX0_swimmer 42 = .ok (.if_icmp .ne 6, 3) := dk_160 0 6 (dk_at dksX0_swimmer_1 18 rfl rfl)
theorem dX0_swimmer_45 : decode cX0_swimmer 45 = .ok (.bipush (-3), 2) := dk_16 253 (dk_at dksX0_swimmer_1 21 rfl rfl)
theorem dX0_swimmer_47 : decode cX0_swimmer 47 = .ok (.ireturn, 1) := dk_172 (dk_at dksX0_swimmer_1 23 rfl rfl)
theorem dX0_swimmer_48 : decode cX0_swimmer 48 = .ok (.aload_n 0, 1) := dk_42 (dk_at dksX0_swimmer_2 0 rfl rfl)
theorem dX0_swimmer_49 : decode cX0_swimmer 49 = .ok (.iload_n 1, 1) := dk_27 (dk_at dksX0_swimmer_2 1 rfl rfl)
theorem dX0_swimmer_50 : decode cX0_swimmer 50 = .ok (.bipush 100, 2) := dk_16 100 (dk_at dksX0_swimmer_2 2 rfl rfl)
theorem dX0_swimmer_52 : decode cX0_swimmer 52 = .ok (.irem, 1) := dk_112 (dk_at dksX0_swimmer_2 4 rfl rfl)
theorem dX0_swimmer_53 : decode cX0_swimmer 53 = .ok (.iload_n 1, 1) := dk_27 (dk_at dksX0_swimmer_2 5 rfl rfl)
theorem dX0_swimmer_54 : decode cX0_swimmer 54 = .ok (.bipush 100, 2) := dk_16 100 (dk_at dksX0_swimmer_2 6 rfl rfl)
theorem dX0_swimmer_56 : decode cX0_swimmer 56 = .ok (.idiv, 1) := dk_108 (dk_at dksX0_swimmer_2 8 rfl rfl)
theorem dX0_swimmer_57 : decode cX0_swimmer 57 = .ok (.iload_n 2, 1) := dk_28 (dk_at dksX0_swimmer_2 9 rfl rfl)
theorem dX0_swimmer_58 : decode cX0_swimmer 58 = .ok (.invokevirtual 93, 3) := dk_182 0 93 (dk_at dksX0_swimmer_2 10 rfl rfl)
theorem dX0_swimmer_61 : decode cX0_swimmer 61 = .ok (.pop, 1) := dk_87 (dk_at dksX0_swimmer_2 13 rfl rfl)
theorem dX0_swimmer_62 : decode cX0_swimmer 62 = .ok (.aload_n 0, 1) := dk_42 (dk_at dksX0_swimmer_2 14 rfl rfl)
theorem dX0_swimmer_63 : decode cX0_swimmer 63 = .ok (.getfield 79, 3) := dk_180 0 79 (dk_at dksX0_swimmer_2 15 rfl rfl)
theorem dX0_swimmer_66 : decode cX0_swimmer 66 = .ok (.iconst 1, 1) := dk_4 (dk_at dksX0_swimmer_2 18 rfl rfl)
theorem dX0_swimmer_67 : decode cX0_swimmer 67 = .ok (.isub, 1) := dk_100 (dk_at dksX0_swimmer_2 19 rfl rfl)
theorem dX0_swimmer_68 : decode cX0_swimmer 68 = .ok (.ireturn, 1) := dk_172 (dk_at dksX0_swimmer_2 20 rfl rfl)
abbrev cX0_isCell : ByteArray := prog_1_method_5_code
def yX0_isCell : MethodName := ⟨RX0, "isCell", "(I)Z"⟩
def dkwX0_isCell_0 : List UInt8 := [26, 3, 16, 15, 184, 0, 82, 172]
abbrev dktX0_isCell_0 : List UInt8 := dkwX0_isCell_0 ++ []
theorem dksX0_isCell_0 : cX0_isCell.data.toList.drop 0 = dktX0_isCell_0 := by decide +kernel
theorem dX0_isCell_0 : decode cX0_isCell 0 = .ok (.iload_n 0, 1) := dk_26 (dk_at dksX0_isCell_0 0 rfl rfl)
theorem dX0_isCell_1 : decode cX0_isCell 1 = .ok (.iconst 0, 1) := dk_3 (dk_at dksX0_isCell_0 1 rfl rfl)
theorem dX0_isCell_2 : decode cX0_isCell 2 = .ok (.bipush 15, 2) := dk_16 15 (dk_at dksX0_isCell_0 2 rfl rfl)
theorem dX0_isCell_4 : decode cX0_isCell 4 = .ok (.invokestatic 82, 3) := dk_184 0 82 (dk_at dksX0_isCell_0 4 rfl rfl)
theorem dX0_isCell_7 : decode cX0_isCell 7 = .ok (.ireturn, 1) := dk_172 (dk_at dksX0_isCell_0 7 rfl rfl)
abbrev cX0_in : ByteArray := prog_1_method_2_code
def yX0_in : MethodName := ⟨RX0, "in", "(III)Z"⟩
def dkwX0_in_0 : List UInt8 := [26, 27, 161, 0, 12, 26, 28, 163, 0, 7, 4, 167, 0, 4, 3, 172]
abbrev dktX0_in_0 : List UInt8 := dkwX0_in_0 ++ []
theorem dksX0_in_0 : cX0_in.data.toList.drop 0 = dktX0_in_0 := by decide +kernel
theorem dX0_in_0 : decode cX0_in 0 = .ok (.iload_n 0, 1) := dk_26 (dk_at dksX0_in_0 0 rfl rfl)
theorem dX0_in_1 : decode cX0_in 1 = .ok (.iload_n 1, 1) := dk_27 (dk_at dksX0_in_0 1 rfl rfl)
theorem dX0_in_2 : decode cX0_in 2 = .ok (.if_icmp .lt 12, 3) := dk_161 0 12 (dk_at dksX0_in_0 2 rfl rfl)
theorem dX0_in_5 : decode cX0_in 5 = .ok (.iload_n 0, 1) := dk_26 (dk_at dksX0_in_0 5 rfl rfl)
theorem dX0_in_6 : decode cX0_in 6 = .ok (.iload_n 2, 1) := dk_28 (dk_at dksX0_in_0 6 rfl rfl)
theorem dX0_in_7 : decode cX0_in 7 = .ok (.if_icmp .gt 7, 3) := dk_163 0 7 (dk_at dksX0_in_0 7 rfl rfl)
theorem dX0_in_10 : decode cX0_in 10 = .ok (.iconst 1, 1) := dk_4 (dk_at dksX0_in_0 10 rfl rfl)
theorem dX0_in_11 : decode cX0_in 11 = .ok (.goto 4, 3) := dk_167 0 4 (dk_at dksX0_in_0 11 rfl rfl)
theorem dX0_in_14 : decode cX0_in 14 = .ok (.iconst 0, 1) := dk_3 (dk_at dksX0_in_0 14 rfl rfl)
theorem dX0_in_15 : decode cX0_in 15 = .ok (.ireturn, 1) := dk_172 (dk_at dksX0_in_0 15 rfl rfl)
abbrev cX0_addOne : ByteArray := prog_1_method_6_code
def yX0_addOne : MethodName := ⟨RX0, "addOne", "(III)LEightLegs$Swimmer;"⟩
def dkwX0_addOne_1 : List UInt8 := [4, 96, 181, 0, 79, 42, 180, 0, 11, 42, 180, 0, 79, 4, 100, 50, 176]
abbrev dktX0_addOne_1 : List UInt8 := dkwX0_addOne_1 ++ []
def dkwX0_addOne_0 : List UInt8 := [42, 180, 0, 11, 42, 180, 0, 79, 187, 0, 9, 89, 27, 28, 29, 183, 0, 86, 83, 42, 89, 180, 0, 79]
abbrev dktX0_addOne_0 : List UInt8 := dkwX0_addOne_0 ++ dktX0_addOne_1
theorem dksX0_addOne_0 : cX0_addOne.data.toList.drop 0 = dktX0_addOne_0 := by decide +kernel
theorem dksX0_addOne_1 : cX0_addOne.data.toList.drop 24 = dktX0_addOne_1 := dk_seg dksX0_addOne_0 24 rfl rfl
theorem dX0_addOne_0 : decode cX0_addOne 0 = .ok (.aload_n 0, 1) := dk_42 (dk_at dksX0_addOne_0 0 rfl rfl)
theorem dX0_addOne_1 : decode cX0_addOne 1 = .ok (.getfield 11, 3) := dk_180 0 11 (dk_at dksX0_addOne_0 1 rfl rfl)
theorem dX0_addOne_4 : decode cX0_addOne 4 = .ok (.aload_n 0, 1) := dk_42 (dk_at dksX0_addOne_0 4 rfl rfl)
theorem dX0_addOne_5 : decode cX0_addOne 5 = .ok (.getfield 79, 3) := dk_180 0 79 (dk_at dksX0_addOne_0 5 rfl rfl)
theorem dX0_addOne_8 : decode cX0_addOne 8 = .ok (.new 9, 3) := dk_187 0 9 (dk_at dksX0_addOne_0 8 rfl rfl)
theorem dX0_addOne_11 : decode cX0_addOne 11 = .ok (.dup, 1) := dk_89 (dk_at dksX0_addOne_0 11 rfl rfl)
theorem dX0_addOne_12 : decode cX0_addOne 12 = .ok (.iload_n 1, 1) := dk_27 (dk_at dksX0_addOne_0 12 rfl rfl)
theorem dX0_addOne_13 : decode cX0_addOne 13 = .ok (.iload_n 2, 1) := dk_28 (dk_at dksX0_addOne_0 13 rfl rfl)
theorem dX0_addOne_14 : decode cX0_addOne 14 = .ok (.iload_n 3, 1) := dk_29 (dk_at dksX0_addOne_0 14 rfl rfl)
theorem dX0_addOne_15 : decode cX0_addOne 15 = .ok (.invokespecial 86, 3) := dk_183 0 86 (dk_at dksX0_addOne_0 15 rfl rfl)
theorem dX0_addOne_18 : decode cX0_addOne 18 = .ok (.aastore, 1) := dk_83 (dk_at dksX0_addOne_0 18 rfl rfl)
theorem dX0_addOne_19 : decode cX0_addOne 19 = .ok (.aload_n 0, 1) := dk_42 (dk_at dksX0_addOne_0 19 rfl rfl)
theorem dX0_addOne_20 : decode cX0_addOne 20 = .ok (.dup, 1) := dk_89 (dk_at dksX0_addOne_0 20 rfl rfl)
theorem dX0_addOne_21 : decode cX0_addOne 21 = .ok (.getfield 79, 3) := dk_180 0 79 (dk_at dksX0_addOne_0 21 rfl rfl)
theorem dX0_addOne_24 : decode cX0_addOne 24 = .ok (.iconst 1, 1) := dk_4 (dk_at dksX0_addOne_1 0 rfl rfl)
theorem dX0_addOne_25 : decode cX0_addOne 25 = .ok (.iadd, 1) := dk_96 (dk_at dksX0_addOne_1 1 rfl rfl)
theorem dX0_addOne_26 : decode cX0_addOne 26 = .ok (.putfield 79, 3) := dk_181 0 79 (dk_at dksX0_addOne_1 2 rfl rfl)
theorem dX0_addOne_29 : decode cX0_addOne 29 = .ok (.aload_n 0, 1) := dk_42 (dk_at dksX0_addOne_1 5 rfl rfl)
theorem dX0_addOne_30 : decode cX0_addOne 30 = .ok (.getfield 11, 3) := dk_180 0 11 (dk_at dksX0_addOne_1 6 rfl rfl)
theorem dX0_addOne_33 : decode cX0_addOne 33 = .ok (.aload_n 0, 1) := dk_42 (dk_at dksX0_addOne_1 9 rfl rfl)
theorem dX0_addOne_34 : decode cX0_addOne 34 = .ok (.getfield 79, 3) := dk_180 0 79 (dk_at dksX0_addOne_1 10 rfl rfl)
theorem dX0_addOne_37 : decode cX0_addOne 37 = .ok (.iconst 1, 1) := dk_4 (dk_at dksX0_addOne_1 13 rfl rfl)
theorem dX0_addOne_38 : decode cX0_addOne 38 = .ok (.isub, 1) := dk_100 (dk_at dksX0_addOne_1 14 rfl rfl)
theorem dX0_addOne_39 : decode cX0_addOne 39 = .ok (.aaload, 1) := dk_50 (dk_at dksX0_addOne_1 15 rfl rfl)
theorem dX0_addOne_40 : decode cX0_addOne 40 = .ok (.areturn, 1) := dk_176 (dk_at dksX0_addOne_1 16 rfl rfl)
abbrev cX0_swimmers : ByteArray := prog_1_method_8_code
def yX0_swimmers : MethodName := ⟨RX0, "swimmers", "(III)I"⟩
def dkwX0_swimmers_8 : List UInt8 := [16, 244, 172, 58, 5, 21, 4, 172, 58, 5, 21, 4, 172, 21, 4, 172]
abbrev dktX0_swimmers_8 : List UInt8 := dkwX0_swimmers_8 ++ []
def dkwX0_swimmers_7 : List UInt8 := [21, 9, 182, 0, 93, 21, 10, 181, 0, 106, 132, 4, 1, 132, 6, 1, 167, 255, 116, 167, 0, 18, 58, 5]
abbrev dktX0_swimmers_7 : List UInt8 := dkwX0_swimmers_7 ++ dktX0_swimmers_8
def dkwX0_swimmers_6 : List UInt8 := [153, 0, 15, 21, 10, 16, 247, 16, 9, 184, 0, 82, 154, 0, 6, 21, 4, 172, 42, 21, 7, 21, 8]
abbrev dktX0_swimmers_6 : List UInt8 := dkwX0_swimmers_6 ++ dktX0_swimmers_7
def dkwX0_swimmers_5 : List UInt8 := [184, 0, 89, 153, 0, 34, 21, 8, 184, 0, 89, 153, 0, 26, 21, 9, 4, 16, 9, 184, 0, 82]
abbrev dktX0_swimmers_5 : List UInt8 := dkwX0_swimmers_5 ++ dktX0_swimmers_6
def dkwX0_swimmers_4 : List UInt8 := [182, 0, 102, 136, 54, 9, 25, 5, 28, 7, 21, 6, 104, 96, 6, 96, 182, 0, 102, 136, 54, 10, 21, 7]
abbrev dktX0_swimmers_4 : List UInt8 := dkwX0_swimmers_4 ++ dktX0_swimmers_5
def dkwX0_swimmers_3 : List UInt8 := [21, 6, 104, 96, 4, 96, 182, 0, 102, 136, 54, 8, 25, 5, 28, 7, 21, 6, 104, 96, 5, 96]
abbrev dktX0_swimmers_3 : List UInt8 := dkwX0_swimmers_3 ++ dktX0_swimmers_4
def dkwX0_swimmers_2 : List UInt8 := [16, 8, 162, 0, 131, 25, 5, 28, 7, 21, 6, 104, 96, 182, 0, 102, 136, 54, 7, 25, 5, 28, 7]
abbrev dktX0_swimmers_2 : List UInt8 := dkwX0_swimmers_2 ++ dktX0_swimmers_3
def dkwX0_swimmers_1 : List UInt8 := [180, 0, 75, 27, 50, 192, 0, 100, 58, 5, 3, 54, 6, 21, 6, 29, 162, 0, 140, 42, 180, 0, 79]
abbrev dktX0_swimmers_1 : List UInt8 := dkwX0_swimmers_1 ++ dktX0_swimmers_2
def dkwX0_swimmers_0 : List UInt8 := [27, 184, 0, 97, 153, 0, 13, 29, 4, 16, 8, 184, 0, 82, 154, 0, 5, 2, 172, 3, 54, 4, 42]
abbrev dktX0_swimmers_0 : List UInt8 := dkwX0_swimmers_0 ++ dktX0_swimmers_1
theorem dksX0_swimmers_0 : cX0_swimmers.data.toList.drop 0 = dktX0_swimmers_0 := by decide +kernel
theorem dksX0_swimmers_1 : cX0_swimmers.data.toList.drop 23 = dktX0_swimmers_1 := dk_seg dksX0_swimmers_0 23 rfl rfl
theorem dksX0_swimmers_2 : cX0_swimmers.data.toList.drop 46 = dktX0_swimmers_2 := dk_seg dksX0_swimmers_1 23 rfl rfl
theorem dksX0_swimmers_3 : cX0_swimmers.data.toList.drop 69 = dktX0_swimmers_3 := dk_seg dksX0_swimmers_2 23 rfl rfl
theorem dksX0_swimmers_4 : cX0_swimmers.data.toList.drop 91 = dktX0_swimmers_4 := dk_seg dksX0_swimmers_3 22 rfl rfl
theorem dksX0_swimmers_5 : cX0_swimmers.data.toList.drop 115 = dktX0_swimmers_5 := dk_seg dksX0_swimmers_4 24 rfl rfl
theorem dksX0_swimmers_6 : cX0_swimmers.data.toList.drop 137 = dktX0_swimmers_6 := dk_seg dksX0_swimmers_5 22 rfl rfl
theorem dksX0_swimmers_7 : cX0_swimmers.data.toList.drop 160 = dktX0_swimmers_7 := dk_seg dksX0_swimmers_6 23 rfl rfl
theorem dksX0_swimmers_8 : cX0_swimmers.data.toList.drop 184 = dktX0_swimmers_8 := dk_seg dksX0_swimmers_7 24 rfl rfl
theorem dX0_swimmers_0 : decode cX0_swimmers 0 = .ok (.iload_n 1, 1) := dk_27 (dk_at dksX0_swimmers_0 0 rfl rfl)
theorem dX0_swimmers_1 : decode cX0_swimmers 1 = .ok (.invokestatic 97, 3) := dk_184 0 97 (dk_at dksX0_swimmers_0 1 rfl rfl)
theorem dX0_swimmers_4 : decode cX0_swimmers 4 = .ok (.ifCond .eq 13, 3) := dk_153 0 13 (dk_at dksX0_swimmers_0 4 rfl rfl)
theorem dX0_swimmers_7 : decode cX0_swimmers 7 = .ok (.iload_n 3, 1) := dk_29 (dk_at dksX0_swimmers_0 7 rfl rfl)
theorem dX0_swimmers_8 : decode cX0_swimmers 8 = .ok (.iconst 1, 1) := dk_4 (dk_at dksX0_swimmers_0 8 rfl rfl)
theorem dX0_swimmers_9 : decode cX0_swimmers 9 = .ok (.bipush 8, 2) := dk_16 8 (dk_at dksX0_swimmers_0 9 rfl rfl)
theorem dX0_swimmers_11 : decode cX0_swimmers 11 = .ok (.invokestatic 82, 3) := dk_184 0 82 (dk_at dksX0_swimmers_0 11 rfl rfl)
theorem dX0_swimmers_14 : decode cX0_swimmers 14 = .ok (.ifCond .ne 5, 3) := dk_154 0 5 (dk_at dksX0_swimmers_0 14 rfl rfl)
theorem dX0_swimmers_17 : decode cX0_swimmers 17 = .ok (.iconst (-1), 1) := dk_2 (dk_at dksX0_swimmers_0 17 rfl rfl)
theorem dX0_swimmers_18 : decode cX0_swimmers 18 = .ok (.ireturn, 1) := dk_172 (dk_at dksX0_swimmers_0 18 rfl rfl)
theorem dX0_swimmers_19 : decode cX0_swimmers 19 = .ok (.iconst 0, 1) := dk_3 (dk_at dksX0_swimmers_0 19 rfl rfl)
theorem dX0_swimmers_20 : decode cX0_swimmers 20 = .ok (.istore 4, 2) := dk_54 4 (dk_at dksX0_swimmers_0 20 rfl rfl)
theorem dX0_swimmers_22 : decode cX0_swimmers 22 = .ok (.aload_n 0, 1) := dk_42 (dk_at dksX0_swimmers_0 22 rfl rfl)
theorem dX0_swimmers_23 : decode cX0_swimmers 23 = .ok (.getfield 75, 3) := dk_180 0 75 (dk_at dksX0_swimmers_1 0 rfl rfl)
theorem dX0_swimmers_26 : decode cX0_swimmers 26 = .ok (.iload_n 1, 1) := dk_27 (dk_at dksX0_swimmers_1 3 rfl rfl)
theorem dX0_swimmers_27 : decode cX0_swimmers 27 = .ok (.aaload, 1) := dk_50 (dk_at dksX0_swimmers_1 4 rfl rfl)
theorem dX0_swimmers_28 : decode cX0_swimmers 28 = .ok (.checkcast 100, 3) := dk_192 0 100 (dk_at dksX0_swimmers_1 5 rfl rfl)
theorem dX0_swimmers_31 : decode cX0_swimmers 31 = .ok (.astore 5, 2) := dk_58 5 (dk_at dksX0_swimmers_1 8 rfl rfl)
theorem dX0_swimmers_33 : decode cX0_swimmers 33 = .ok (.iconst 0, 1) := dk_3 (dk_at dksX0_swimmers_1 10 rfl rfl)
theorem dX0_swimmers_34 : decode cX0_swimmers 34 = .ok (.istore 6, 2) := dk_54 6 (dk_at dksX0_swimmers_1 11 rfl rfl)
theorem dX0_swimmers_36 : decode cX0_swimmers 36 = .ok (.iload 6, 2) := dk_21 6 (dk_at dksX0_swimmers_1 13 rfl rfl)
theorem dX0_swimmers_38 : decode cX0_swimmers 38 = .ok (.iload_n 3, 1) := dk_29 (dk_at dksX0_swimmers_1 15 rfl rfl)
theorem dX0_swimmers_39 : decode cX0_swimmers 39 = .ok (.if_icmp .ge 140, 3) := dk_162 0 140 (dk_at dksX0_swimmers_1 16 rfl rfl)
theorem dX0_swimmers_42 : decode cX0_swimmers 42 = .ok (.aload_n 0, 1) := dk_42 (dk_at dksX0_swimmers_1 19 rfl rfl)
theorem dX0_swimmers_43 : decode cX0_swimmers 43 = .ok (.getfield 79, 3) := dk_180 0 79 (dk_at dksX0_swimmers_1 20 rfl rfl)
theorem dX0_swimmers_46 : decode cX0_swimmers 46 = .ok (.bipush 8, 2) := dk_16 8 (dk_at dksX0_swimmers_2 0 rfl rfl)
theorem dX0_swimmers_48 : decode cX0_swimmers 48 = .ok (.if_icmp .ge 131, 3) := dk_162 0 131 (dk_at dksX0_swimmers_2 2 rfl rfl)
theorem dX0_swimmers_51 : decode cX0_swimmers 51 = .ok (.aload 5, 2) := dk_25 5 (dk_at dksX0_swimmers_2 5 rfl rfl)
theorem dX0_swimmers_53 : decode cX0_swimmers 53 = .ok (.iload_n 2, 1) := dk_28 (dk_at dksX0_swimmers_2 7 rfl rfl)
theorem dX0_swimmers_54 : decode cX0_swimmers 54 = .ok (.iconst 4, 1) := dk_7 (dk_at dksX0_swimmers_2 8 rfl rfl)
theorem dX0_swimmers_55 : decode cX0_swimmers 55 = .ok (.iload 6, 2) := dk_21 6 (dk_at dksX0_swimmers_2 9 rfl rfl)
theorem dX0_swimmers_57 : decode cX0_swimmers 57 = .ok (.imul, 1) := dk_104 (dk_at dksX0_swimmers_2 11 rfl rfl)
theorem dX0_swimmers_58 : decode cX0_swimmers 58 = .ok (.iadd, 1) := dk_96 (dk_at dksX0_swimmers_2 12 rfl rfl)
theorem dX0_swimmers_59 : decode cX0_swimmers 59 = .ok (.invokevirtual 102, 3) := dk_182 0 102 (dk_at dksX0_swimmers_2 13 rfl rfl)
theorem dX0_swimmers_62 : decode cX0_swimmers 62 = .ok (.l2i, 1) := dk_136 (dk_at dksX0_swimmers_2 16 rfl rfl)
theorem dX0_swimmers_63 : decode cX0_swimmers 63 = .ok (.istore 7, 2) := dk_54 7 (dk_at dksX0_swimmers_2 17 rfl rfl)
theorem dX0_swimmers_65 : decode cX0_swimmers 65 = .ok (.aload 5, 2) := dk_25 5 (dk_at dksX0_swimmers_2 19 rfl rfl)
theorem dX0_swimmers_67 : decode cX0_swimmers 67 = .ok (.iload_n 2, 1) := dk_28 (dk_at dksX0_swimmers_2 21 rfl rfl)
theorem dX0_swimmers_68 : decode cX0_swimmers 68 = .ok (.iconst 4, 1) := dk_7 (dk_at dksX0_swimmers_2 22 rfl rfl)
theorem dX0_swimmers_69 : decode cX0_swimmers 69 = .ok (.iload 6, 2) := dk_21 6 (dk_at dksX0_swimmers_3 0 rfl rfl)
theorem dX0_swimmers_71 : decode cX0_swimmers 71 = .ok (.imul, 1) := dk_104 (dk_at dksX0_swimmers_3 2 rfl rfl)
theorem dX0_swimmers_72 : decode cX0_swimmers 72 = .ok (.iadd, 1) := dk_96 (dk_at dksX0_swimmers_3 3 rfl rfl)
theorem dX0_swimmers_73 : decode cX0_swimmers 73 = .ok (.iconst 1, 1) := dk_4 (dk_at dksX0_swimmers_3 4 rfl rfl)
theorem dX0_swimmers_74 : decode cX0_swimmers 74 = .ok (.iadd, 1) := dk_96 (dk_at dksX0_swimmers_3 5 rfl rfl)
theorem dX0_swimmers_75 : decode cX0_swimmers 75 = .ok (.invokevirtual 102, 3) := dk_182 0 102 (dk_at dksX0_swimmers_3 6 rfl rfl)
theorem dX0_swimmers_78 : decode cX0_swimmers 78 = .ok (.l2i, 1) := dk_136 (dk_at dksX0_swimmers_3 9 rfl rfl)
theorem dX0_swimmers_79 : decode cX0_swimmers 79 = .ok (.istore 8, 2) := dk_54 8 (dk_at dksX0_swimmers_3 10 rfl rfl)
theorem dX0_swimmers_81 : decode cX0_swimmers 81 = .ok (.aload 5, 2) := dk_25 5 (dk_at dksX0_swimmers_3 12 rfl rfl)
theorem dX0_swimmers_83 : decode cX0_swimmers 83 = .ok (.iload_n 2, 1) := dk_28 (dk_at dksX0_swimmers_3 14 rfl rfl)
theorem dX0_swimmers_84 : decode cX0_swimmers 84 = .ok (.iconst 4, 1) := dk_7 (dk_at dksX0_swimmers_3 15 rfl rfl)
theorem dX0_swimmers_85 : decode cX0_swimmers 85 = .ok (.iload 6, 2) := dk_21 6 (dk_at dksX0_swimmers_3 16 rfl rfl)
theorem dX0_swimmers_87 : decode cX0_swimmers 87 = .ok (.imul, 1) := dk_104 (dk_at dksX0_swimmers_3 18 rfl rfl)
theorem dX0_swimmers_88 : decode cX0_swimmers 88 = .ok (.iadd, 1) := dk_96 (dk_at dksX0_swimmers_3 19 rfl rfl)
theorem dX0_swimmers_89 : decode cX0_swimmers 89 = .ok (.iconst 2, 1) := dk_5 (dk_at dksX0_swimmers_3 20 rfl rfl)
theorem dX0_swimmers_90 : decode cX0_swimmers 90 = .ok (.iadd, 1) := dk_96 (dk_at dksX0_swimmers_3 21 rfl rfl)
theorem dX0_swimmers_91 : decode cX0_swimmers 91 = .ok (.invokevirtual 102, 3) := dk_182 0 102 (dk_at dksX0_swimmers_4 0 rfl rfl)
theorem dX0_swimmers_94 : decode cX0_swimmers 94 = .ok (.l2i, 1) := dk_136 (dk_at dksX0_swimmers_4 3 rfl rfl)
theorem dX0_swimmers_95 : decode cX0_swimmers 95 = .ok (.istore 9, 2) := dk_54 9 (dk_at dksX0_swimmers_4 4 rfl rfl)
theorem dX0_swimmers_97 : decode cX0_swimmers 97 = .ok (.aload 5, 2) := dk_25 5 (dk_at dksX0_swimmers_4 6 rfl rfl)
theorem dX0_swimmers_99 : decode cX0_swimmers 99 = .ok (.iload_n 2, 1) := dk_28 (dk_at dksX0_swimmers_4 8 rfl rfl)
theorem dX0_swimmers_100 : decode cX0_swimmers 100 = .ok (.iconst 4, 1) := dk_7 (dk_at dksX0_swimmers_4 9 rfl rfl)
theorem dX0_swimmers_101 : decode cX0_swimmers 101 = .ok (.iload 6, 2) := dk_21 6 (dk_at dksX0_swimmers_4 10 rfl rfl)
theorem dX0_swimmers_103 : decode cX0_swimmers 103 = .ok (.imul, 1) := dk_104 (dk_at dksX0_swimmers_4 12 rfl rfl)
theorem dX0_swimmers_104 : decode cX0_swimmers 104 = .ok (.iadd, 1) := dk_96 (dk_at dksX0_swimmers_4 13 rfl rfl)
theorem dX0_swimmers_105 : decode cX0_swimmers 105 = .ok (.iconst 3, 1) := dk_6 (dk_at dksX0_swimmers_4 14 rfl rfl)
theorem dX0_swimmers_106 : decode cX0_swimmers 106 = .ok (.iadd, 1) := dk_96 (dk_at dksX0_swimmers_4 15 rfl rfl)
theorem dX0_swimmers_107 : decode cX0_swimmers 107 = .ok (.invokevirtual 102, 3) := dk_182 0 102 (dk_at dksX0_swimmers_4 16 rfl rfl)
theorem dX0_swimmers_110 : decode cX0_swimmers 110 = .ok (.l2i, 1) := dk_136 (dk_at dksX0_swimmers_4 19 rfl rfl)
theorem dX0_swimmers_111 : decode cX0_swimmers 111 = .ok (.istore 10, 2) := dk_54 10 (dk_at dksX0_swimmers_4 20 rfl rfl)
theorem dX0_swimmers_113 : decode cX0_swimmers 113 = .ok (.iload 7, 2) := dk_21 7 (dk_at dksX0_swimmers_4 22 rfl rfl)
theorem dX0_swimmers_115 : decode cX0_swimmers 115 = .ok (.invokestatic 89, 3) := dk_184 0 89 (dk_at dksX0_swimmers_5 0 rfl rfl)
theorem dX0_swimmers_118 : decode cX0_swimmers 118 = .ok (.ifCond .eq 34, 3) := dk_153 0 34 (dk_at dksX0_swimmers_5 3 rfl rfl)
theorem dX0_swimmers_121 : decode cX0_swimmers 121 = .ok (.iload 8, 2) := dk_21 8 (dk_at dksX0_swimmers_5 6 rfl rfl)
theorem dX0_swimmers_123 : decode cX0_swimmers 123 = .ok (.invokestatic 89, 3) := dk_184 0 89 (dk_at dksX0_swimmers_5 8 rfl rfl)
theorem dX0_swimmers_126 : decode cX0_swimmers 126 = .ok (.ifCond .eq 26, 3) := dk_153 0 26 (dk_at dksX0_swimmers_5 11 rfl rfl)
theorem dX0_swimmers_129 : decode cX0_swimmers 129 = .ok (.iload 9, 2) := dk_21 9 (dk_at dksX0_swimmers_5 14 rfl rfl)
theorem dX0_swimmers_131 : decode cX0_swimmers 131 = .ok (.iconst 1, 1) := dk_4 (dk_at dksX0_swimmers_5 16 rfl rfl)
theorem dX0_swimmers_132 : decode cX0_swimmers 132 = .ok (.bipush 9, 2) := dk_16 9 (dk_at dksX0_swimmers_5 17 rfl rfl)
theorem dX0_swimmers_134 : decode cX0_swimmers 134 = .ok (.invokestatic 82, 3) := dk_184 0 82 (dk_at dksX0_swimmers_5 19 rfl rfl)
theorem dX0_swimmers_137 : decode cX0_swimmers 137 = .ok (.ifCond .eq 15, 3) := dk_153 0 15 (dk_at dksX0_swimmers_6 0 rfl rfl)
theorem dX0_swimmers_140 : decode cX0_swimmers 140 = .ok (.iload 10, 2) := dk_21 10 (dk_at dksX0_swimmers_6 3 rfl rfl)
theorem dX0_swimmers_142 : decode cX0_swimmers 142 = .ok (.bipush (-9), 2) := dk_16 247 (dk_at dksX0_swimmers_6 5 rfl rfl)
theorem dX0_swimmers_144 : decode cX0_swimmers 144 = .ok (.bipush 9, 2) := dk_16 9 (dk_at dksX0_swimmers_6 7 rfl rfl)
theorem dX0_swimmers_146 : decode cX0_swimmers 146 = .ok (.invokestatic 82, 3) := dk_184 0 82 (dk_at dksX0_swimmers_6 9 rfl rfl)
theorem dX0_swimmers_149 : decode cX0_swimmers 149 = .ok (.ifCond .ne 6, 3) := dk_154 0 6 (dk_at dksX0_swimmers_6 12 rfl rfl)
theorem dX0_swimmers_152 : decode cX0_swimmers 152 = .ok (.iload 4, 2) := dk_21 4 (dk_at dksX0_swimmers_6 15 rfl rfl)
theorem dX0_swimmers_154 : decode cX0_swimmers 154 = .ok (.ireturn, 1) := dk_172 (dk_at dksX0_swimmers_6 17 rfl rfl)
theorem dX0_swimmers_155 : decode cX0_swimmers 155 = .ok (.aload_n 0, 1) := dk_42 (dk_at dksX0_swimmers_6 18 rfl rfl)
theorem dX0_swimmers_156 : decode cX0_swimmers 156 = .ok (.iload 7, 2) := dk_21 7 (dk_at dksX0_swimmers_6 19 rfl rfl)
theorem dX0_swimmers_158 : decode cX0_swimmers 158 = .ok (.iload 8, 2) := dk_21 8 (dk_at dksX0_swimmers_6 21 rfl rfl)
theorem dX0_swimmers_160 : decode cX0_swimmers 160 = .ok (.iload 9, 2) := dk_21 9 (dk_at dksX0_swimmers_7 0 rfl rfl)
theorem dX0_swimmers_162 : decode cX0_swimmers 162 = .ok (.invokevirtual 93, 3) := dk_182 0 93 (dk_at dksX0_swimmers_7 2 rfl rfl)
theorem dX0_swimmers_165 : decode cX0_swimmers 165 = .ok (.iload 10, 2) := dk_21 10 (dk_at dksX0_swimmers_7 5 rfl rfl)
theorem dX0_swimmers_167 : decode cX0_swimmers 167 = .ok (.putfield 106, 3) := dk_181 0 106 (dk_at dksX0_swimmers_7 7 rfl rfl)
theorem dX0_swimmers_170 : decode cX0_swimmers 170 = .ok (.iinc 4 1, 3) := dk_132 4 1 (dk_at dksX0_swimmers_7 10 rfl rfl)
theorem dX0_swimmers_173 : decode cX0_swimmers 173 = .ok (.iinc 6 1, 3) := dk_132 6 1 (dk_at dksX0_swimmers_7 13 rfl rfl)
theorem dX0_swimmers_176 : decode cX0_swimmers 176 = .ok (.goto (-140), 3) := dk_167 255 116 (dk_at dksX0_swimmers_7 16 rfl rfl)
theorem dX0_swimmers_179 : decode cX0_swimmers 179 = .ok (.goto 18, 3) := dk_167 0 18 (dk_at dksX0_swimmers_7 19 rfl rfl)
theorem dX0_swimmers_182 : decode cX0_swimmers 182 = .ok (.astore 5, 2) := dk_58 5 (dk_at dksX0_swimmers_7 22 rfl rfl)
theorem dX0_swimmers_184 : decode cX0_swimmers 184 = .ok (.bipush (-12), 2) := dk_16 244 (dk_at dksX0_swimmers_8 0 rfl rfl)
theorem dX0_swimmers_186 : decode cX0_swimmers 186 = .ok (.ireturn, 1) := dk_172 (dk_at dksX0_swimmers_8 2 rfl rfl)
theorem dX0_swimmers_187 : decode cX0_swimmers 187 = .ok (.astore 5, 2) := dk_58 5 (dk_at dksX0_swimmers_8 3 rfl rfl)
theorem dX0_swimmers_189 : decode cX0_swimmers 189 = .ok (.iload 4, 2) := dk_21 4 (dk_at dksX0_swimmers_8 5 rfl rfl)
theorem dX0_swimmers_191 : decode cX0_swimmers 191 = .ok (.ireturn, 1) := dk_172 (dk_at dksX0_swimmers_8 7 rfl rfl)
theorem dX0_swimmers_192 : decode cX0_swimmers 192 = .ok (.astore 5, 2) := dk_58 5 (dk_at dksX0_swimmers_8 8 rfl rfl)
theorem dX0_swimmers_194 : decode cX0_swimmers 194 = .ok (.iload 4, 2) := dk_21 4 (dk_at dksX0_swimmers_8 10 rfl rfl)
theorem dX0_swimmers_196 : decode cX0_swimmers 196 = .ok (.ireturn, 1) := dk_172 (dk_at dksX0_swimmers_8 12 rfl rfl)
theorem dX0_swimmers_197 : decode cX0_swimmers 197 = .ok (.iload 4, 2) := dk_21 4 (dk_at dksX0_swimmers_8 13 rfl rfl)
theorem dX0_swimmers_199 : decode cX0_swimmers 199 = .ok (.ireturn, 1) := dk_172 (dk_at dksX0_swimmers_8 15 rfl rfl)
abbrev cX0_isShelf : ByteArray := prog_1_method_79_code
def yX0_isShelf : MethodName := ⟨RX0, "isShelf", "(I)Z"⟩
def dkwX0_isShelf_0 : List UInt8 := [26, 3, 8, 184, 0, 82, 172]
abbrev dktX0_isShelf_0 : List UInt8 := dkwX0_isShelf_0 ++ []
theorem dksX0_isShelf_0 : cX0_isShelf.data.toList.drop 0 = dktX0_isShelf_0 := by decide +kernel
theorem dX0_isShelf_0 : decode cX0_isShelf 0 = .ok (.iload_n 0, 1) := dk_26 (dk_at dksX0_isShelf_0 0 rfl rfl)
theorem dX0_isShelf_1 : decode cX0_isShelf 1 = .ok (.iconst 0, 1) := dk_3 (dk_at dksX0_isShelf_0 1 rfl rfl)
theorem dX0_isShelf_2 : decode cX0_isShelf 2 = .ok (.iconst 5, 1) := dk_8 (dk_at dksX0_isShelf_0 2 rfl rfl)
theorem dX0_isShelf_3 : decode cX0_isShelf 3 = .ok (.invokestatic 82, 3) := dk_184 0 82 (dk_at dksX0_isShelf_0 3 rfl rfl)
theorem dX0_isShelf_6 : decode cX0_isShelf 6 = .ok (.ireturn, 1) := dk_172 (dk_at dksX0_isShelf_0 6 rfl rfl)
abbrev cX0_undo : ByteArray := prog_1_method_11_code
def yX0_undo : MethodName := ⟨RX0, "undo", "()I"⟩
def dkwX0_undo_3 : List UInt8 := [182, 0, 142, 42, 180, 0, 136, 172]
abbrev dktX0_undo_3 : List UInt8 := dkwX0_undo_3 ++ []
def dkwX0_undo_2 : List UInt8 := [180, 0, 24, 42, 180, 0, 136, 50, 180, 0, 148, 42, 180, 0, 24, 42, 180, 0, 136, 50, 180, 0, 150]
abbrev dktX0_undo_2 : List UInt8 := dkwX0_undo_2 ++ dktX0_undo_3
def dkwX0_undo_1 : List UInt8 := [180, 0, 133, 4, 96, 181, 0, 133, 42, 42, 180, 0, 24, 42, 180, 0, 136, 50, 180, 0, 145, 42]
abbrev dktX0_undo_1 : List UInt8 := dkwX0_undo_1 ++ dktX0_undo_2
def dkwX0_undo_0 : List UInt8 := [42, 180, 0, 136, 154, 0, 6, 16, 251, 172, 42, 89, 180, 0, 136, 4, 100, 181, 0, 136, 42, 89]
abbrev dktX0_undo_0 : List UInt8 := dkwX0_undo_0 ++ dktX0_undo_1
theorem dksX0_undo_0 : cX0_undo.data.toList.drop 0 = dktX0_undo_0 := by decide +kernel
theorem dksX0_undo_1 : cX0_undo.data.toList.drop 22 = dktX0_undo_1 := dk_seg dksX0_undo_0 22 rfl rfl
theorem dksX0_undo_2 : cX0_undo.data.toList.drop 44 = dktX0_undo_2 := dk_seg dksX0_undo_1 22 rfl rfl
theorem dksX0_undo_3 : cX0_undo.data.toList.drop 67 = dktX0_undo_3 := dk_seg dksX0_undo_2 23 rfl rfl
theorem dX0_undo_0 : decode cX0_undo 0 = .ok (.aload_n 0, 1) := dk_42 (dk_at dksX0_undo_0 0 rfl rfl)
theorem dX0_undo_1 : decode cX0_undo 1 = .ok (.getfield 136, 3) := dk_180 0 136 (dk_at dksX0_undo_0 1 rfl rfl)
theorem dX0_undo_4 : decode cX0_undo 4 = .ok (.ifCond .ne 6, 3) := dk_154 0 6 (dk_at dksX0_undo_0 4 rfl rfl)
theorem dX0_undo_7 : decode cX0_undo 7 = .ok (.bipush (-5), 2) := dk_16 251 (dk_at dksX0_undo_0 7 rfl rfl)
theorem dX0_undo_9 : decode cX0_undo 9 = .ok (.ireturn, 1) := dk_172 (dk_at dksX0_undo_0 9 rfl rfl)
theorem dX0_undo_10 : decode cX0_undo 10 = .ok (.aload_n 0, 1) := dk_42 (dk_at dksX0_undo_0 10 rfl rfl)
theorem dX0_undo_11 : decode cX0_undo 11 = .ok (.dup, 1) := dk_89 (dk_at dksX0_undo_0 11 rfl rfl)
theorem dX0_undo_12 : decode cX0_undo 12 = .ok (.getfield 136, 3) := dk_180 0 136 (dk_at dksX0_undo_0 12 rfl rfl)
theorem dX0_undo_15 : decode cX0_undo 15 = .ok (.iconst 1, 1) := dk_4 (dk_at dksX0_undo_0 15 rfl rfl)
theorem dX0_undo_16 : decode cX0_undo 16 = .ok (.isub, 1) := dk_100 (dk_at dksX0_undo_0 16 rfl rfl)
theorem dX0_undo_17 : decode cX0_undo 17 = .ok (.putfield 136, 3) := dk_181 0 136 (dk_at dksX0_undo_0 17 rfl rfl)
theorem dX0_undo_20 : decode cX0_undo 20 = .ok (.aload_n 0, 1) := dk_42 (dk_at dksX0_undo_0 20 rfl rfl)
theorem dX0_undo_21 : decode cX0_undo 21 = .ok (.dup, 1) := dk_89 (dk_at dksX0_undo_0 21 rfl rfl)
theorem dX0_undo_22 : decode cX0_undo 22 = .ok (.getfield 133, 3) := dk_180 0 133 (dk_at dksX0_undo_1 0 rfl rfl)
theorem dX0_undo_25 : decode cX0_undo 25 = .ok (.iconst 1, 1) := dk_4 (dk_at dksX0_undo_1 3 rfl rfl)
theorem dX0_undo_26 : decode cX0_undo 26 = .ok (.iadd, 1) := dk_96 (dk_at dksX0_undo_1 4 rfl rfl)
theorem dX0_undo_27 : decode cX0_undo 27 = .ok (.putfield 133, 3) := dk_181 0 133 (dk_at dksX0_undo_1 5 rfl rfl)
theorem dX0_undo_30 : decode cX0_undo 30 = .ok (.aload_n 0, 1) := dk_42 (dk_at dksX0_undo_1 8 rfl rfl)
theorem dX0_undo_31 : decode cX0_undo 31 = .ok (.aload_n 0, 1) := dk_42 (dk_at dksX0_undo_1 9 rfl rfl)
theorem dX0_undo_32 : decode cX0_undo 32 = .ok (.getfield 24, 3) := dk_180 0 24 (dk_at dksX0_undo_1 10 rfl rfl)
theorem dX0_undo_35 : decode cX0_undo 35 = .ok (.aload_n 0, 1) := dk_42 (dk_at dksX0_undo_1 13 rfl rfl)
theorem dX0_undo_36 : decode cX0_undo 36 = .ok (.getfield 136, 3) := dk_180 0 136 (dk_at dksX0_undo_1 14 rfl rfl)
theorem dX0_undo_39 : decode cX0_undo 39 = .ok (.aaload, 1) := dk_50 (dk_at dksX0_undo_1 17 rfl rfl)
theorem dX0_undo_40 : decode cX0_undo 40 = .ok (.getfield 145, 3) := dk_180 0 145 (dk_at dksX0_undo_1 18 rfl rfl)
theorem dX0_undo_43 : decode cX0_undo 43 = .ok (.aload_n 0, 1) := dk_42 (dk_at dksX0_undo_1 21 rfl rfl)
theorem dX0_undo_44 : decode cX0_undo 44 = .ok (.getfield 24, 3) := dk_180 0 24 (dk_at dksX0_undo_2 0 rfl rfl)
theorem dX0_undo_47 : decode cX0_undo 47 = .ok (.aload_n 0, 1) := dk_42 (dk_at dksX0_undo_2 3 rfl rfl)
theorem dX0_undo_48 : decode cX0_undo 48 = .ok (.getfield 136, 3) := dk_180 0 136 (dk_at dksX0_undo_2 4 rfl rfl)
theorem dX0_undo_51 : decode cX0_undo 51 = .ok (.aaload, 1) := dk_50 (dk_at dksX0_undo_2 7 rfl rfl)
theorem dX0_undo_52 : decode cX0_undo 52 = .ok (.getfield 148, 3) := dk_180 0 148 (dk_at dksX0_undo_2 8 rfl rfl)
theorem dX0_undo_55 : decode cX0_undo 55 = .ok (.aload_n 0, 1) := dk_42 (dk_at dksX0_undo_2 11 rfl rfl)
theorem dX0_undo_56 : decode cX0_undo 56 = .ok (.getfield 24, 3) := dk_180 0 24 (dk_at dksX0_undo_2 12 rfl rfl)
theorem dX0_undo_59 : decode cX0_undo 59 = .ok (.aload_n 0, 1) := dk_42 (dk_at dksX0_undo_2 15 rfl rfl)
theorem dX0_undo_60 : decode cX0_undo 60 = .ok (.getfield 136, 3) := dk_180 0 136 (dk_at dksX0_undo_2 16 rfl rfl)
theorem dX0_undo_63 : decode cX0_undo 63 = .ok (.aaload, 1) := dk_50 (dk_at dksX0_undo_2 19 rfl rfl)
theorem dX0_undo_64 : decode cX0_undo 64 = .ok (.getfield 150, 3) := dk_180 0 150 (dk_at dksX0_undo_2 20 rfl rfl)
theorem dX0_undo_67 : decode cX0_undo 67 = .ok (.invokevirtual 142, 3) := dk_182 0 142 (dk_at dksX0_undo_3 0 rfl rfl)
theorem dX0_undo_70 : decode cX0_undo 70 = .ok (.aload_n 0, 1) := dk_42 (dk_at dksX0_undo_3 3 rfl rfl)
theorem dX0_undo_71 : decode cX0_undo 71 = .ok (.getfield 136, 3) := dk_180 0 136 (dk_at dksX0_undo_3 4 rfl rfl)
theorem dX0_undo_74 : decode cX0_undo 74 = .ok (.ireturn, 1) := dk_172 (dk_at dksX0_undo_3 7 rfl rfl)
abbrev cX0_setTo : ByteArray := prog_1_method_9_code
def yX0_setTo : MethodName := ⟨RX0, "setTo", "(III)V"⟩
def dkwX0_setTo_6 : List UInt8 := [42, 29, 181, 0, 19, 177]
abbrev dktX0_setTo_6 : List UInt8 := dkwX0_setTo_6 ++ []
def dkwX0_setTo_5 : List UInt8 := [50, 29, 181, 0, 127, 167, 0, 24, 42, 29, 181, 0, 130, 167, 0, 16, 42, 29, 181, 0, 15, 167, 0, 8]
abbrev dktX0_setTo_5 : List UInt8 := dkwX0_setTo_5 ++ dktX0_setTo_6
def dkwX0_setTo_4 : List UInt8 := [181, 0, 124, 167, 0, 50, 42, 180, 0, 11, 28, 50, 29, 181, 0, 106, 167, 0, 37, 42, 180, 0, 11, 28]
abbrev dktX0_setTo_4 : List UInt8 := dkwX0_setTo_4 ++ dktX0_setTo_5
def dkwX0_setTo_3 : List UInt8 := [167, 0, 76, 42, 180, 0, 11, 28, 50, 29, 181, 0, 121, 167, 0, 63, 42, 180, 0, 11, 28, 50, 29]
abbrev dktX0_setTo_3 : List UInt8 := dkwX0_setTo_3 ++ dktX0_setTo_4
def dkwX0_setTo_2 : List UInt8 := [42, 180, 0, 11, 28, 50, 29, 181, 0, 115, 167, 0, 89, 42, 180, 0, 11, 28, 50, 29, 181, 0, 118]
abbrev dktX0_setTo_2 : List UInt8 := dkwX0_setTo_2 ++ dktX0_setTo_3
def dkwX0_setTo_1 : List UInt8 := [170, 0, 0, 0, 0, 0, 141, 0, 0, 0, 0, 0, 0, 0, 7, 0, 0, 0, 47, 0, 0, 0, 60, 0, 0, 0, 73, 0, 0, 0, 86, 0, 0, 0, 99, 0, 0, 0, 112, 0, 0, 0, 125, 0, 0, 0, 133]
abbrev dktX0_setTo_1 : List UInt8 := dkwX0_setTo_1 ++ dktX0_setTo_2
def dkwX0_setTo_0 : List UInt8 := [27]
abbrev dktX0_setTo_0 : List UInt8 := dkwX0_setTo_0 ++ dktX0_setTo_1
theorem dksX0_setTo_0 : cX0_setTo.data.toList.drop 0 = dktX0_setTo_0 := by decide +kernel
theorem dksX0_setTo_1 : cX0_setTo.data.toList.drop 1 = dktX0_setTo_1 := dk_seg dksX0_setTo_0 1 rfl rfl
theorem dksX0_setTo_2 : cX0_setTo.data.toList.drop 48 = dktX0_setTo_2 := dk_seg dksX0_setTo_1 47 rfl rfl
theorem dksX0_setTo_3 : cX0_setTo.data.toList.drop 71 = dktX0_setTo_3 := dk_seg dksX0_setTo_2 23 rfl rfl
theorem dksX0_setTo_4 : cX0_setTo.data.toList.drop 94 = dktX0_setTo_4 := dk_seg dksX0_setTo_3 23 rfl rfl
theorem dksX0_setTo_5 : cX0_setTo.data.toList.drop 118 = dktX0_setTo_5 := dk_seg dksX0_setTo_4 24 rfl rfl
theorem dksX0_setTo_6 : cX0_setTo.data.toList.drop 142 = dktX0_setTo_6 := dk_seg dksX0_setTo_5 24 rfl rfl
theorem dX0_setTo_0 : decode cX0_setTo 0 = .ok (.iload_n 1, 1) := dk_27 (dk_at dksX0_setTo_0 0 rfl rfl)
theorem dX0_setTo_1 : decode cX0_setTo 1 = .ok (.tableswitch 141 0 7 #[47, 60, 73, 86, 99, 112, 125, 133], 47) := by decide +kernel
theorem dX0_setTo_48 : decode cX0_setTo 48 = .ok (.aload_n 0, 1) := dk_42 (dk_at dksX0_setTo_2 0 rfl rfl)
theorem dX0_setTo_49 : decode cX0_setTo 49 = .ok (.getfield 11, 3) := dk_180 0 11 (dk_at dksX0_setTo_2 1 rfl rfl)
theorem dX0_setTo_52 : decode cX0_setTo 52 = .ok (.iload_n 2, 1) := dk_28 (dk_at dksX0_setTo_2 4 rfl rfl)
theorem dX0_setTo_53 : decode cX0_setTo 53 = .ok (.aaload, 1) := dk_50 (dk_at dksX0_setTo_2 5 rfl rfl)
theorem dX0_setTo_54 : decode cX0_setTo 54 = .ok (.iload_n 3, 1) := dk_29 (dk_at dksX0_setTo_2 6 rfl rfl)
theorem dX0_setTo_55 : decode cX0_setTo 55 = .ok (.putfield 115, 3) := dk_181 0 115 (dk_at dksX0_setTo_2 7 rfl rfl)
theorem dX0_setTo_58 : decode cX0_setTo 58 = .ok (.goto 89, 3) := dk_167 0 89 (dk_at dksX0_setTo_2 10 rfl rfl)
theorem dX0_setTo_61 : decode cX0_setTo 61 = .ok (.aload_n 0, 1) := dk_42 (dk_at dksX0_setTo_2 13 rfl rfl)
theorem dX0_setTo_62 : decode cX0_setTo 62 = .ok (.getfield 11, 3) := dk_180 0 11 (dk_at dksX0_setTo_2 14 rfl rfl)
theorem dX0_setTo_65 : decode cX0_setTo 65 = .ok (.iload_n 2, 1) := dk_28 (dk_at dksX0_setTo_2 17 rfl rfl)
theorem dX0_setTo_66 : decode cX0_setTo 66 = .ok (.aaload, 1) := dk_50 (dk_at dksX0_setTo_2 18 rfl rfl)
theorem dX0_setTo_67 : decode cX0_setTo 67 = .ok (.iload_n 3, 1) := dk_29 (dk_at dksX0_setTo_2 19 rfl rfl)
theorem dX0_setTo_68 : decode cX0_setTo 68 = .ok (.putfield 118, 3) := dk_181 0 118 (dk_at dksX0_setTo_2 20 rfl rfl)
theorem dX0_setTo_71 : decode cX0_setTo 71 = .ok (.goto 76, 3) := dk_167 0 76 (dk_at dksX0_setTo_3 0 rfl rfl)
theorem dX0_setTo_74 : decode cX0_setTo 74 = .ok (.aload_n 0, 1) := dk_42 (dk_at dksX0_setTo_3 3 rfl rfl)
theorem dX0_setTo_75 : decode cX0_setTo 75 = .ok (.getfield 11, 3) := dk_180 0 11 (dk_at dksX0_setTo_3 4 rfl rfl)
theorem dX0_setTo_78 : decode cX0_setTo 78 = .ok (.iload_n 2, 1) := dk_28 (dk_at dksX0_setTo_3 7 rfl rfl)
theorem dX0_setTo_79 : decode cX0_setTo 79 = .ok (.aaload, 1) := dk_50 (dk_at dksX0_setTo_3 8 rfl rfl)
theorem dX0_setTo_80 : decode cX0_setTo 80 = .ok (.iload_n 3, 1) := dk_29 (dk_at dksX0_setTo_3 9 rfl rfl)
theorem dX0_setTo_81 : decode cX0_setTo 81 = .ok (.putfield 121, 3) := dk_181 0 121 (dk_at dksX0_setTo_3 10 rfl rfl)
theorem dX0_setTo_84 : decode cX0_setTo 84 = .ok (.goto 63, 3) := dk_167 0 63 (dk_at dksX0_setTo_3 13 rfl rfl)
theorem dX0_setTo_87 : decode cX0_setTo 87 = .ok (.aload_n 0, 1) := dk_42 (dk_at dksX0_setTo_3 16 rfl rfl)
theorem dX0_setTo_88 : decode cX0_setTo 88 = .ok (.getfield 11, 3) := dk_180 0 11 (dk_at dksX0_setTo_3 17 rfl rfl)
theorem dX0_setTo_91 : decode cX0_setTo 91 = .ok (.iload_n 2, 1) := dk_28 (dk_at dksX0_setTo_3 20 rfl rfl)
theorem dX0_setTo_92 : decode cX0_setTo 92 = .ok (.aaload, 1) := dk_50 (dk_at dksX0_setTo_3 21 rfl rfl)
theorem dX0_setTo_93 : decode cX0_setTo 93 = .ok (.iload_n 3, 1) := dk_29 (dk_at dksX0_setTo_3 22 rfl rfl)
theorem dX0_setTo_94 : decode cX0_setTo 94 = .ok (.putfield 124, 3) := dk_181 0 124 (dk_at dksX0_setTo_4 0 rfl rfl)
theorem dX0_setTo_97 : decode cX0_setTo 97 = .ok (.goto 50, 3) := dk_167 0 50 (dk_at dksX0_setTo_4 3 rfl rfl)
theorem dX0_setTo_100 : decode cX0_setTo 100 = .ok (.aload_n 0, 1) := dk_42 (dk_at dksX0_setTo_4 6 rfl rfl)
theorem dX0_setTo_101 : decode cX0_setTo 101 = .ok (.getfield 11, 3) := dk_180 0 11 (dk_at dksX0_setTo_4 7 rfl rfl)
theorem dX0_setTo_104 : decode cX0_setTo 104 = .ok (.iload_n 2, 1) := dk_28 (dk_at dksX0_setTo_4 10 rfl rfl)
theorem dX0_setTo_105 : decode cX0_setTo 105 = .ok (.aaload, 1) := dk_50 (dk_at dksX0_setTo_4 11 rfl rfl)
theorem dX0_setTo_106 : decode cX0_setTo 106 = .ok (.iload_n 3, 1) := dk_29 (dk_at dksX0_setTo_4 12 rfl rfl)
theorem dX0_setTo_107 : decode cX0_setTo 107 = .ok (.putfield 106, 3) := dk_181 0 106 (dk_at dksX0_setTo_4 13 rfl rfl)
theorem dX0_setTo_110 : decode cX0_setTo 110 = .ok (.goto 37, 3) := dk_167 0 37 (dk_at dksX0_setTo_4 16 rfl rfl)
theorem dX0_setTo_113 : decode cX0_setTo 113 = .ok (.aload_n 0, 1) := dk_42 (dk_at dksX0_setTo_4 19 rfl rfl)
theorem dX0_setTo_114 : decode cX0_setTo 114 = .ok (.getfield 11, 3) := dk_180 0 11 (dk_at dksX0_setTo_4 20 rfl rfl)
theorem dX0_setTo_117 : decode cX0_setTo 117 = .ok (.iload_n 2, 1) := dk_28 (dk_at dksX0_setTo_4 23 rfl rfl)
theorem dX0_setTo_118 : decode cX0_setTo 118 = .ok (.aaload, 1) := dk_50 (dk_at dksX0_setTo_5 0 rfl rfl)
theorem dX0_setTo_119 : decode cX0_setTo 119 = .ok (.iload_n 3, 1) := dk_29 (dk_at dksX0_setTo_5 1 rfl rfl)
theorem dX0_setTo_120 : decode cX0_setTo 120 = .ok (.putfield 127, 3) := dk_181 0 127 (dk_at dksX0_setTo_5 2 rfl rfl)
theorem dX0_setTo_123 : decode cX0_setTo 123 = .ok (.goto 24, 3) := dk_167 0 24 (dk_at dksX0_setTo_5 5 rfl rfl)
theorem dX0_setTo_126 : decode cX0_setTo 126 = .ok (.aload_n 0, 1) := dk_42 (dk_at dksX0_setTo_5 8 rfl rfl)
theorem dX0_setTo_127 : decode cX0_setTo 127 = .ok (.iload_n 3, 1) := dk_29 (dk_at dksX0_setTo_5 9 rfl rfl)
theorem dX0_setTo_128 : decode cX0_setTo 128 = .ok (.putfield 130, 3) := dk_181 0 130 (dk_at dksX0_setTo_5 10 rfl rfl)
theorem dX0_setTo_131 : decode cX0_setTo 131 = .ok (.goto 16, 3) := dk_167 0 16 (dk_at dksX0_setTo_5 13 rfl rfl)
theorem dX0_setTo_134 : decode cX0_setTo 134 = .ok (.aload_n 0, 1) := dk_42 (dk_at dksX0_setTo_5 16 rfl rfl)
theorem dX0_setTo_135 : decode cX0_setTo 135 = .ok (.iload_n 3, 1) := dk_29 (dk_at dksX0_setTo_5 17 rfl rfl)
theorem dX0_setTo_136 : decode cX0_setTo 136 = .ok (.putfield 15, 3) := dk_181 0 15 (dk_at dksX0_setTo_5 18 rfl rfl)
theorem dX0_setTo_139 : decode cX0_setTo 139 = .ok (.goto 8, 3) := dk_167 0 8 (dk_at dksX0_setTo_5 21 rfl rfl)
theorem dX0_setTo_142 : decode cX0_setTo 142 = .ok (.aload_n 0, 1) := dk_42 (dk_at dksX0_setTo_6 0 rfl rfl)
theorem dX0_setTo_143 : decode cX0_setTo 143 = .ok (.iload_n 3, 1) := dk_29 (dk_at dksX0_setTo_6 1 rfl rfl)
theorem dX0_setTo_144 : decode cX0_setTo 144 = .ok (.putfield 19, 3) := dk_181 0 19 (dk_at dksX0_setTo_6 2 rfl rfl)
theorem dX0_setTo_147 : decode cX0_setTo 147 = .ok (.return_, 1) := dk_177 (dk_at dksX0_setTo_6 5 rfl rfl)
abbrev cX0_redo : ByteArray := prog_1_method_12_code
def yX0_redo : MethodName := ⟨RX0, "redo", "()I"⟩
def dkwX0_redo_3 : List UInt8 := [180, 0, 133, 172]
abbrev dktX0_redo_3 : List UInt8 := dkwX0_redo_3 ++ []
def dkwX0_redo_2 : List UInt8 := [182, 0, 142, 42, 89, 180, 0, 136, 4, 96, 181, 0, 136, 42, 89, 180, 0, 133, 4, 100, 181, 0, 133, 42]
abbrev dktX0_redo_2 : List UInt8 := dkwX0_redo_2 ++ dktX0_redo_3
def dkwX0_redo_1 : List UInt8 := [180, 0, 24, 42, 180, 0, 136, 50, 180, 0, 148, 42, 180, 0, 24, 42, 180, 0, 136, 50, 180, 0, 153]
abbrev dktX0_redo_1 : List UInt8 := dkwX0_redo_1 ++ dktX0_redo_2
def dkwX0_redo_0 : List UInt8 := [42, 180, 0, 133, 154, 0, 6, 16, 251, 172, 42, 42, 180, 0, 24, 42, 180, 0, 136, 50, 180, 0, 145, 42]
abbrev dktX0_redo_0 : List UInt8 := dkwX0_redo_0 ++ dktX0_redo_1
theorem dksX0_redo_0 : cX0_redo.data.toList.drop 0 = dktX0_redo_0 := by decide +kernel
theorem dksX0_redo_1 : cX0_redo.data.toList.drop 24 = dktX0_redo_1 := dk_seg dksX0_redo_0 24 rfl rfl
theorem dksX0_redo_2 : cX0_redo.data.toList.drop 47 = dktX0_redo_2 := dk_seg dksX0_redo_1 23 rfl rfl
theorem dksX0_redo_3 : cX0_redo.data.toList.drop 71 = dktX0_redo_3 := dk_seg dksX0_redo_2 24 rfl rfl
theorem dX0_redo_0 : decode cX0_redo 0 = .ok (.aload_n 0, 1) := dk_42 (dk_at dksX0_redo_0 0 rfl rfl)
theorem dX0_redo_1 : decode cX0_redo 1 = .ok (.getfield 133, 3) := dk_180 0 133 (dk_at dksX0_redo_0 1 rfl rfl)
theorem dX0_redo_4 : decode cX0_redo 4 = .ok (.ifCond .ne 6, 3) := dk_154 0 6 (dk_at dksX0_redo_0 4 rfl rfl)
theorem dX0_redo_7 : decode cX0_redo 7 = .ok (.bipush (-5), 2) := dk_16 251 (dk_at dksX0_redo_0 7 rfl rfl)
theorem dX0_redo_9 : decode cX0_redo 9 = .ok (.ireturn, 1) := dk_172 (dk_at dksX0_redo_0 9 rfl rfl)
theorem dX0_redo_10 : decode cX0_redo 10 = .ok (.aload_n 0, 1) := dk_42 (dk_at dksX0_redo_0 10 rfl rfl)
theorem dX0_redo_11 : decode cX0_redo 11 = .ok (.aload_n 0, 1) := dk_42 (dk_at dksX0_redo_0 11 rfl rfl)
theorem dX0_redo_12 : decode cX0_redo 12 = .ok (.getfield 24, 3) := dk_180 0 24 (dk_at dksX0_redo_0 12 rfl rfl)
theorem dX0_redo_15 : decode cX0_redo 15 = .ok (.aload_n 0, 1) := dk_42 (dk_at dksX0_redo_0 15 rfl rfl)
theorem dX0_redo_16 : decode cX0_redo 16 = .ok (.getfield 136, 3) := dk_180 0 136 (dk_at dksX0_redo_0 16 rfl rfl)
theorem dX0_redo_19 : decode cX0_redo 19 = .ok (.aaload, 1) := dk_50 (dk_at dksX0_redo_0 19 rfl rfl)
theorem dX0_redo_20 : decode cX0_redo 20 = .ok (.getfield 145, 3) := dk_180 0 145 (dk_at dksX0_redo_0 20 rfl rfl)
theorem dX0_redo_23 : decode cX0_redo 23 = .ok (.aload_n 0, 1) := dk_42 (dk_at dksX0_redo_0 23 rfl rfl)
theorem dX0_redo_24 : decode cX0_redo 24 = .ok (.getfield 24, 3) := dk_180 0 24 (dk_at dksX0_redo_1 0 rfl rfl)
theorem dX0_redo_27 : decode cX0_redo 27 = .ok (.aload_n 0, 1) := dk_42 (dk_at dksX0_redo_1 3 rfl rfl)
theorem dX0_redo_28 : decode cX0_redo 28 = .ok (.getfield 136, 3) := dk_180 0 136 (dk_at dksX0_redo_1 4 rfl rfl)
theorem dX0_redo_31 : decode cX0_redo 31 = .ok (.aaload, 1) := dk_50 (dk_at dksX0_redo_1 7 rfl rfl)
theorem dX0_redo_32 : decode cX0_redo 32 = .ok (.getfield 148, 3) := dk_180 0 148 (dk_at dksX0_redo_1 8 rfl rfl)
theorem dX0_redo_35 : decode cX0_redo 35 = .ok (.aload_n 0, 1) := dk_42 (dk_at dksX0_redo_1 11 rfl rfl)
theorem dX0_redo_36 : decode cX0_redo 36 = .ok (.getfield 24, 3) := dk_180 0 24 (dk_at dksX0_redo_1 12 rfl rfl)
theorem dX0_redo_39 : decode cX0_redo 39 = .ok (.aload_n 0, 1) := dk_42 (dk_at dksX0_redo_1 15 rfl rfl)
theorem dX0_redo_40 : decode cX0_redo 40 = .ok (.getfield 136, 3) := dk_180 0 136 (dk_at dksX0_redo_1 16 rfl rfl)
theorem dX0_redo_43 : decode cX0_redo 43 = .ok (.aaload, 1) := dk_50 (dk_at dksX0_redo_1 19 rfl rfl)
theorem dX0_redo_44 : decode cX0_redo 44 = .ok (.getfield 153, 3) := dk_180 0 153 (dk_at dksX0_redo_1 20 rfl rfl)
theorem dX0_redo_47 : decode cX0_redo 47 = .ok (.invokevirtual 142, 3) := dk_182 0 142 (dk_at dksX0_redo_2 0 rfl rfl)
theorem dX0_redo_50 : decode cX0_redo 50 = .ok (.aload_n 0, 1) := dk_42 (dk_at dksX0_redo_2 3 rfl rfl)
theorem dX0_redo_51 : decode cX0_redo 51 = .ok (.dup, 1) := dk_89 (dk_at dksX0_redo_2 4 rfl rfl)
theorem dX0_redo_52 : decode cX0_redo 52 = .ok (.getfield 136, 3) := dk_180 0 136 (dk_at dksX0_redo_2 5 rfl rfl)
theorem dX0_redo_55 : decode cX0_redo 55 = .ok (.iconst 1, 1) := dk_4 (dk_at dksX0_redo_2 8 rfl rfl)
theorem dX0_redo_56 : decode cX0_redo 56 = .ok (.iadd, 1) := dk_96 (dk_at dksX0_redo_2 9 rfl rfl)
theorem dX0_redo_57 : decode cX0_redo 57 = .ok (.putfield 136, 3) := dk_181 0 136 (dk_at dksX0_redo_2 10 rfl rfl)
theorem dX0_redo_60 : decode cX0_redo 60 = .ok (.aload_n 0, 1) := dk_42 (dk_at dksX0_redo_2 13 rfl rfl)
theorem dX0_redo_61 : decode cX0_redo 61 = .ok (.dup, 1) := dk_89 (dk_at dksX0_redo_2 14 rfl rfl)
theorem dX0_redo_62 : decode cX0_redo 62 = .ok (.getfield 133, 3) := dk_180 0 133 (dk_at dksX0_redo_2 15 rfl rfl)
theorem dX0_redo_65 : decode cX0_redo 65 = .ok (.iconst 1, 1) := dk_4 (dk_at dksX0_redo_2 18 rfl rfl)
theorem dX0_redo_66 : decode cX0_redo 66 = .ok (.isub, 1) := dk_100 (dk_at dksX0_redo_2 19 rfl rfl)
theorem dX0_redo_67 : decode cX0_redo 67 = .ok (.putfield 133, 3) := dk_181 0 133 (dk_at dksX0_redo_2 20 rfl rfl)
theorem dX0_redo_70 : decode cX0_redo 70 = .ok (.aload_n 0, 1) := dk_42 (dk_at dksX0_redo_2 23 rfl rfl)
theorem dX0_redo_71 : decode cX0_redo 71 = .ok (.getfield 133, 3) := dk_180 0 133 (dk_at dksX0_redo_3 0 rfl rfl)
theorem dX0_redo_74 : decode cX0_redo 74 = .ok (.ireturn, 1) := dk_172 (dk_at dksX0_redo_3 3 rfl rfl)
abbrev cX0_mend : ByteArray := prog_1_method_16_code
def yX0_mend : MethodName := ⟨RX0, "mend", "(III)I"⟩
def dkwX0_mend_1 : List UInt8 := [182, 0, 166, 29, 182, 0, 170, 167, 0, 5, 18, 174, 172]
abbrev dktX0_mend_1 : List UInt8 := dkwX0_mend_1 ++ []
def dkwX0_mend_0 : List UInt8 := [42, 27, 28, 182, 0, 159, 153, 0, 27, 28, 29, 184, 0, 163, 153, 0, 19, 42, 28, 27, 42, 27, 28]
abbrev dktX0_mend_0 : List UInt8 := dkwX0_mend_0 ++ dktX0_mend_1
theorem dksX0_mend_0 : cX0_mend.data.toList.drop 0 = dktX0_mend_0 := by decide +kernel
theorem dksX0_mend_1 : cX0_mend.data.toList.drop 23 = dktX0_mend_1 := dk_seg dksX0_mend_0 23 rfl rfl
theorem dX0_mend_0 : decode cX0_mend 0 = .ok (.aload_n 0, 1) := dk_42 (dk_at dksX0_mend_0 0 rfl rfl)
theorem dX0_mend_1 : decode cX0_mend 1 = .ok (.iload_n 1, 1) := dk_27 (dk_at dksX0_mend_0 1 rfl rfl)
theorem dX0_mend_2 : decode cX0_mend 2 = .ok (.iload_n 2, 1) := dk_28 (dk_at dksX0_mend_0 2 rfl rfl)
theorem dX0_mend_3 : decode cX0_mend 3 = .ok (.invokevirtual 159, 3) := dk_182 0 159 (dk_at dksX0_mend_0 3 rfl rfl)
theorem dX0_mend_6 : decode cX0_mend 6 = .ok (.ifCond .eq 27, 3) := dk_153 0 27 (dk_at dksX0_mend_0 6 rfl rfl)
theorem dX0_mend_9 : decode cX0_mend 9 = .ok (.iload_n 2, 1) := dk_28 (dk_at dksX0_mend_0 9 rfl rfl)
theorem dX0_mend_10 : decode cX0_mend 10 = .ok (.iload_n 3, 1) := dk_29 (dk_at dksX0_mend_0 10 rfl rfl)
theorem dX0_mend_11 : decode cX0_mend 11 = .ok (.invokestatic 163, 3) := dk_184 0 163 (dk_at dksX0_mend_0 11 rfl rfl)
theorem dX0_mend_14 : decode cX0_mend 14 = .ok (.ifCond .eq 19, 3) := dk_153 0 19 (dk_at dksX0_mend_0 14 rfl rfl)
theorem dX0_mend_17 : decode cX0_mend 17 = .ok (.aload_n 0, 1) := dk_42 (dk_at dksX0_mend_0 17 rfl rfl)
theorem dX0_mend_18 : decode cX0_mend 18 = .ok (.iload_n 2, 1) := dk_28 (dk_at dksX0_mend_0 18 rfl rfl)
theorem dX0_mend_19 : decode cX0_mend 19 = .ok (.iload_n 1, 1) := dk_27 (dk_at dksX0_mend_0 19 rfl rfl)
theorem dX0_mend_20 : decode cX0_mend 20 = .ok (.aload_n 0, 1) := dk_42 (dk_at dksX0_mend_0 20 rfl rfl)
theorem dX0_mend_21 : decode cX0_mend 21 = .ok (.iload_n 1, 1) := dk_27 (dk_at dksX0_mend_0 21 rfl rfl)
theorem dX0_mend_22 : decode cX0_mend 22 = .ok (.iload_n 2, 1) := dk_28 (dk_at dksX0_mend_0 22 rfl rfl)
theorem dX0_mend_23 : decode cX0_mend 23 = .ok (.invokevirtual 166, 3) := dk_182 0 166 (dk_at dksX0_mend_1 0 rfl rfl)
theorem dX0_mend_26 : decode cX0_mend 26 = .ok (.iload_n 3, 1) := dk_29 (dk_at dksX0_mend_1 3 rfl rfl)
theorem dX0_mend_27 : decode cX0_mend 27 = .ok (.invokevirtual 170, 3) := dk_182 0 170 (dk_at dksX0_mend_1 4 rfl rfl)
theorem dX0_mend_30 : decode cX0_mend 30 = .ok (.goto 5, 3) := dk_167 0 5 (dk_at dksX0_mend_1 7 rfl rfl)
theorem dX0_mend_33 : decode cX0_mend 33 = .ok (.ldc 174, 2) := dk_18 174 (dk_at dksX0_mend_1 10 rfl rfl)
theorem dX0_mend_35 : decode cX0_mend 35 = .ok (.ireturn, 1) := dk_172 (dk_at dksX0_mend_1 12 rfl rfl)
abbrev cX0_isOf : ByteArray := prog_1_method_13_code
def yX0_isOf : MethodName := ⟨RX0, "isOf", "(II)Z"⟩
def dkwX0_isOf_1 : List UInt8 := [184, 0, 82, 153, 0, 11, 27, 154, 0, 7, 4, 167, 0, 4, 3, 172]
abbrev dktX0_isOf_1 : List UInt8 := dkwX0_isOf_1 ++ []
def dkwX0_isOf_0 : List UInt8 := [28, 3, 8, 184, 0, 82, 153, 0, 11, 42, 27, 182, 0, 156, 167, 0, 23, 28, 16, 6, 16, 8]
abbrev dktX0_isOf_0 : List UInt8 := dkwX0_isOf_0 ++ dktX0_isOf_1
theorem dksX0_isOf_0 : cX0_isOf.data.toList.drop 0 = dktX0_isOf_0 := by decide +kernel
theorem dksX0_isOf_1 : cX0_isOf.data.toList.drop 22 = dktX0_isOf_1 := dk_seg dksX0_isOf_0 22 rfl rfl
theorem dX0_isOf_0 : decode cX0_isOf 0 = .ok (.iload_n 2, 1) := dk_28 (dk_at dksX0_isOf_0 0 rfl rfl)
theorem dX0_isOf_1 : decode cX0_isOf 1 = .ok (.iconst 0, 1) := dk_3 (dk_at dksX0_isOf_0 1 rfl rfl)
theorem dX0_isOf_2 : decode cX0_isOf 2 = .ok (.iconst 5, 1) := dk_8 (dk_at dksX0_isOf_0 2 rfl rfl)
theorem dX0_isOf_3 : decode cX0_isOf 3 = .ok (.invokestatic 82, 3) := dk_184 0 82 (dk_at dksX0_isOf_0 3 rfl rfl)
theorem dX0_isOf_6 : decode cX0_isOf 6 = .ok (.ifCond .eq 11, 3) := dk_153 0 11 (dk_at dksX0_isOf_0 6 rfl rfl)
theorem dX0_isOf_9 : decode cX0_isOf 9 = .ok (.aload_n 0, 1) := dk_42 (dk_at dksX0_isOf_0 9 rfl rfl)
theorem dX0_isOf_10 : decode cX0_isOf 10 = .ok (.iload_n 1, 1) := dk_27 (dk_at dksX0_isOf_0 10 rfl rfl)
theorem dX0_isOf_11 : decode cX0_isOf 11 = .ok (.invokevirtual 156, 3) := dk_182 0 156 (dk_at dksX0_isOf_0 11 rfl rfl)
theorem dX0_isOf_14 : decode cX0_isOf 14 = .ok (.goto 23, 3) := dk_167 0 23 (dk_at dksX0_isOf_0 14 rfl rfl)
theorem dX0_isOf_17 : decode cX0_isOf 17 = .ok (.iload_n 2, 1) := dk_28 (dk_at dksX0_isOf_0 17 rfl rfl)
theorem dX0_isOf_18 : decode cX0_isOf 18 = .ok (.bipush 6, 2) := dk_16 6 (dk_at dksX0_isOf_0 18 rfl rfl)
theorem dX0_isOf_20 : decode cX0_isOf 20 = .ok (.bipush 8, 2) := dk_16 8 (dk_at dksX0_isOf_0 20 rfl rfl)
theorem dX0_isOf_22 : decode cX0_isOf 22 = .ok (.invokestatic 82, 3) := dk_184 0 82 (dk_at dksX0_isOf_1 0 rfl rfl)
theorem dX0_isOf_25 : decode cX0_isOf 25 = .ok (.ifCond .eq 11, 3) := dk_153 0 11 (dk_at dksX0_isOf_1 3 rfl rfl)
theorem dX0_isOf_28 : decode cX0_isOf 28 = .ok (.iload_n 1, 1) := dk_27 (dk_at dksX0_isOf_1 6 rfl rfl)
theorem dX0_isOf_29 : decode cX0_isOf 29 = .ok (.ifCond .ne 7, 3) := dk_154 0 7 (dk_at dksX0_isOf_1 7 rfl rfl)
theorem dX0_isOf_32 : decode cX0_isOf 32 = .ok (.iconst 1, 1) := dk_4 (dk_at dksX0_isOf_1 10 rfl rfl)
theorem dX0_isOf_33 : decode cX0_isOf 33 = .ok (.goto 4, 3) := dk_167 0 4 (dk_at dksX0_isOf_1 11 rfl rfl)
theorem dX0_isOf_36 : decode cX0_isOf 36 = .ok (.iconst 0, 1) := dk_3 (dk_at dksX0_isOf_1 14 rfl rfl)
theorem dX0_isOf_37 : decode cX0_isOf 37 = .ok (.ireturn, 1) := dk_172 (dk_at dksX0_isOf_1 15 rfl rfl)
abbrev cX0_isOne : ByteArray := prog_1_method_4_code
def yX0_isOne : MethodName := ⟨RX0, "isOne", "(I)Z"⟩
def dkwX0_isOne_0 : List UInt8 := [27, 3, 42, 180, 0, 79, 4, 100, 184, 0, 82, 172]
abbrev dktX0_isOne_0 : List UInt8 := dkwX0_isOne_0 ++ []
theorem dksX0_isOne_0 : cX0_isOne.data.toList.drop 0 = dktX0_isOne_0 := by decide +kernel
theorem dX0_isOne_0 : decode cX0_isOne 0 = .ok (.iload_n 1, 1) := dk_27 (dk_at dksX0_isOne_0 0 rfl rfl)
theorem dX0_isOne_1 : decode cX0_isOne 1 = .ok (.iconst 0, 1) := dk_3 (dk_at dksX0_isOne_0 1 rfl rfl)
theorem dX0_isOne_2 : decode cX0_isOne 2 = .ok (.aload_n 0, 1) := dk_42 (dk_at dksX0_isOne_0 2 rfl rfl)
theorem dX0_isOne_3 : decode cX0_isOne 3 = .ok (.getfield 79, 3) := dk_180 0 79 (dk_at dksX0_isOne_0 3 rfl rfl)
theorem dX0_isOne_6 : decode cX0_isOne 6 = .ok (.iconst 1, 1) := dk_4 (dk_at dksX0_isOne_0 6 rfl rfl)
theorem dX0_isOne_7 : decode cX0_isOne 7 = .ok (.isub, 1) := dk_100 (dk_at dksX0_isOne_0 7 rfl rfl)
theorem dX0_isOne_8 : decode cX0_isOne 8 = .ok (.invokestatic 82, 3) := dk_184 0 82 (dk_at dksX0_isOne_0 8 rfl rfl)
theorem dX0_isOne_11 : decode cX0_isOne 11 = .ok (.ireturn, 1) := dk_172 (dk_at dksX0_isOne_0 11 rfl rfl)
abbrev cX0_mayBe : ByteArray := prog_1_method_15_code
def yX0_mayBe : MethodName := ⟨RX0, "mayBe", "(II)Z"⟩
def dkwX0_mayBe_4 : List UInt8 := [184, 0, 82, 172, 27, 4, 16, 9, 184, 0, 82, 172, 27, 184, 0, 89, 172]
abbrev dktX0_mayBe_4 : List UInt8 := dkwX0_mayBe_4 ++ []
def dkwX0_mayBe_3 : List UInt8 := [172, 27, 3, 16, 99, 184, 0, 82, 172, 27, 3, 16, 7, 184, 0, 82, 172, 27, 4, 17, 3, 231]
abbrev dktX0_mayBe_3 : List UInt8 := dkwX0_mayBe_3 ++ dktX0_mayBe_4
def dkwX0_mayBe_2 : List UInt8 := [27, 4, 16, 9, 184, 0, 82, 172, 27, 4, 16, 60, 184, 0, 82, 172, 27, 16, 247, 16, 9, 184, 0, 82]
abbrev dktX0_mayBe_2 : List UInt8 := dkwX0_mayBe_2 ++ dktX0_mayBe_3
def dkwX0_mayBe_1 : List UInt8 := [170, 0, 0, 0, 0, 0, 101, 0, 0, 0, 2, 0, 0, 0, 8, 0, 0, 0, 43, 0, 0, 0, 51, 0, 0, 0, 59, 0, 0, 0, 68, 0, 0, 0, 76, 0, 0, 0, 84, 0, 0, 0, 93]
abbrev dktX0_mayBe_1 : List UInt8 := dkwX0_mayBe_1 ++ dktX0_mayBe_2
def dkwX0_mayBe_0 : List UInt8 := [26]
abbrev dktX0_mayBe_0 : List UInt8 := dkwX0_mayBe_0 ++ dktX0_mayBe_1
theorem dksX0_mayBe_0 : cX0_mayBe.data.toList.drop 0 = dktX0_mayBe_0 := by decide +kernel
theorem dksX0_mayBe_1 : cX0_mayBe.data.toList.drop 1 = dktX0_mayBe_1 := dk_seg dksX0_mayBe_0 1 rfl rfl
theorem dksX0_mayBe_2 : cX0_mayBe.data.toList.drop 44 = dktX0_mayBe_2 := dk_seg dksX0_mayBe_1 43 rfl rfl
theorem dksX0_mayBe_3 : cX0_mayBe.data.toList.drop 68 = dktX0_mayBe_3 := dk_seg dksX0_mayBe_2 24 rfl rfl
theorem dksX0_mayBe_4 : cX0_mayBe.data.toList.drop 90 = dktX0_mayBe_4 := dk_seg dksX0_mayBe_3 22 rfl rfl
theorem dX0_mayBe_0 : decode cX0_mayBe 0 = .ok (.iload_n 0, 1) := dk_26 (dk_at dksX0_mayBe_0 0 rfl rfl)
theorem dX0_mayBe_1 : decode cX0_mayBe 1 = .ok (.tableswitch 101 2 8 #[43, 51, 59, 68, 76, 84, 93], 43) := by decide +kernel
theorem dX0_mayBe_44 : decode cX0_mayBe 44 = .ok (.iload_n 1, 1) := dk_27 (dk_at dksX0_mayBe_2 0 rfl rfl)
theorem dX0_mayBe_45 : decode cX0_mayBe 45 = .ok (.iconst 1, 1) := dk_4 (dk_at dksX0_mayBe_2 1 rfl rfl)
theorem dX0_mayBe_46 : decode cX0_mayBe 46 = .ok (.bipush 9, 2) := dk_16 9 (dk_at dksX0_mayBe_2 2 rfl rfl)
theorem dX0_mayBe_48 : decode cX0_mayBe 48 = .ok (.invokestatic 82, 3) := dk_184 0 82 (dk_at dksX0_mayBe_2 4 rfl rfl)
theorem dX0_mayBe_51 : decode cX0_mayBe 51 = .ok (.ireturn, 1) := dk_172 (dk_at dksX0_mayBe_2 7 rfl rfl)
theorem dX0_mayBe_52 : decode cX0_mayBe 52 = .ok (.iload_n 1, 1) := dk_27 (dk_at dksX0_mayBe_2 8 rfl rfl)
theorem dX0_mayBe_53 : decode cX0_mayBe 53 = .ok (.iconst 1, 1) := dk_4 (dk_at dksX0_mayBe_2 9 rfl rfl)
theorem dX0_mayBe_54 : decode cX0_mayBe 54 = .ok (.bipush 60, 2) := dk_16 60 (dk_at dksX0_mayBe_2 10 rfl rfl)
theorem dX0_mayBe_56 : decode cX0_mayBe 56 = .ok (.invokestatic 82, 3) := dk_184 0 82 (dk_at dksX0_mayBe_2 12 rfl rfl)
theorem dX0_mayBe_59 : decode cX0_mayBe 59 = .ok (.ireturn, 1) := dk_172 (dk_at dksX0_mayBe_2 15 rfl rfl)
theorem dX0_mayBe_60 : decode cX0_mayBe 60 = .ok (.iload_n 1, 1) := dk_27 (dk_at dksX0_mayBe_2 16 rfl rfl)
theorem dX0_mayBe_61 : decode cX0_mayBe 61 = .ok (.bipush (-9), 2) := dk_16 247 (dk_at dksX0_mayBe_2 17 rfl rfl)
theorem dX0_mayBe_63 : decode cX0_mayBe 63 = .ok (.bipush 9, 2) := dk_16 9 (dk_at dksX0_mayBe_2 19 rfl rfl)
theorem dX0_mayBe_65 : decode cX0_mayBe 65 = .ok (.invokestatic 82, 3) := dk_184 0 82 (dk_at dksX0_mayBe_2 21 rfl rfl)
theorem dX0_mayBe_68 : decode cX0_mayBe 68 = .ok (.ireturn, 1) := dk_172 (dk_at dksX0_mayBe_3 0 rfl rfl)
theorem dX0_mayBe_69 : decode cX0_mayBe 69 = .ok (.iload_n 1, 1) := dk_27 (dk_at dksX0_mayBe_3 1 rfl rfl)
theorem dX0_mayBe_70 : decode cX0_mayBe 70 = .ok (.iconst 0, 1) := dk_3 (dk_at dksX0_mayBe_3 2 rfl rfl)
theorem dX0_mayBe_71 : decode cX0_mayBe 71 = .ok (.bipush 99, 2) := dk_16 99 (dk_at dksX0_mayBe_3 3 rfl rfl)
theorem dX0_mayBe_73 : decode cX0_mayBe 73 = .ok (.invokestatic 82, 3) := dk_184 0 82 (dk_at dksX0_mayBe_3 5 rfl rfl)
theorem dX0_mayBe_76 : decode cX0_mayBe 76 = .ok (.ireturn, 1) := dk_172 (dk_at dksX0_mayBe_3 8 rfl rfl)
theorem dX0_mayBe_77 : decode cX0_mayBe 77 = .ok (.iload_n 1, 1) := dk_27 (dk_at dksX0_mayBe_3 9 rfl rfl)
theorem dX0_mayBe_78 : decode cX0_mayBe 78 = .ok (.iconst 0, 1) := dk_3 (dk_at dksX0_mayBe_3 10 rfl rfl)
theorem dX0_mayBe_79 : decode cX0_mayBe 79 = .ok (.bipush 7, 2) := dk_16 7 (dk_at dksX0_mayBe_3 11 rfl rfl)
theorem dX0_mayBe_81 : decode cX0_mayBe 81 = .ok (.invokestatic 82, 3) := dk_184 0 82 (dk_at dksX0_mayBe_3 13 rfl rfl)
theorem dX0_mayBe_84 : decode cX0_mayBe 84 = .ok (.ireturn, 1) := dk_172 (dk_at dksX0_mayBe_3 16 rfl rfl)
theorem dX0_mayBe_85 : decode cX0_mayBe 85 = .ok (.iload_n 1, 1) := dk_27 (dk_at dksX0_mayBe_3 17 rfl rfl)
theorem dX0_mayBe_86 : decode cX0_mayBe 86 = .ok (.iconst 1, 1) := dk_4 (dk_at dksX0_mayBe_3 18 rfl rfl)
theorem dX0_mayBe_87 : decode cX0_mayBe 87 = .ok (.sipush 999, 3) := dk_17 3 231 (dk_at dksX0_mayBe_3 19 rfl rfl)
theorem dX0_mayBe_90 : decode cX0_mayBe 90 = .ok (.invokestatic 82, 3) := dk_184 0 82 (dk_at dksX0_mayBe_4 0 rfl rfl)
theorem dX0_mayBe_93 : decode cX0_mayBe 93 = .ok (.ireturn, 1) := dk_172 (dk_at dksX0_mayBe_4 3 rfl rfl)
theorem dX0_mayBe_94 : decode cX0_mayBe 94 = .ok (.iload_n 1, 1) := dk_27 (dk_at dksX0_mayBe_4 4 rfl rfl)
theorem dX0_mayBe_95 : decode cX0_mayBe 95 = .ok (.iconst 1, 1) := dk_4 (dk_at dksX0_mayBe_4 5 rfl rfl)
theorem dX0_mayBe_96 : decode cX0_mayBe 96 = .ok (.bipush 9, 2) := dk_16 9 (dk_at dksX0_mayBe_4 6 rfl rfl)
theorem dX0_mayBe_98 : decode cX0_mayBe 98 = .ok (.invokestatic 82, 3) := dk_184 0 82 (dk_at dksX0_mayBe_4 8 rfl rfl)
theorem dX0_mayBe_101 : decode cX0_mayBe 101 = .ok (.ireturn, 1) := dk_172 (dk_at dksX0_mayBe_4 11 rfl rfl)
theorem dX0_mayBe_102 : decode cX0_mayBe 102 = .ok (.iload_n 1, 1) := dk_27 (dk_at dksX0_mayBe_4 12 rfl rfl)
theorem dX0_mayBe_103 : decode cX0_mayBe 103 = .ok (.invokestatic 89, 3) := dk_184 0 89 (dk_at dksX0_mayBe_4 13 rfl rfl)
theorem dX0_mayBe_106 : decode cX0_mayBe 106 = .ok (.ireturn, 1) := dk_172 (dk_at dksX0_mayBe_4 16 rfl rfl)
abbrev cX0_valueOf : ByteArray := prog_1_method_14_code
def yX0_valueOf : MethodName := ⟨RX0, "valueOf", "(II)I"⟩
def dkwX0_valueOf_5 : List UInt8 := [42, 180, 0, 19, 172]
abbrev dktX0_valueOf_5 : List UInt8 := dkwX0_valueOf_5 ++ []
def dkwX0_valueOf_4 : List UInt8 := [180, 0, 106, 172, 42, 180, 0, 11, 27, 50, 180, 0, 127, 172, 42, 180, 0, 130, 172, 42, 180, 0, 15, 172]
abbrev dktX0_valueOf_4 : List UInt8 := dkwX0_valueOf_4 ++ dktX0_valueOf_5
def dkwX0_valueOf_3 : List UInt8 := [27, 50, 180, 0, 121, 172, 42, 180, 0, 11, 27, 50, 180, 0, 124, 172, 42, 180, 0, 11, 27, 50]
abbrev dktX0_valueOf_3 : List UInt8 := dkwX0_valueOf_3 ++ dktX0_valueOf_4
def dkwX0_valueOf_2 : List UInt8 := [42, 180, 0, 11, 27, 50, 180, 0, 115, 172, 42, 180, 0, 11, 27, 50, 180, 0, 118, 172, 42, 180, 0, 11]
abbrev dktX0_valueOf_2 : List UInt8 := dkwX0_valueOf_2 ++ dktX0_valueOf_3
def dkwX0_valueOf_1 : List UInt8 := [170, 0, 0, 0, 0, 0, 117, 0, 0, 0, 0, 0, 0, 0, 7, 0, 0, 0, 47, 0, 0, 0, 57, 0, 0, 0, 67, 0, 0, 0, 77, 0, 0, 0, 87, 0, 0, 0, 97, 0, 0, 0, 107, 0, 0, 0, 112]
abbrev dktX0_valueOf_1 : List UInt8 := dkwX0_valueOf_1 ++ dktX0_valueOf_2
def dkwX0_valueOf_0 : List UInt8 := [28]
abbrev dktX0_valueOf_0 : List UInt8 := dkwX0_valueOf_0 ++ dktX0_valueOf_1
theorem dksX0_valueOf_0 : cX0_valueOf.data.toList.drop 0 = dktX0_valueOf_0 := by decide +kernel
theorem dksX0_valueOf_1 : cX0_valueOf.data.toList.drop 1 = dktX0_valueOf_1 := dk_seg dksX0_valueOf_0 1 rfl rfl
theorem dksX0_valueOf_2 : cX0_valueOf.data.toList.drop 48 = dktX0_valueOf_2 := dk_seg dksX0_valueOf_1 47 rfl rfl
theorem dksX0_valueOf_3 : cX0_valueOf.data.toList.drop 72 = dktX0_valueOf_3 := dk_seg dksX0_valueOf_2 24 rfl rfl
theorem dksX0_valueOf_4 : cX0_valueOf.data.toList.drop 94 = dktX0_valueOf_4 := dk_seg dksX0_valueOf_3 22 rfl rfl
theorem dksX0_valueOf_5 : cX0_valueOf.data.toList.drop 118 = dktX0_valueOf_5 := dk_seg dksX0_valueOf_4 24 rfl rfl
theorem dX0_valueOf_0 : decode cX0_valueOf 0 = .ok (.iload_n 2, 1) := dk_28 (dk_at dksX0_valueOf_0 0 rfl rfl)
theorem dX0_valueOf_1 : decode cX0_valueOf 1 = .ok (.tableswitch 117 0 7 #[47, 57, 67, 77, 87, 97, 107, 112], 47) := by decide +kernel
theorem dX0_valueOf_48 : decode cX0_valueOf 48 = .ok (.aload_n 0, 1) := dk_42 (dk_at dksX0_valueOf_2 0 rfl rfl)
theorem dX0_valueOf_49 : decode cX0_valueOf 49 = .ok (.getfield 11, 3) := dk_180 0 11 (dk_at dksX0_valueOf_2 1 rfl rfl)
theorem dX0_valueOf_52 : decode cX0_valueOf 52 = .ok (.iload_n 1, 1) := dk_27 (dk_at dksX0_valueOf_2 4 rfl rfl)
theorem dX0_valueOf_53 : decode cX0_valueOf 53 = .ok (.aaload, 1) := dk_50 (dk_at dksX0_valueOf_2 5 rfl rfl)
theorem dX0_valueOf_54 : decode cX0_valueOf 54 = .ok (.getfield 115, 3) := dk_180 0 115 (dk_at dksX0_valueOf_2 6 rfl rfl)
theorem dX0_valueOf_57 : decode cX0_valueOf 57 = .ok (.ireturn, 1) := dk_172 (dk_at dksX0_valueOf_2 9 rfl rfl)
theorem dX0_valueOf_58 : decode cX0_valueOf 58 = .ok (.aload_n 0, 1) := dk_42 (dk_at dksX0_valueOf_2 10 rfl rfl)
theorem dX0_valueOf_59 : decode cX0_valueOf 59 = .ok (.getfield 11, 3) := dk_180 0 11 (dk_at dksX0_valueOf_2 11 rfl rfl)
theorem dX0_valueOf_62 : decode cX0_valueOf 62 = .ok (.iload_n 1, 1) := dk_27 (dk_at dksX0_valueOf_2 14 rfl rfl)
theorem dX0_valueOf_63 : decode cX0_valueOf 63 = .ok (.aaload, 1) := dk_50 (dk_at dksX0_valueOf_2 15 rfl rfl)
theorem dX0_valueOf_64 : decode cX0_valueOf 64 = .ok (.getfield 118, 3) := dk_180 0 118 (dk_at dksX0_valueOf_2 16 rfl rfl)
theorem dX0_valueOf_67 : decode cX0_valueOf 67 = .ok (.ireturn, 1) := dk_172 (dk_at dksX0_valueOf_2 19 rfl rfl)
theorem dX0_valueOf_68 : decode cX0_valueOf 68 = .ok (.aload_n 0, 1) := dk_42 (dk_at dksX0_valueOf_2 20 rfl rfl)
theorem dX0_valueOf_69 : decode cX0_valueOf 69 = .ok (.getfield 11, 3) := dk_180 0 11 (dk_at dksX0_valueOf_2 21 rfl rfl)
theorem dX0_valueOf_72 : decode cX0_valueOf 72 = .ok (.iload_n 1, 1) := dk_27 (dk_at dksX0_valueOf_3 0 rfl rfl)
theorem dX0_valueOf_73 : decode cX0_valueOf 73 = .ok (.aaload, 1) := dk_50 (dk_at dksX0_valueOf_3 1 rfl rfl)
theorem dX0_valueOf_74 : decode cX0_valueOf 74 = .ok (.getfield 121, 3) := dk_180 0 121 (dk_at dksX0_valueOf_3 2 rfl rfl)
theorem dX0_valueOf_77 : decode cX0_valueOf 77 = .ok (.ireturn, 1) := dk_172 (dk_at dksX0_valueOf_3 5 rfl rfl)
theorem dX0_valueOf_78 : decode cX0_valueOf 78 = .ok (.aload_n 0, 1) := dk_42 (dk_at dksX0_valueOf_3 6 rfl rfl)
theorem dX0_valueOf_79 : decode cX0_valueOf 79 = .ok (.getfield 11, 3) := dk_180 0 11 (dk_at dksX0_valueOf_3 7 rfl rfl)
theorem dX0_valueOf_82 : decode cX0_valueOf 82 = .ok (.iload_n 1, 1) := dk_27 (dk_at dksX0_valueOf_3 10 rfl rfl)
theorem dX0_valueOf_83 : decode cX0_valueOf 83 = .ok (.aaload, 1) := dk_50 (dk_at dksX0_valueOf_3 11 rfl rfl)
theorem dX0_valueOf_84 : decode cX0_valueOf 84 = .ok (.getfield 124, 3) := dk_180 0 124 (dk_at dksX0_valueOf_3 12 rfl rfl)
theorem dX0_valueOf_87 : decode cX0_valueOf 87 = .ok (.ireturn, 1) := dk_172 (dk_at dksX0_valueOf_3 15 rfl rfl)
theorem dX0_valueOf_88 : decode cX0_valueOf 88 = .ok (.aload_n 0, 1) := dk_42 (dk_at dksX0_valueOf_3 16 rfl rfl)
theorem dX0_valueOf_89 : decode cX0_valueOf 89 = .ok (.getfield 11, 3) := dk_180 0 11 (dk_at dksX0_valueOf_3 17 rfl rfl)
theorem dX0_valueOf_92 : decode cX0_valueOf 92 = .ok (.iload_n 1, 1) := dk_27 (dk_at dksX0_valueOf_3 20 rfl rfl)
theorem dX0_valueOf_93 : decode cX0_valueOf 93 = .ok (.aaload, 1) := dk_50 (dk_at dksX0_valueOf_3 21 rfl rfl)
theorem dX0_valueOf_94 : decode cX0_valueOf 94 = .ok (.getfield 106, 3) := dk_180 0 106 (dk_at dksX0_valueOf_4 0 rfl rfl)
theorem dX0_valueOf_97 : decode cX0_valueOf 97 = .ok (.ireturn, 1) := dk_172 (dk_at dksX0_valueOf_4 3 rfl rfl)
theorem dX0_valueOf_98 : decode cX0_valueOf 98 = .ok (.aload_n 0, 1) := dk_42 (dk_at dksX0_valueOf_4 4 rfl rfl)
theorem dX0_valueOf_99 : decode cX0_valueOf 99 = .ok (.getfield 11, 3) := dk_180 0 11 (dk_at dksX0_valueOf_4 5 rfl rfl)
theorem dX0_valueOf_102 : decode cX0_valueOf 102 = .ok (.iload_n 1, 1) := dk_27 (dk_at dksX0_valueOf_4 8 rfl rfl)
theorem dX0_valueOf_103 : decode cX0_valueOf 103 = .ok (.aaload, 1) := dk_50 (dk_at dksX0_valueOf_4 9 rfl rfl)
theorem dX0_valueOf_104 : decode cX0_valueOf 104 = .ok (.getfield 127, 3) := dk_180 0 127 (dk_at dksX0_valueOf_4 10 rfl rfl)
theorem dX0_valueOf_107 : decode cX0_valueOf 107 = .ok (.ireturn, 1) := dk_172 (dk_at dksX0_valueOf_4 13 rfl rfl)
theorem dX0_valueOf_108 : decode cX0_valueOf 108 = .ok (.aload_n 0, 1) := dk_42 (dk_at dksX0_valueOf_4 14 rfl rfl)
theorem dX0_valueOf_109 : decode cX0_valueOf 109 = .ok (.getfield 130, 3) := dk_180 0 130 (dk_at dksX0_valueOf_4 15 rfl rfl)
theorem dX0_valueOf_112 : decode cX0_valueOf 112 = .ok (.ireturn, 1) := dk_172 (dk_at dksX0_valueOf_4 18 rfl rfl)
theorem dX0_valueOf_113 : decode cX0_valueOf 113 = .ok (.aload_n 0, 1) := dk_42 (dk_at dksX0_valueOf_4 19 rfl rfl)
theorem dX0_valueOf_114 : decode cX0_valueOf 114 = .ok (.getfield 15, 3) := dk_180 0 15 (dk_at dksX0_valueOf_4 20 rfl rfl)
theorem dX0_valueOf_117 : decode cX0_valueOf 117 = .ok (.ireturn, 1) := dk_172 (dk_at dksX0_valueOf_4 23 rfl rfl)
theorem dX0_valueOf_118 : decode cX0_valueOf 118 = .ok (.aload_n 0, 1) := dk_42 (dk_at dksX0_valueOf_5 0 rfl rfl)
theorem dX0_valueOf_119 : decode cX0_valueOf 119 = .ok (.getfield 19, 3) := dk_180 0 19 (dk_at dksX0_valueOf_5 1 rfl rfl)
theorem dX0_valueOf_122 : decode cX0_valueOf 122 = .ok (.ireturn, 1) := dk_172 (dk_at dksX0_valueOf_5 4 rfl rfl)
abbrev cX0_become : ByteArray := prog_1_method_10_code
def yX0_become : MethodName := ⟨RX0, "become", "(IIII)I"⟩
def dkwX0_become_4 : List UInt8 := [181, 0, 136, 42, 27, 28, 21, 4, 182, 0, 142, 29, 172]
abbrev dktX0_become_4 : List UInt8 := dkwX0_become_4 ++ []
def dkwX0_become_3 : List UInt8 := [180, 0, 136, 187, 0, 22, 89, 27, 28, 29, 21, 4, 183, 0, 139, 83, 42, 89, 180, 0, 136, 4, 96]
abbrev dktX0_become_3 : List UInt8 := dkwX0_become_3 ++ dktX0_become_4
def dkwX0_become_2 : List UInt8 := [83, 132, 5, 1, 167, 255, 230, 42, 89, 180, 0, 136, 4, 100, 181, 0, 136, 42, 180, 0, 24, 42]
abbrev dktX0_become_2 : List UInt8 := dkwX0_become_2 ++ dktX0_become_3
def dkwX0_become_1 : List UInt8 := [54, 5, 21, 5, 16, 40, 162, 0, 25, 42, 180, 0, 24, 21, 5, 4, 100, 42, 180, 0, 24, 21, 5, 50]
abbrev dktX0_become_1 : List UInt8 := dkwX0_become_1 ++ dktX0_become_2
def dkwX0_become_0 : List UInt8 := [29, 21, 4, 160, 0, 5, 29, 172, 42, 3, 181, 0, 133, 42, 180, 0, 136, 16, 40, 160, 0, 45, 4]
abbrev dktX0_become_0 : List UInt8 := dkwX0_become_0 ++ dktX0_become_1
theorem dksX0_become_0 : cX0_become.data.toList.drop 0 = dktX0_become_0 := by decide +kernel
theorem dksX0_become_1 : cX0_become.data.toList.drop 23 = dktX0_become_1 := dk_seg dksX0_become_0 23 rfl rfl
theorem dksX0_become_2 : cX0_become.data.toList.drop 47 = dktX0_become_2 := dk_seg dksX0_become_1 24 rfl rfl
theorem dksX0_become_3 : cX0_become.data.toList.drop 69 = dktX0_become_3 := dk_seg dksX0_become_2 22 rfl rfl
theorem dksX0_become_4 : cX0_become.data.toList.drop 92 = dktX0_become_4 := dk_seg dksX0_become_3 23 rfl rfl
theorem dX0_become_0 : decode cX0_become 0 = .ok (.iload_n 3, 1) := dk_29 (dk_at dksX0_become_0 0 rfl rfl)
theorem dX0_become_1 : decode cX0_become 1 = .ok (.iload 4, 2) := dk_21 4 (dk_at dksX0_become_0 1 rfl rfl)
theorem dX0_become_3 : decode cX0_become 3 = .ok (.if_icmp .ne 5, 3) := dk_160 0 5 (dk_at dksX0_become_0 3 rfl rfl)
theorem dX0_become_6 : decode cX0_become 6 = .ok (.iload_n 3, 1) := dk_29 (dk_at dksX0_become_0 6 rfl rfl)
theorem dX0_become_7 : decode cX0_become 7 = .ok (.ireturn, 1) := dk_172 (dk_at dksX0_become_0 7 rfl rfl)
theorem dX0_become_8 : decode cX0_become 8 = .ok (.aload_n 0, 1) := dk_42 (dk_at dksX0_become_0 8 rfl rfl)
theorem dX0_become_9 : decode cX0_become 9 = .ok (.iconst 0, 1) := dk_3 (dk_at dksX0_become_0 9 rfl rfl)
theorem dX0_become_10 : decode cX0_become 10 = .ok (.putfield 133, 3) := dk_181 0 133 (dk_at dksX0_become_0 10 rfl rfl)
theorem dX0_become_13 : decode cX0_become 13 = .ok (.aload_n 0, 1) := dk_42 (dk_at dksX0_become_0 13 rfl rfl)
theorem dX0_become_14 : decode cX0_become 14 = .ok (.getfield 136, 3) := dk_180 0 136 (dk_at dksX0_become_0 14 rfl rfl)
theorem dX0_become_17 : decode cX0_become 17 = .ok (.bipush 40, 2) := dk_16 40 (dk_at dksX0_become_0 17 rfl rfl)
theorem dX0_become_19 : decode cX0_become 19 = .ok (.if_icmp .ne 45, 3) := dk_160 0 45 (dk_at dksX0_become_0 19 rfl rfl)
theorem dX0_become_22 : decode cX0_become 22 = .ok (.iconst 1, 1) := dk_4 (dk_at dksX0_become_0 22 rfl rfl)
theorem dX0_become_23 : decode cX0_become 23 = .ok (.istore 5, 2) := dk_54 5 (dk_at dksX0_become_1 0 rfl rfl)
theorem dX0_become_25 : decode cX0_become 25 = .ok (.iload 5, 2) := dk_21 5 (dk_at dksX0_become_1 2 rfl rfl)
theorem dX0_become_27 : decode cX0_become 27 = .ok (.bipush 40, 2) := dk_16 40 (dk_at dksX0_become_1 4 rfl rfl)
theorem dX0_become_29 : decode cX0_become 29 = .ok (.if_icmp .ge 25, 3) := dk_162 0 25 (dk_at dksX0_become_1 6 rfl rfl)
theorem dX0_become_32 : decode cX0_become 32 = .ok (.aload_n 0, 1) := dk_42 (dk_at dksX0_become_1 9 rfl rfl)
theorem dX0_become_33 : decode cX0_become 33 = .ok (.getfield 24, 3) := dk_180 0 24 (dk_at dksX0_become_1 10 rfl rfl)
theorem dX0_become_36 : decode cX0_become 36 = .ok (.iload 5, 2) := dk_21 5 (dk_at dksX0_become_1 13 rfl rfl)
theorem dX0_become_38 : decode cX0_become 38 = .ok (.iconst 1, 1) := dk_4 (dk_at dksX0_become_1 15 rfl rfl)
theorem dX0_become_39 : decode cX0_become 39 = .ok (.isub, 1) := dk_100 (dk_at dksX0_become_1 16 rfl rfl)
theorem dX0_become_40 : decode cX0_become 40 = .ok (.aload_n 0, 1) := dk_42 (dk_at dksX0_become_1 17 rfl rfl)
theorem dX0_become_41 : decode cX0_become 41 = .ok (.getfield 24, 3) := dk_180 0 24 (dk_at dksX0_become_1 18 rfl rfl)
theorem dX0_become_44 : decode cX0_become 44 = .ok (.iload 5, 2) := dk_21 5 (dk_at dksX0_become_1 21 rfl rfl)
theorem dX0_become_46 : decode cX0_become 46 = .ok (.aaload, 1) := dk_50 (dk_at dksX0_become_1 23 rfl rfl)
theorem dX0_become_47 : decode cX0_become 47 = .ok (.aastore, 1) := dk_83 (dk_at dksX0_become_2 0 rfl rfl)
theorem dX0_become_48 : decode cX0_become 48 = .ok (.iinc 5 1, 3) := dk_132 5 1 (dk_at dksX0_become_2 1 rfl rfl)
theorem dX0_become_51 : decode cX0_become 51 = .ok (.goto (-26), 3) := dk_167 255 230 (dk_at dksX0_become_2 4 rfl rfl)
theorem dX0_become_54 : decode cX0_become 54 = .ok (.aload_n 0, 1) := dk_42 (dk_at dksX0_become_2 7 rfl rfl)
theorem dX0_become_55 : decode cX0_become 55 = .ok (.dup, 1) := dk_89 (dk_at dksX0_become_2 8 rfl rfl)
theorem dX0_become_56 : decode cX0_become 56 = .ok (.getfield 136, 3) := dk_180 0 136 (dk_at dksX0_become_2 9 rfl rfl)
theorem dX0_become_59 : decode cX0_become 59 = .ok (.iconst 1, 1) := dk_4 (dk_at dksX0_become_2 12 rfl rfl)
theorem dX0_become_60 : decode cX0_become 60 = .ok (.isub, 1) := dk_100 (dk_at dksX0_become_2 13 rfl rfl)
theorem dX0_become_61 : decode cX0_become 61 = .ok (.putfield 136, 3) := dk_181 0 136 (dk_at dksX0_become_2 14 rfl rfl)
theorem dX0_become_64 : decode cX0_become 64 = .ok (.aload_n 0, 1) := dk_42 (dk_at dksX0_become_2 17 rfl rfl)
theorem dX0_become_65 : decode cX0_become 65 = .ok (.getfield 24, 3) := dk_180 0 24 (dk_at dksX0_become_2 18 rfl rfl)
theorem dX0_become_68 : decode cX0_become 68 = .ok (.aload_n 0, 1) := dk_42 (dk_at dksX0_become_2 21 rfl rfl)
theorem dX0_become_69 : decode cX0_become 69 = .ok (.getfield 136, 3) := dk_180 0 136 (dk_at dksX0_become_3 0 rfl rfl)
theorem dX0_become_72 : decode cX0_become 72 = .ok (.new 22, 3) := dk_187 0 22 (dk_at dksX0_become_3 3 rfl rfl)
theorem dX0_become_75 : decode cX0_become 75 = .ok (.dup, 1) := dk_89 (dk_at dksX0_become_3 6 rfl rfl)
theorem dX0_become_76 : decode cX0_become 76 = .ok (.iload_n 1, 1) := dk_27 (dk_at dksX0_become_3 7 rfl rfl)
theorem dX0_become_77 : decode cX0_become 77 = .ok (.iload_n 2, 1) := dk_28 (dk_at dksX0_become_3 8 rfl rfl)
theorem dX0_become_78 : decode cX0_become 78 = .ok (.iload_n 3, 1) := dk_29 (dk_at dksX0_become_3 9 rfl rfl)
theorem dX0_become_79 : decode cX0_become 79 = .ok (.iload 4, 2) := dk_21 4 (dk_at dksX0_become_3 10 rfl rfl)
theorem dX0_become_81 : decode cX0_become 81 = .ok (.invokespecial 139, 3) := dk_183 0 139 (dk_at dksX0_become_3 12 rfl rfl)
theorem dX0_become_84 : decode cX0_become 84 = .ok (.aastore, 1) := dk_83 (dk_at dksX0_become_3 15 rfl rfl)
theorem dX0_become_85 : decode cX0_become 85 = .ok (.aload_n 0, 1) := dk_42 (dk_at dksX0_become_3 16 rfl rfl)
theorem dX0_become_86 : decode cX0_become 86 = .ok (.dup, 1) := dk_89 (dk_at dksX0_become_3 17 rfl rfl)
theorem dX0_become_87 : decode cX0_become 87 = .ok (.getfield 136, 3) := dk_180 0 136 (dk_at dksX0_become_3 18 rfl rfl)
theorem dX0_become_90 : decode cX0_become 90 = .ok (.iconst 1, 1) := dk_4 (dk_at dksX0_become_3 21 rfl rfl)
theorem dX0_become_91 : decode cX0_become 91 = .ok (.iadd, 1) := dk_96 (dk_at dksX0_become_3 22 rfl rfl)
theorem dX0_become_92 : decode cX0_become 92 = .ok (.putfield 136, 3) := dk_181 0 136 (dk_at dksX0_become_4 0 rfl rfl)
theorem dX0_become_95 : decode cX0_become 95 = .ok (.aload_n 0, 1) := dk_42 (dk_at dksX0_become_4 3 rfl rfl)
theorem dX0_become_96 : decode cX0_become 96 = .ok (.iload_n 1, 1) := dk_27 (dk_at dksX0_become_4 4 rfl rfl)
theorem dX0_become_97 : decode cX0_become 97 = .ok (.iload_n 2, 1) := dk_28 (dk_at dksX0_become_4 5 rfl rfl)
theorem dX0_become_98 : decode cX0_become 98 = .ok (.iload 4, 2) := dk_21 4 (dk_at dksX0_become_4 6 rfl rfl)
theorem dX0_become_100 : decode cX0_become 100 = .ok (.invokevirtual 142, 3) := dk_182 0 142 (dk_at dksX0_become_4 8 rfl rfl)
theorem dX0_become_103 : decode cX0_become 103 = .ok (.iload_n 3, 1) := dk_29 (dk_at dksX0_become_4 11 rfl rfl)
theorem dX0_become_104 : decode cX0_become 104 = .ok (.ireturn, 1) := dk_172 (dk_at dksX0_become_4 12 rfl rfl)
abbrev cX0_of : ByteArray := prog_1_method_17_code
def yX0_of : MethodName := ⟨RX0, "of", "(II)I"⟩
def dkwX0_of_3 : List UInt8 := [172]
abbrev dktX0_of_3 : List UInt8 := dkwX0_of_3 ++ []
def dkwX0_of_2 : List UInt8 := [180, 0, 178, 172, 42, 27, 28, 182, 0, 159, 153, 0, 12, 42, 27, 28, 182, 0, 166, 167, 0, 5, 18, 174]
abbrev dktX0_of_2 : List UInt8 := dkwX0_of_2 ++ dktX0_of_3
def dkwX0_of_1 : List UInt8 := [28, 16, 9, 160, 0, 15, 42, 180, 0, 11, 27, 50, 180, 0, 175, 167, 0, 12, 42, 180, 0, 11, 27, 50]
abbrev dktX0_of_1 : List UInt8 := dkwX0_of_1 ++ dktX0_of_2
def dkwX0_of_0 : List UInt8 := [28, 16, 9, 16, 10, 184, 0, 82, 153, 0, 44, 42, 27, 182, 0, 156, 154, 0, 8, 18, 174, 167, 0, 30]
abbrev dktX0_of_0 : List UInt8 := dkwX0_of_0 ++ dktX0_of_1
theorem dksX0_of_0 : cX0_of.data.toList.drop 0 = dktX0_of_0 := by decide +kernel
theorem dksX0_of_1 : cX0_of.data.toList.drop 24 = dktX0_of_1 := dk_seg dksX0_of_0 24 rfl rfl
theorem dksX0_of_2 : cX0_of.data.toList.drop 48 = dktX0_of_2 := dk_seg dksX0_of_1 24 rfl rfl
theorem dksX0_of_3 : cX0_of.data.toList.drop 72 = dktX0_of_3 := dk_seg dksX0_of_2 24 rfl rfl
theorem dX0_of_0 : decode cX0_of 0 = .ok (.iload_n 2, 1) := dk_28 (dk_at dksX0_of_0 0 rfl rfl)
theorem dX0_of_1 : decode cX0_of 1 = .ok (.bipush 9, 2) := dk_16 9 (dk_at dksX0_of_0 1 rfl rfl)
theorem dX0_of_3 : decode cX0_of 3 = .ok (.bipush 10, 2) := dk_16 10 (dk_at dksX0_of_0 3 rfl rfl)
theorem dX0_of_5 : decode cX0_of 5 = .ok (.invokestatic 82, 3) := dk_184 0 82 (dk_at dksX0_of_0 5 rfl rfl)
theorem dX0_of_8 : decode cX0_of 8 = .ok (.ifCond .eq 44, 3) := dk_153 0 44 (dk_at dksX0_of_0 8 rfl rfl)
theorem dX0_of_11 : decode cX0_of 11 = .ok (.aload_n 0, 1) := dk_42 (dk_at dksX0_of_0 11 rfl rfl)
theorem dX0_of_12 : decode cX0_of 12 = .ok (.iload_n 1, 1) := dk_27 (dk_at dksX0_of_0 12 rfl rfl)
theorem dX0_of_13 : decode cX0_of 13 = .ok (.invokevirtual 156, 3) := dk_182 0 156 (dk_at dksX0_of_0 13 rfl rfl)
theorem dX0_of_16 : decode cX0_of 16 = .ok (.ifCond .ne 8, 3) := dk_154 0 8 (dk_at dksX0_of_0 16 rfl rfl)
theorem dX0_of_19 : decode cX0_of 19 = .ok (.ldc 174, 2) := dk_18 174 (dk_at dksX0_of_0 19 rfl rfl)
theorem dX0_of_21 : decode cX0_of 21 = .ok (.goto 30, 3) := dk_167 0 30 (dk_at dksX0_of_0 21 rfl rfl)
theorem dX0_of_24 : decode cX0_of 24 = .ok (.iload_n 2, 1) := dk_28 (dk_at dksX0_of_1 0 rfl rfl)
theorem dX0_of_25 : decode cX0_of 25 = .ok (.bipush 9, 2) := dk_16 9 (dk_at dksX0_of_1 1 rfl rfl)
theorem dX0_of_27 : decode cX0_of 27 = .ok (.if_icmp .ne 15, 3) := dk_160 0 15 (dk_at dksX0_of_1 3 rfl rfl)
theorem dX0_of_30 : decode cX0_of 30 = .ok (.aload_n 0, 1) := dk_42 (dk_at dksX0_of_1 6 rfl rfl)
theorem dX0_of_31 : decode cX0_of 31 = .ok (.getfield 11, 3) := dk_180 0 11 (dk_at dksX0_of_1 7 rfl rfl)
theorem dX0_of_34 : decode cX0_of 34 = .ok (.iload_n 1, 1) := dk_27 (dk_at dksX0_of_1 10 rfl rfl)
theorem dX0_of_35 : decode cX0_of 35 = .ok (.aaload, 1) := dk_50 (dk_at dksX0_of_1 11 rfl rfl)
theorem dX0_of_36 : decode cX0_of 36 = .ok (.getfield 175, 3) := dk_180 0 175 (dk_at dksX0_of_1 12 rfl rfl)
theorem dX0_of_39 : decode cX0_of 39 = .ok (.goto 12, 3) := dk_167 0 12 (dk_at dksX0_of_1 15 rfl rfl)
theorem dX0_of_42 : decode cX0_of 42 = .ok (.aload_n 0, 1) := dk_42 (dk_at dksX0_of_1 18 rfl rfl)
theorem dX0_of_43 : decode cX0_of 43 = .ok (.getfield 11, 3) := dk_180 0 11 (dk_at dksX0_of_1 19 rfl rfl)
theorem dX0_of_46 : decode cX0_of 46 = .ok (.iload_n 1, 1) := dk_27 (dk_at dksX0_of_1 22 rfl rfl)
theorem dX0_of_47 : decode cX0_of 47 = .ok (.aaload, 1) := dk_50 (dk_at dksX0_of_1 23 rfl rfl)
theorem dX0_of_48 : decode cX0_of 48 = .ok (.getfield 178, 3) := dk_180 0 178 (dk_at dksX0_of_2 0 rfl rfl)
theorem dX0_of_51 : decode cX0_of 51 = .ok (.ireturn, 1) := dk_172 (dk_at dksX0_of_2 3 rfl rfl)
theorem dX0_of_52 : decode cX0_of 52 = .ok (.aload_n 0, 1) := dk_42 (dk_at dksX0_of_2 4 rfl rfl)
theorem dX0_of_53 : decode cX0_of 53 = .ok (.iload_n 1, 1) := dk_27 (dk_at dksX0_of_2 5 rfl rfl)
theorem dX0_of_54 : decode cX0_of 54 = .ok (.iload_n 2, 1) := dk_28 (dk_at dksX0_of_2 6 rfl rfl)
theorem dX0_of_55 : decode cX0_of 55 = .ok (.invokevirtual 159, 3) := dk_182 0 159 (dk_at dksX0_of_2 7 rfl rfl)
theorem dX0_of_58 : decode cX0_of 58 = .ok (.ifCond .eq 12, 3) := dk_153 0 12 (dk_at dksX0_of_2 10 rfl rfl)
theorem dX0_of_61 : decode cX0_of 61 = .ok (.aload_n 0, 1) := dk_42 (dk_at dksX0_of_2 13 rfl rfl)
theorem dX0_of_62 : decode cX0_of 62 = .ok (.iload_n 1, 1) := dk_27 (dk_at dksX0_of_2 14 rfl rfl)
theorem dX0_of_63 : decode cX0_of 63 = .ok (.iload_n 2, 1) := dk_28 (dk_at dksX0_of_2 15 rfl rfl)
theorem dX0_of_64 : decode cX0_of 64 = .ok (.invokevirtual 166, 3) := dk_182 0 166 (dk_at dksX0_of_2 16 rfl rfl)
theorem dX0_of_67 : decode cX0_of 67 = .ok (.goto 5, 3) := dk_167 0 5 (dk_at dksX0_of_2 19 rfl rfl)
theorem dX0_of_70 : decode cX0_of 70 = .ok (.ldc 174, 2) := dk_18 174 (dk_at dksX0_of_2 22 rfl rfl)
theorem dX0_of_72 : decode cX0_of 72 = .ok (.ireturn, 1) := dk_172 (dk_at dksX0_of_3 0 rfl rfl)
abbrev cX0_feed : ByteArray := prog_1_method_18_code
def yX0_feed : MethodName := ⟨RX0, "feed", "(I)I"⟩
def dkwX0_feed_2 : List UInt8 := [180, 0, 181, 172]
abbrev dktX0_feed_2 : List UInt8 := dkwX0_feed_2 ++ []
def dkwX0_feed_1 : List UInt8 := [172, 42, 180, 0, 28, 42, 180, 0, 181, 27, 145, 84, 42, 89, 180, 0, 181, 4, 96, 181, 0, 181, 42]
abbrev dktX0_feed_1 : List UInt8 := dkwX0_feed_1 ++ dktX0_feed_2
def dkwX0_feed_0 : List UInt8 := [27, 3, 17, 0, 255, 184, 0, 82, 154, 0, 5, 2, 172, 42, 180, 0, 181, 16, 120, 160, 0, 6, 16, 253]
abbrev dktX0_feed_0 : List UInt8 := dkwX0_feed_0 ++ dktX0_feed_1
theorem dksX0_feed_0 : cX0_feed.data.toList.drop 0 = dktX0_feed_0 := by decide +kernel
theorem dksX0_feed_1 : cX0_feed.data.toList.drop 24 = dktX0_feed_1 := dk_seg dksX0_feed_0 24 rfl rfl
theorem dksX0_feed_2 : cX0_feed.data.toList.drop 47 = dktX0_feed_2 := dk_seg dksX0_feed_1 23 rfl rfl
theorem dX0_feed_0 : decode cX0_feed 0 = .ok (.iload_n 1, 1) := dk_27 (dk_at dksX0_feed_0 0 rfl rfl)
theorem dX0_feed_1 : decode cX0_feed 1 = .ok (.iconst 0, 1) := dk_3 (dk_at dksX0_feed_0 1 rfl rfl)
theorem dX0_feed_2 : decode cX0_feed 2 = .ok (.sipush 255, 3) := dk_17 0 255 (dk_at dksX0_feed_0 2 rfl rfl)
theorem dX0_feed_5 : decode cX0_feed 5 = .ok (.invokestatic 82, 3) := dk_184 0 82 (dk_at dksX0_feed_0 5 rfl rfl)
theorem dX0_feed_8 : decode cX0_feed 8 = .ok (.ifCond .ne 5, 3) := dk_154 0 5 (dk_at dksX0_feed_0 8 rfl rfl)
theorem dX0_feed_11 : decode cX0_feed 11 = .ok (.iconst (-1), 1) := dk_2 (dk_at dksX0_feed_0 11 rfl rfl)
theorem dX0_feed_12 : decode cX0_feed 12 = .ok (.ireturn, 1) := dk_172 (dk_at dksX0_feed_0 12 rfl rfl)
theorem dX0_feed_13 : decode cX0_feed 13 = .ok (.aload_n 0, 1) := dk_42 (dk_at dksX0_feed_0 13 rfl rfl)
theorem dX0_feed_14 : decode cX0_feed 14 = .ok (.getfield 181, 3) := dk_180 0 181 (dk_at dksX0_feed_0 14 rfl rfl)
theorem dX0_feed_17 : decode cX0_feed 17 = .ok (.bipush 120, 2) := dk_16 120 (dk_at dksX0_feed_0 17 rfl rfl)
theorem dX0_feed_19 : decode cX0_feed 19 = .ok (.if_icmp .ne 6, 3) := dk_160 0 6 (dk_at dksX0_feed_0 19 rfl rfl)
theorem dX0_feed_22 : decode cX0_feed 22 = .ok (.bipush (-3), 2) := dk_16 253 (dk_at dksX0_feed_0 22 rfl rfl)
theorem dX0_feed_24 : decode cX0_feed 24 = .ok (.ireturn, 1) := dk_172 (dk_at dksX0_feed_1 0 rfl rfl)
theorem dX0_feed_25 : decode cX0_feed 25 = .ok (.aload_n 0, 1) := dk_42 (dk_at dksX0_feed_1 1 rfl rfl)
theorem dX0_feed_26 : decode cX0_feed 26 = .ok (.getfield 28, 3) := dk_180 0 28 (dk_at dksX0_feed_1 2 rfl rfl)
theorem dX0_feed_29 : decode cX0_feed 29 = .ok (.aload_n 0, 1) := dk_42 (dk_at dksX0_feed_1 5 rfl rfl)
theorem dX0_feed_30 : decode cX0_feed 30 = .ok (.getfield 181, 3) := dk_180 0 181 (dk_at dksX0_feed_1 6 rfl rfl)
theorem dX0_feed_33 : decode cX0_feed 33 = .ok (.iload_n 1, 1) := dk_27 (dk_at dksX0_feed_1 9 rfl rfl)
theorem dX0_feed_34 : decode cX0_feed 34 = .ok (.i2b, 1) := dk_145 (dk_at dksX0_feed_1 10 rfl rfl)
theorem dX0_feed_35 : decode cX0_feed 35 = .ok (.bastore, 1) := dk_84 (dk_at dksX0_feed_1 11 rfl rfl)
theorem dX0_feed_36 : decode cX0_feed 36 = .ok (.aload_n 0, 1) := dk_42 (dk_at dksX0_feed_1 12 rfl rfl)
theorem dX0_feed_37 : decode cX0_feed 37 = .ok (.dup, 1) := dk_89 (dk_at dksX0_feed_1 13 rfl rfl)
theorem dX0_feed_38 : decode cX0_feed 38 = .ok (.getfield 181, 3) := dk_180 0 181 (dk_at dksX0_feed_1 14 rfl rfl)
theorem dX0_feed_41 : decode cX0_feed 41 = .ok (.iconst 1, 1) := dk_4 (dk_at dksX0_feed_1 17 rfl rfl)
theorem dX0_feed_42 : decode cX0_feed 42 = .ok (.iadd, 1) := dk_96 (dk_at dksX0_feed_1 18 rfl rfl)
theorem dX0_feed_43 : decode cX0_feed 43 = .ok (.putfield 181, 3) := dk_181 0 181 (dk_at dksX0_feed_1 19 rfl rfl)
theorem dX0_feed_46 : decode cX0_feed 46 = .ok (.aload_n 0, 1) := dk_42 (dk_at dksX0_feed_1 22 rfl rfl)
theorem dX0_feed_47 : decode cX0_feed 47 = .ok (.getfield 181, 3) := dk_180 0 181 (dk_at dksX0_feed_2 0 rfl rfl)
theorem dX0_feed_50 : decode cX0_feed 50 = .ok (.ireturn, 1) := dk_172 (dk_at dksX0_feed_2 3 rfl rfl)
abbrev cX0_law : ByteArray := prog_1_method_19_code
def yX0_law : MethodName := ⟨RX0, "law", "()I"⟩
def dkwX0_law_1 : List UInt8 := [155, 0, 11, 16, 156, 43, 180, 0, 193, 100, 172, 42, 44, 181, 0, 196, 4, 172]
abbrev dktX0_law_1 : List UInt8 := dkwX0_law_1 ++ []
def dkwX0_law_0 : List UInt8 := [187, 0, 184, 89, 42, 183, 0, 186, 76, 43, 182, 0, 189, 77, 42, 3, 181, 0, 181, 43, 180, 0, 193]
abbrev dktX0_law_0 : List UInt8 := dkwX0_law_0 ++ dktX0_law_1
theorem dksX0_law_0 : cX0_law.data.toList.drop 0 = dktX0_law_0 := by decide +kernel
theorem dksX0_law_1 : cX0_law.data.toList.drop 23 = dktX0_law_1 := dk_seg dksX0_law_0 23 rfl rfl
theorem dX0_law_0 : decode cX0_law 0 = .ok (.new 184, 3) := dk_187 0 184 (dk_at dksX0_law_0 0 rfl rfl)
theorem dX0_law_3 : decode cX0_law 3 = .ok (.dup, 1) := dk_89 (dk_at dksX0_law_0 3 rfl rfl)
theorem dX0_law_4 : decode cX0_law 4 = .ok (.aload_n 0, 1) := dk_42 (dk_at dksX0_law_0 4 rfl rfl)
theorem dX0_law_5 : decode cX0_law 5 = .ok (.invokespecial 186, 3) := dk_183 0 186 (dk_at dksX0_law_0 5 rfl rfl)
theorem dX0_law_8 : decode cX0_law 8 = .ok (.astore_n 1, 1) := dk_76 (dk_at dksX0_law_0 8 rfl rfl)
theorem dX0_law_9 : decode cX0_law 9 = .ok (.aload_n 1, 1) := dk_43 (dk_at dksX0_law_0 9 rfl rfl)
theorem dX0_law_10 : decode cX0_law 10 = .ok (.invokevirtual 189, 3) := dk_182 0 189 (dk_at dksX0_law_0 10 rfl rfl)
theorem dX0_law_13 : decode cX0_law 13 = .ok (.astore_n 2, 1) := dk_77 (dk_at dksX0_law_0 13 rfl rfl)
theorem dX0_law_14 : decode cX0_law 14 = .ok (.aload_n 0, 1) := dk_42 (dk_at dksX0_law_0 14 rfl rfl)
theorem dX0_law_15 : decode cX0_law 15 = .ok (.iconst 0, 1) := dk_3 (dk_at dksX0_law_0 15 rfl rfl)
theorem dX0_law_16 : decode cX0_law 16 = .ok (.putfield 181, 3) := dk_181 0 181 (dk_at dksX0_law_0 16 rfl rfl)
theorem dX0_law_19 : decode cX0_law 19 = .ok (.aload_n 1, 1) := dk_43 (dk_at dksX0_law_0 19 rfl rfl)
theorem dX0_law_20 : decode cX0_law 20 = .ok (.getfield 193, 3) := dk_180 0 193 (dk_at dksX0_law_0 20 rfl rfl)
theorem dX0_law_23 : decode cX0_law 23 = .ok (.ifCond .lt 11, 3) := dk_155 0 11 (dk_at dksX0_law_1 0 rfl rfl)
theorem dX0_law_26 : decode cX0_law 26 = .ok (.bipush (-100), 2) := dk_16 156 (dk_at dksX0_law_1 3 rfl rfl)
theorem dX0_law_28 : decode cX0_law 28 = .ok (.aload_n 1, 1) := dk_43 (dk_at dksX0_law_1 5 rfl rfl)
theorem dX0_law_29 : decode cX0_law 29 = .ok (.getfield 193, 3) := dk_180 0 193 (dk_at dksX0_law_1 6 rfl rfl)
theorem dX0_law_32 : decode cX0_law 32 = .ok (.isub, 1) := dk_100 (dk_at dksX0_law_1 9 rfl rfl)
theorem dX0_law_33 : decode cX0_law 33 = .ok (.ireturn, 1) := dk_172 (dk_at dksX0_law_1 10 rfl rfl)
theorem dX0_law_34 : decode cX0_law 34 = .ok (.aload_n 0, 1) := dk_42 (dk_at dksX0_law_1 11 rfl rfl)
theorem dX0_law_35 : decode cX0_law 35 = .ok (.aload_n 2, 1) := dk_44 (dk_at dksX0_law_1 12 rfl rfl)
theorem dX0_law_36 : decode cX0_law 36 = .ok (.putfield 196, 3) := dk_181 0 196 (dk_at dksX0_law_1 13 rfl rfl)
theorem dX0_law_39 : decode cX0_law 39 = .ok (.iconst 1, 1) := dk_4 (dk_at dksX0_law_1 16 rfl rfl)
theorem dX0_law_40 : decode cX0_law 40 = .ok (.ireturn, 1) := dk_172 (dk_at dksX0_law_1 17 rfl rfl)
abbrev cX0_loses : ByteArray := prog_1_method_22_code
def yX0_loses : MethodName := ⟨RX0, "loses", "(III)I"⟩
def dkwX0_loses_4 : List UInt8 := [16, 100, 108, 29, 16, 100, 112, 182, 0, 243, 172]
abbrev dktX0_loses_4 : List UInt8 := dkwX0_loses_4 ++ []
def dkwX0_loses_3 : List UInt8 := [2, 172, 42, 42, 180, 0, 11, 27, 16, 10, 108, 50, 42, 180, 0, 11, 27, 16, 10, 112, 50, 28, 29]
abbrev dktX0_loses_3 : List UInt8 := dkwX0_loses_3 ++ dktX0_loses_4
def dkwX0_loses_2 : List UInt8 := [153, 0, 24, 29, 155, 0, 20, 29, 16, 100, 108, 7, 163, 0, 12, 29, 16, 100, 112, 16, 60, 161, 0, 5]
abbrev dktX0_loses_2 : List UInt8 := dkwX0_loses_2 ++ dktX0_loses_3
def dkwX0_loses_1 : List UInt8 := [153, 0, 46, 27, 16, 10, 108, 27, 16, 10, 112, 159, 0, 35, 28, 3, 17, 39, 15, 184, 0, 82]
abbrev dktX0_loses_1 : List UInt8 := dkwX0_loses_1 ++ dktX0_loses_2
def dkwX0_loses_0 : List UInt8 := [27, 155, 0, 68, 42, 27, 16, 10, 108, 182, 0, 156, 153, 0, 57, 42, 27, 16, 10, 112, 182, 0, 156]
abbrev dktX0_loses_0 : List UInt8 := dkwX0_loses_0 ++ dktX0_loses_1
theorem dksX0_loses_0 : cX0_loses.data.toList.drop 0 = dktX0_loses_0 := by decide +kernel
theorem dksX0_loses_1 : cX0_loses.data.toList.drop 23 = dktX0_loses_1 := dk_seg dksX0_loses_0 23 rfl rfl
theorem dksX0_loses_2 : cX0_loses.data.toList.drop 45 = dktX0_loses_2 := dk_seg dksX0_loses_1 22 rfl rfl
theorem dksX0_loses_3 : cX0_loses.data.toList.drop 69 = dktX0_loses_3 := dk_seg dksX0_loses_2 24 rfl rfl
theorem dksX0_loses_4 : cX0_loses.data.toList.drop 92 = dktX0_loses_4 := dk_seg dksX0_loses_3 23 rfl rfl
theorem dX0_loses_0 : decode cX0_loses 0 = .ok (.iload_n 1, 1) := dk_27 (dk_at dksX0_loses_0 0 rfl rfl)
theorem dX0_loses_1 : decode cX0_loses 1 = .ok (.ifCond .lt 68, 3) := dk_155 0 68 (dk_at dksX0_loses_0 1 rfl rfl)
theorem dX0_loses_4 : decode cX0_loses 4 = .ok (.aload_n 0, 1) := dk_42 (dk_at dksX0_loses_0 4 rfl rfl)
theorem dX0_loses_5 : decode cX0_loses 5 = .ok (.iload_n 1, 1) := dk_27 (dk_at dksX0_loses_0 5 rfl rfl)
theorem dX0_loses_6 : decode cX0_loses 6 = .ok (.bipush 10, 2) := dk_16 10 (dk_at dksX0_loses_0 6 rfl rfl)
theorem dX0_loses_8 : decode cX0_loses 8 = .ok (.idiv, 1) := dk_108 (dk_at dksX0_loses_0 8 rfl rfl)
theorem dX0_loses_9 : decode cX0_loses 9 = .ok (.invokevirtual 156, 3) := dk_182 0 156 (dk_at dksX0_loses_0 9 rfl rfl)
theorem dX0_loses_12 : decode cX0_loses 12 = .ok (.ifCond .eq 57, 3) := dk_153 0 57 (dk_at dksX0_loses_0 12 rfl rfl)
theorem dX0_loses_15 : decode cX0_loses 15 = .ok (.aload_n 0, 1) := dk_42 (dk_at dksX0_loses_0 15 rfl rfl)
theorem dX0_loses_16 : decode cX0_loses 16 = .ok (.iload_n 1, 1) := dk_27 (dk_at dksX0_loses_0 16 rfl rfl)
theorem dX0_loses_17 : decode cX0_loses 17 = .ok (.bipush 10, 2) := dk_16 10 (dk_at dksX0_loses_0 17 rfl rfl)
theorem dX0_loses_19 : decode cX0_loses 19 = .ok (.irem, 1) := dk_112 (dk_at dksX0_loses_0 19 rfl rfl)
theorem dX0_loses_20 : decode cX0_loses 20 = .ok (.invokevirtual 156, 3) := dk_182 0 156 (dk_at dksX0_loses_0 20 rfl rfl)
theorem dX0_loses_23 : decode cX0_loses 23 = .ok (.ifCond .eq 46, 3) := dk_153 0 46 (dk_at dksX0_loses_1 0 rfl rfl)
theorem dX0_loses_26 : decode cX0_loses 26 = .ok (.iload_n 1, 1) := dk_27 (dk_at dksX0_loses_1 3 rfl rfl)
theorem dX0_loses_27 : decode cX0_loses 27 = .ok (.bipush 10, 2) := dk_16 10 (dk_at dksX0_loses_1 4 rfl rfl)
theorem dX0_loses_29 : decode cX0_loses 29 = .ok (.idiv, 1) := dk_108 (dk_at dksX0_loses_1 6 rfl rfl)
theorem dX0_loses_30 : decode cX0_loses 30 = .ok (.iload_n 1, 1) := dk_27 (dk_at dksX0_loses_1 7 rfl rfl)
theorem dX0_loses_31 : decode cX0_loses 31 = .ok (.bipush 10, 2) := dk_16 10 (dk_at dksX0_loses_1 8 rfl rfl)
theorem dX0_loses_33 : decode cX0_loses 33 = .ok (.irem, 1) := dk_112 (dk_at dksX0_loses_1 10 rfl rfl)
theorem dX0_loses_34 : decode cX0_loses 34 = .ok (.if_icmp .eq 35, 3) := dk_159 0 35 (dk_at dksX0_loses_1 11 rfl rfl)
theorem dX0_loses_37 : decode cX0_loses 37 = .ok (.iload_n 2, 1) := dk_28 (dk_at dksX0_loses_1 14 rfl rfl)
theorem dX0_loses_38 : decode cX0_loses 38 = .ok (.iconst 0, 1) := dk_3 (dk_at dksX0_loses_1 15 rfl rfl)
theorem dX0_loses_39 : decode cX0_loses 39 = .ok (.sipush 9999, 3) := dk_17 39 15 (dk_at dksX0_loses_1 16 rfl rfl)
theorem dX0_loses_42 : decode cX0_loses 42 = .ok (.invokestatic 82, 3) := dk_184 0 82 (dk_at dksX0_loses_1 19 rfl rfl)
theorem dX0_loses_45 : decode cX0_loses 45 = .ok (.ifCond .eq 24, 3) := dk_153 0 24 (dk_at dksX0_loses_2 0 rfl rfl)
theorem dX0_loses_48 : decode cX0_loses 48 = .ok (.iload_n 3, 1) := dk_29 (dk_at dksX0_loses_2 3 rfl rfl)
theorem dX0_loses_49 : decode cX0_loses 49 = .ok (.ifCond .lt 20, 3) := dk_155 0 20 (dk_at dksX0_loses_2 4 rfl rfl)
theorem dX0_loses_52 : decode cX0_loses 52 = .ok (.iload_n 3, 1) := dk_29 (dk_at dksX0_loses_2 7 rfl rfl)
theorem dX0_loses_53 : decode cX0_loses 53 = .ok (.bipush 100, 2) := dk_16 100 (dk_at dksX0_loses_2 8 rfl rfl)
theorem dX0_loses_55 : decode cX0_loses 55 = .ok (.idiv, 1) := dk_108 (dk_at dksX0_loses_2 10 rfl rfl)
theorem dX0_loses_56 : decode cX0_loses 56 = .ok (.iconst 4, 1) := dk_7 (dk_at dksX0_loses_2 11 rfl rfl)
theorem dX0_loses_57 : decode cX0_loses 57 = .ok (.if_icmp .gt 12, 3) := dk_163 0 12 (dk_at dksX0_loses_2 12 rfl rfl)
theorem dX0_loses_60 : decode cX0_loses 60 = .ok (.iload_n 3, 1) := dk_29 (dk_at dksX0_loses_2 15 rfl rfl)
theorem dX0_loses_61 : decode cX0_loses 61 = .ok (.bipush 100, 2) := dk_16 100 (dk_at dksX0_loses_2 16 rfl rfl)
theorem dX0_loses_63 : decode cX0_loses 63 = .ok (.irem, 1) := dk_112 (dk_at dksX0_loses_2 18 rfl rfl)
theorem dX0_loses_64 : decode cX0_loses 64 = .ok (.bipush 60, 2) := dk_16 60 (dk_at dksX0_loses_2 19 rfl rfl)
theorem dX0_loses_66 : decode cX0_loses 66 = .ok (.if_icmp .lt 5, 3) := dk_161 0 5 (dk_at dksX0_loses_2 21 rfl rfl)
theorem dX0_loses_69 : decode cX0_loses 69 = .ok (.iconst (-1), 1) := dk_2 (dk_at dksX0_loses_3 0 rfl rfl)
theorem dX0_loses_70 : decode cX0_loses 70 = .ok (.ireturn, 1) := dk_172 (dk_at dksX0_loses_3 1 rfl rfl)
theorem dX0_loses_71 : decode cX0_loses 71 = .ok (.aload_n 0, 1) := dk_42 (dk_at dksX0_loses_3 2 rfl rfl)
theorem dX0_loses_72 : decode cX0_loses 72 = .ok (.aload_n 0, 1) := dk_42 (dk_at dksX0_loses_3 3 rfl rfl)
theorem dX0_loses_73 : decode cX0_loses 73 = .ok (.getfield 11, 3) := dk_180 0 11 (dk_at dksX0_loses_3 4 rfl rfl)
theorem dX0_loses_76 : decode cX0_loses 76 = .ok (.iload_n 1, 1) := dk_27 (dk_at dksX0_loses_3 7 rfl rfl)
theorem dX0_loses_77 : decode cX0_loses 77 = .ok (.bipush 10, 2) := dk_16 10 (dk_at dksX0_loses_3 8 rfl rfl)
theorem dX0_loses_79 : decode cX0_loses 79 = .ok (.idiv, 1) := dk_108 (dk_at dksX0_loses_3 10 rfl rfl)
theorem dX0_loses_80 : decode cX0_loses 80 = .ok (.aaload, 1) := dk_50 (dk_at dksX0_loses_3 11 rfl rfl)
theorem dX0_loses_81 : decode cX0_loses 81 = .ok (.aload_n 0, 1) := dk_42 (dk_at dksX0_loses_3 12 rfl rfl)
theorem dX0_loses_82 : decode cX0_loses 82 = .ok (.getfield 11, 3) := dk_180 0 11 (dk_at dksX0_loses_3 13 rfl rfl)
theorem dX0_loses_85 : decode cX0_loses 85 = .ok (.iload_n 1, 1) := dk_27 (dk_at dksX0_loses_3 16 rfl rfl)
theorem dX0_loses_86 : decode cX0_loses 86 = .ok (.bipush 10, 2) := dk_16 10 (dk_at dksX0_loses_3 17 rfl rfl)
theorem dX0_loses_88 : decode cX0_loses 88 = .ok (.irem, 1) := dk_112 (dk_at dksX0_loses_3 19 rfl rfl)
theorem dX0_loses_89 : decode cX0_loses 89 = .ok (.aaload, 1) := dk_50 (dk_at dksX0_loses_3 20 rfl rfl)
theorem dX0_loses_90 : decode cX0_loses 90 = .ok (.iload_n 2, 1) := dk_28 (dk_at dksX0_loses_3 21 rfl rfl)
theorem dX0_loses_91 : decode cX0_loses 91 = .ok (.iload_n 3, 1) := dk_29 (dk_at dksX0_loses_3 22 rfl rfl)
theorem dX0_loses_92 : decode cX0_loses 92 = .ok (.bipush 100, 2) := dk_16 100 (dk_at dksX0_loses_4 0 rfl rfl)
theorem dX0_loses_94 : decode cX0_loses 94 = .ok (.idiv, 1) := dk_108 (dk_at dksX0_loses_4 2 rfl rfl)
theorem dX0_loses_95 : decode cX0_loses 95 = .ok (.iload_n 3, 1) := dk_29 (dk_at dksX0_loses_4 3 rfl rfl)
theorem dX0_loses_96 : decode cX0_loses 96 = .ok (.bipush 100, 2) := dk_16 100 (dk_at dksX0_loses_4 4 rfl rfl)
theorem dX0_loses_98 : decode cX0_loses 98 = .ok (.irem, 1) := dk_112 (dk_at dksX0_loses_4 6 rfl rfl)
theorem dX0_loses_99 : decode cX0_loses 99 = .ok (.invokevirtual 243, 3) := dk_182 0 243 (dk_at dksX0_loses_4 7 rfl rfl)
theorem dX0_loses_102 : decode cX0_loses 102 = .ok (.ireturn, 1) := dk_172 (dk_at dksX0_loses_4 10 rfl rfl)
abbrev cX0_losesBy : ByteArray := prog_1_method_21_code
def yX0_losesBy : MethodName := ⟨RX0, "losesBy", "(LEightLegs$Swimmer;LEightLegs$Swimmer;III)I"⟩
def dkwX0_losesBy_6 : List UInt8 := [172]
abbrev dktX0_losesBy_6 : List UInt8 := dkwX0_losesBy_6 ++ []
def dkwX0_losesBy_5 : List UInt8 := [16, 115, 42, 180, 0, 15, 79, 42, 182, 0, 234, 54, 6, 3, 16, 99, 21, 6, 184, 0, 237, 184, 0, 240]
abbrev dktX0_losesBy_5 : List UInt8 := dkwX0_losesBy_5 ++ dktX0_losesBy_6
def dkwX0_losesBy_4 : List UInt8 := [184, 0, 228, 79, 42, 180, 0, 35, 180, 0, 221, 16, 107, 21, 5, 79, 42, 180, 0, 35, 180, 0, 221]
abbrev dktX0_losesBy_4 : List UInt8 := dkwX0_losesBy_4 ++ dktX0_losesBy_5
def dkwX0_losesBy_3 : List UInt8 := [182, 0, 224, 79, 42, 180, 0, 35, 180, 0, 221, 16, 116, 43, 180, 0, 121, 44, 180, 0, 121, 100]
abbrev dktX0_losesBy_3 : List UInt8 := dkwX0_losesBy_3 ++ dktX0_losesBy_4
def dkwX0_losesBy_2 : List UInt8 := [180, 0, 35, 180, 0, 221, 16, 101, 21, 4, 79, 42, 180, 0, 35, 180, 0, 221, 16, 100, 43, 44]
abbrev dktX0_losesBy_2 : List UInt8 := dkwX0_losesBy_2 ++ dktX0_losesBy_3
def dkwX0_losesBy_1 : List UInt8 := [198, 0, 102, 42, 180, 0, 35, 182, 0, 218, 42, 180, 0, 35, 180, 0, 221, 16, 111, 29, 79, 42]
abbrev dktX0_losesBy_1 : List UInt8 := dkwX0_losesBy_1 ++ dktX0_losesBy_2
def dkwX0_losesBy_0 : List UInt8 := [29, 42, 180, 0, 15, 108, 21, 4, 5, 160, 0, 7, 5, 167, 0, 4, 4, 104, 54, 6, 42, 180, 0, 196]
abbrev dktX0_losesBy_0 : List UInt8 := dkwX0_losesBy_0 ++ dktX0_losesBy_1
theorem dksX0_losesBy_0 : cX0_losesBy.data.toList.drop 0 = dktX0_losesBy_0 := by decide +kernel
theorem dksX0_losesBy_1 : cX0_losesBy.data.toList.drop 24 = dktX0_losesBy_1 := dk_seg dksX0_losesBy_0 24 rfl rfl
theorem dksX0_losesBy_2 : cX0_losesBy.data.toList.drop 46 = dktX0_losesBy_2 := dk_seg dksX0_losesBy_1 22 rfl rfl
theorem dksX0_losesBy_3 : cX0_losesBy.data.toList.drop 68 = dktX0_losesBy_3 := dk_seg dksX0_losesBy_2 22 rfl rfl
theorem dksX0_losesBy_4 : cX0_losesBy.data.toList.drop 90 = dktX0_losesBy_4 := dk_seg dksX0_losesBy_3 22 rfl rfl
theorem dksX0_losesBy_5 : cX0_losesBy.data.toList.drop 113 = dktX0_losesBy_5 := dk_seg dksX0_losesBy_4 23 rfl rfl
theorem dksX0_losesBy_6 : cX0_losesBy.data.toList.drop 137 = dktX0_losesBy_6 := dk_seg dksX0_losesBy_5 24 rfl rfl
theorem dX0_losesBy_0 : decode cX0_losesBy 0 = .ok (.iload_n 3, 1) := dk_29 (dk_at dksX0_losesBy_0 0 rfl rfl)
theorem dX0_losesBy_1 : decode cX0_losesBy 1 = .ok (.aload_n 0, 1) := dk_42 (dk_at dksX0_losesBy_0 1 rfl rfl)
theorem dX0_losesBy_2 : decode cX0_losesBy 2 = .ok (.getfield 15, 3) := dk_180 0 15 (dk_at dksX0_losesBy_0 2 rfl rfl)
theorem dX0_losesBy_5 : decode cX0_losesBy 5 = .ok (.idiv, 1) := dk_108 (dk_at dksX0_losesBy_0 5 rfl rfl)
theorem dX0_losesBy_6 : decode cX0_losesBy 6 = .ok (.iload 4, 2) := dk_21 4 (dk_at dksX0_losesBy_0 6 rfl rfl)
theorem dX0_losesBy_8 : decode cX0_losesBy 8 = .ok (.iconst 2, 1) := dk_5 (dk_at dksX0_losesBy_0 8 rfl rfl)
theorem dX0_losesBy_9 : decode cX0_losesBy 9 = .ok (.if_icmp .ne 7, 3) := dk_160 0 7 (dk_at dksX0_losesBy_0 9 rfl rfl)
theorem dX0_losesBy_12 : decode cX0_losesBy 12 = .ok (.iconst 2, 1) := dk_5 (dk_at dksX0_losesBy_0 12 rfl rfl)
theorem dX0_losesBy_13 : decode cX0_losesBy 13 = .ok (.goto 4, 3) := dk_167 0 4 (dk_at dksX0_losesBy_0 13 rfl rfl)
theorem dX0_losesBy_16 : decode cX0_losesBy 16 = .ok (.iconst 1, 1) := dk_4 (dk_at dksX0_losesBy_0 16 rfl rfl)
theorem dX0_losesBy_17 : decode cX0_losesBy 17 = .ok (.imul, 1) := dk_104 (dk_at dksX0_losesBy_0 17 rfl rfl)
theorem dX0_losesBy_18 : decode cX0_losesBy 18 = .ok (.istore 6, 2) := dk_54 6 (dk_at dksX0_losesBy_0 18 rfl rfl)
theorem dX0_losesBy_20 : decode cX0_losesBy 20 = .ok (.aload_n 0, 1) := dk_42 (dk_at dksX0_losesBy_0 20 rfl rfl)
theorem dX0_losesBy_21 : decode cX0_losesBy 21 = .ok (.getfield 196, 3) := dk_180 0 196 (dk_at dksX0_losesBy_0 21 rfl rfl)
theorem dX0_losesBy_24 : decode cX0_losesBy 24 = .ok (.ifnull 102, 3) := dk_198 0 102 (dk_at dksX0_losesBy_1 0 rfl rfl)
theorem dX0_losesBy_27 : decode cX0_losesBy 27 = .ok (.aload_n 0, 1) := dk_42 (dk_at dksX0_losesBy_1 3 rfl rfl)
theorem dX0_losesBy_28 : decode cX0_losesBy 28 = .ok (.getfield 35, 3) := dk_180 0 35 (dk_at dksX0_losesBy_1 4 rfl rfl)
theorem dX0_losesBy_31 : decode cX0_losesBy 31 = .ok (.invokevirtual 218, 3) := dk_182 0 218 (dk_at dksX0_losesBy_1 7 rfl rfl)
theorem dX0_losesBy_34 : decode cX0_losesBy 34 = .ok (.aload_n 0, 1) := dk_42 (dk_at dksX0_losesBy_1 10 rfl rfl)
theorem dX0_losesBy_35 : decode cX0_losesBy 35 = .ok (.getfield 35, 3) := dk_180 0 35 (dk_at dksX0_losesBy_1 11 rfl rfl)
theorem dX0_losesBy_38 : decode cX0_losesBy 38 = .ok (.getfield 221, 3) := dk_180 0 221 (dk_at dksX0_losesBy_1 14 rfl rfl)
theorem dX0_losesBy_41 : decode cX0_losesBy 41 = .ok (.bipush 111, 2) := dk_16 111 (dk_at dksX0_losesBy_1 17 rfl rfl)
theorem dX0_losesBy_43 : decode cX0_losesBy 43 = .ok (.iload_n 3, 1) := dk_29 (dk_at dksX0_losesBy_1 19 rfl rfl)
theorem dX0_losesBy_44 : decode cX0_losesBy 44 = .ok (.iastore, 1) := dk_79 (dk_at dksX0_losesBy_1 20 rfl rfl)
theorem dX0_losesBy_45 : decode cX0_losesBy 45 = .ok (.aload_n 0, 1) := dk_42 (dk_at dksX0_losesBy_1 21 rfl rfl)
theorem dX0_losesBy_46 : decode cX0_losesBy 46 = .ok (.getfield 35, 3) := dk_180 0 35 (dk_at dksX0_losesBy_2 0 rfl rfl)
theorem dX0_losesBy_49 : decode cX0_losesBy 49 = .ok (.getfield 221, 3) := dk_180 0 221 (dk_at dksX0_losesBy_2 3 rfl rfl)
theorem dX0_losesBy_52 : decode cX0_losesBy 52 = .ok (.bipush 101, 2) := dk_16 101 (dk_at dksX0_losesBy_2 6 rfl rfl)
theorem dX0_losesBy_54 : decode cX0_losesBy 54 = .ok (.iload 4, 2) := dk_21 4 (dk_at dksX0_losesBy_2 8 rfl rfl)
theorem dX0_losesBy_56 : decode cX0_losesBy 56 = .ok (.iastore, 1) := dk_79 (dk_at dksX0_losesBy_2 10 rfl rfl)
theorem dX0_losesBy_57 : decode cX0_losesBy 57 = .ok (.aload_n 0, 1) := dk_42 (dk_at dksX0_losesBy_2 11 rfl rfl)
theorem dX0_losesBy_58 : decode cX0_losesBy 58 = .ok (.getfield 35, 3) := dk_180 0 35 (dk_at dksX0_losesBy_2 12 rfl rfl)
theorem dX0_losesBy_61 : decode cX0_losesBy 61 = .ok (.getfield 221, 3) := dk_180 0 221 (dk_at dksX0_losesBy_2 15 rfl rfl)
theorem dX0_losesBy_64 : decode cX0_losesBy 64 = .ok (.bipush 100, 2) := dk_16 100 (dk_at dksX0_losesBy_2 18 rfl rfl)
theorem dX0_losesBy_66 : decode cX0_losesBy 66 = .ok (.aload_n 1, 1) := dk_43 (dk_at dksX0_losesBy_2 20 rfl rfl)
theorem dX0_losesBy_67 : decode cX0_losesBy 67 = .ok (.aload_n 2, 1) := dk_44 (dk_at dksX0_losesBy_2 21 rfl rfl)
theorem dX0_losesBy_68 : decode cX0_losesBy 68 = .ok (.invokevirtual 224, 3) := dk_182 0 224 (dk_at dksX0_losesBy_3 0 rfl rfl)
theorem dX0_losesBy_71 : decode cX0_losesBy 71 = .ok (.iastore, 1) := dk_79 (dk_at dksX0_losesBy_3 3 rfl rfl)
theorem dX0_losesBy_72 : decode cX0_losesBy 72 = .ok (.aload_n 0, 1) := dk_42 (dk_at dksX0_losesBy_3 4 rfl rfl)
theorem dX0_losesBy_73 : decode cX0_losesBy 73 = .ok (.getfield 35, 3) := dk_180 0 35 (dk_at dksX0_losesBy_3 5 rfl rfl)
theorem dX0_losesBy_76 : decode cX0_losesBy 76 = .ok (.getfield 221, 3) := dk_180 0 221 (dk_at dksX0_losesBy_3 8 rfl rfl)
theorem dX0_losesBy_79 : decode cX0_losesBy 79 = .ok (.bipush 116, 2) := dk_16 116 (dk_at dksX0_losesBy_3 11 rfl rfl)
theorem dX0_losesBy_81 : decode cX0_losesBy 81 = .ok (.aload_n 1, 1) := dk_43 (dk_at dksX0_losesBy_3 13 rfl rfl)
theorem dX0_losesBy_82 : decode cX0_losesBy 82 = .ok (.getfield 121, 3) := dk_180 0 121 (dk_at dksX0_losesBy_3 14 rfl rfl)
theorem dX0_losesBy_85 : decode cX0_losesBy 85 = .ok (.aload_n 2, 1) := dk_44 (dk_at dksX0_losesBy_3 17 rfl rfl)
theorem dX0_losesBy_86 : decode cX0_losesBy 86 = .ok (.getfield 121, 3) := dk_180 0 121 (dk_at dksX0_losesBy_3 18 rfl rfl)
theorem dX0_losesBy_89 : decode cX0_losesBy 89 = .ok (.isub, 1) := dk_100 (dk_at dksX0_losesBy_3 21 rfl rfl)
theorem dX0_losesBy_90 : decode cX0_losesBy 90 = .ok (.invokestatic 228, 3) := dk_184 0 228 (dk_at dksX0_losesBy_4 0 rfl rfl)
theorem dX0_losesBy_93 : decode cX0_losesBy 93 = .ok (.iastore, 1) := dk_79 (dk_at dksX0_losesBy_4 3 rfl rfl)
theorem dX0_losesBy_94 : decode cX0_losesBy 94 = .ok (.aload_n 0, 1) := dk_42 (dk_at dksX0_losesBy_4 4 rfl rfl)
theorem dX0_losesBy_95 : decode cX0_losesBy 95 = .ok (.getfield 35, 3) := dk_180 0 35 (dk_at dksX0_losesBy_4 5 rfl rfl)
theorem dX0_losesBy_98 : decode cX0_losesBy 98 = .ok (.getfield 221, 3) := dk_180 0 221 (dk_at dksX0_losesBy_4 8 rfl rfl)
theorem dX0_losesBy_101 : decode cX0_losesBy 101 = .ok (.bipush 107, 2) := dk_16 107 (dk_at dksX0_losesBy_4 11 rfl rfl)
theorem dX0_losesBy_103 : decode cX0_losesBy 103 = .ok (.iload 5, 2) := dk_21 5 (dk_at dksX0_losesBy_4 13 rfl rfl)
theorem dX0_losesBy_105 : decode cX0_losesBy 105 = .ok (.iastore, 1) := dk_79 (dk_at dksX0_losesBy_4 15 rfl rfl)
theorem dX0_losesBy_106 : decode cX0_losesBy 106 = .ok (.aload_n 0, 1) := dk_42 (dk_at dksX0_losesBy_4 16 rfl rfl)
theorem dX0_losesBy_107 : decode cX0_losesBy 107 = .ok (.getfield 35, 3) := dk_180 0 35 (dk_at dksX0_losesBy_4 17 rfl rfl)
theorem dX0_losesBy_110 : decode cX0_losesBy 110 = .ok (.getfield 221, 3) := dk_180 0 221 (dk_at dksX0_losesBy_4 20 rfl rfl)
theorem dX0_losesBy_113 : decode cX0_losesBy 113 = .ok (.bipush 115, 2) := dk_16 115 (dk_at dksX0_losesBy_5 0 rfl rfl)
theorem dX0_losesBy_115 : decode cX0_losesBy 115 = .ok (.aload_n 0, 1) := dk_42 (dk_at dksX0_losesBy_5 2 rfl rfl)
theorem dX0_losesBy_116 : decode cX0_losesBy 116 = .ok (.getfield 15, 3) := dk_180 0 15 (dk_at dksX0_losesBy_5 3 rfl rfl)
theorem dX0_losesBy_119 : decode cX0_losesBy 119 = .ok (.iastore, 1) := dk_79 (dk_at dksX0_losesBy_5 6 rfl rfl)
theorem dX0_losesBy_120 : decode cX0_losesBy 120 = .ok (.aload_n 0, 1) := dk_42 (dk_at dksX0_losesBy_5 7 rfl rfl)
theorem dX0_losesBy_121 : decode cX0_losesBy 121 = .ok (.invokevirtual 234, 3) := dk_182 0 234 (dk_at dksX0_losesBy_5 8 rfl rfl)
theorem dX0_losesBy_124 : decode cX0_losesBy 124 = .ok (.istore 6, 2) := dk_54 6 (dk_at dksX0_losesBy_5 11 rfl rfl)
theorem dX0_losesBy_126 : decode cX0_losesBy 126 = .ok (.iconst 0, 1) := dk_3 (dk_at dksX0_losesBy_5 13 rfl rfl)
theorem dX0_losesBy_127 : decode cX0_losesBy 127 = .ok (.bipush 99, 2) := dk_16 99 (dk_at dksX0_losesBy_5 14 rfl rfl)
theorem dX0_losesBy_129 : decode cX0_losesBy 129 = .ok (.iload 6, 2) := dk_21 6 (dk_at dksX0_losesBy_5 16 rfl rfl)
theorem dX0_losesBy_131 : decode cX0_losesBy 131 = .ok (.invokestatic 237, 3) := dk_184 0 237 (dk_at dksX0_losesBy_5 18 rfl rfl)
theorem dX0_losesBy_134 : decode cX0_losesBy 134 = .ok (.invokestatic 240, 3) := dk_184 0 240 (dk_at dksX0_losesBy_5 21 rfl rfl)
theorem dX0_losesBy_137 : decode cX0_losesBy 137 = .ok (.ireturn, 1) := dk_172 (dk_at dksX0_losesBy_6 0 rfl rfl)
abbrev cX0_gives : ByteArray := prog_1_method_20_code
def yX0_gives : MethodName := ⟨RX0, "gives", "()I"⟩
def dkwX0_gives_2 : List UInt8 := [167, 255, 214, 3, 172]
abbrev dktX0_gives_2 : List UInt8 := dkwX0_gives_2 ++ []
def dkwX0_gives_1 : List UInt8 := [182, 0, 206, 153, 0, 15, 43, 180, 0, 212, 42, 180, 0, 35, 182, 0, 206, 172, 43, 180, 0, 215, 76]
abbrev dktX0_gives_1 : List UInt8 := dkwX0_gives_1 ++ dktX0_gives_2
def dkwX0_gives_0 : List UInt8 := [42, 180, 0, 196, 76, 43, 198, 0, 44, 43, 180, 0, 200, 198, 0, 17, 43, 180, 0, 200, 42, 180, 0, 35]
abbrev dktX0_gives_0 : List UInt8 := dkwX0_gives_0 ++ dktX0_gives_1
theorem dksX0_gives_0 : cX0_gives.data.toList.drop 0 = dktX0_gives_0 := by decide +kernel
theorem dksX0_gives_1 : cX0_gives.data.toList.drop 24 = dktX0_gives_1 := dk_seg dksX0_gives_0 24 rfl rfl
theorem dksX0_gives_2 : cX0_gives.data.toList.drop 47 = dktX0_gives_2 := dk_seg dksX0_gives_1 23 rfl rfl
theorem dX0_gives_0 : decode cX0_gives 0 = .ok (.aload_n 0, 1) := dk_42 (dk_at dksX0_gives_0 0 rfl rfl)
theorem dX0_gives_1 : decode cX0_gives 1 = .ok (.getfield 196, 3) := dk_180 0 196 (dk_at dksX0_gives_0 1 rfl rfl)
theorem dX0_gives_4 : decode cX0_gives 4 = .ok (.astore_n 1, 1) := dk_76 (dk_at dksX0_gives_0 4 rfl rfl)
theorem dX0_gives_5 : decode cX0_gives 5 = .ok (.aload_n 1, 1) := dk_43 (dk_at dksX0_gives_0 5 rfl rfl)
theorem dX0_gives_6 : decode cX0_gives 6 = .ok (.ifnull 44, 3) := dk_198 0 44 (dk_at dksX0_gives_0 6 rfl rfl)
theorem dX0_gives_9 : decode cX0_gives 9 = .ok (.aload_n 1, 1) := dk_43 (dk_at dksX0_gives_0 9 rfl rfl)
theorem dX0_gives_10 : decode cX0_gives 10 = .ok (.getfield 200, 3) := dk_180 0 200 (dk_at dksX0_gives_0 10 rfl rfl)
theorem dX0_gives_13 : decode cX0_gives 13 = .ok (.ifnull 17, 3) := dk_198 0 17 (dk_at dksX0_gives_0 13 rfl rfl)
theorem dX0_gives_16 : decode cX0_gives 16 = .ok (.aload_n 1, 1) := dk_43 (dk_at dksX0_gives_0 16 rfl rfl)
theorem dX0_gives_17 : decode cX0_gives 17 = .ok (.getfield 200, 3) := dk_180 0 200 (dk_at dksX0_gives_0 17 rfl rfl)
theorem dX0_gives_20 : decode cX0_gives 20 = .ok (.aload_n 0, 1) := dk_42 (dk_at dksX0_gives_0 20 rfl rfl)
theorem dX0_gives_21 : decode cX0_gives 21 = .ok (.getfield 35, 3) := dk_180 0 35 (dk_at dksX0_gives_0 21 rfl rfl)
theorem dX0_gives_24 : decode cX0_gives 24 = .ok (.invokevirtual 206, 3) := dk_182 0 206 (dk_at dksX0_gives_1 0 rfl rfl)
theorem dX0_gives_27 : decode cX0_gives 27 = .ok (.ifCond .eq 15, 3) := dk_153 0 15 (dk_at dksX0_gives_1 3 rfl rfl)
theorem dX0_gives_30 : decode cX0_gives 30 = .ok (.aload_n 1, 1) := dk_43 (dk_at dksX0_gives_1 6 rfl rfl)
theorem dX0_gives_31 : decode cX0_gives 31 = .ok (.getfield 212, 3) := dk_180 0 212 (dk_at dksX0_gives_1 7 rfl rfl)
theorem dX0_gives_34 : decode cX0_gives 34 = .ok (.aload_n 0, 1) := dk_42 (dk_at dksX0_gives_1 10 rfl rfl)
theorem dX0_gives_35 : decode cX0_gives 35 = .ok (.getfield 35, 3) := dk_180 0 35 (dk_at dksX0_gives_1 11 rfl rfl)
theorem dX0_gives_38 : decode cX0_gives 38 = .ok (.invokevirtual 206, 3) := dk_182 0 206 (dk_at dksX0_gives_1 14 rfl rfl)
theorem dX0_gives_41 : decode cX0_gives 41 = .ok (.ireturn, 1) := dk_172 (dk_at dksX0_gives_1 17 rfl rfl)
theorem dX0_gives_42 : decode cX0_gives 42 = .ok (.aload_n 1, 1) := dk_43 (dk_at dksX0_gives_1 18 rfl rfl)
theorem dX0_gives_43 : decode cX0_gives 43 = .ok (.getfield 215, 3) := dk_180 0 215 (dk_at dksX0_gives_1 19 rfl rfl)
theorem dX0_gives_46 : decode cX0_gives 46 = .ok (.astore_n 1, 1) := dk_76 (dk_at dksX0_gives_1 22 rfl rfl)
theorem dX0_gives_47 : decode cX0_gives 47 = .ok (.goto (-42), 3) := dk_167 255 214 (dk_at dksX0_gives_2 0 rfl rfl)
theorem dX0_gives_50 : decode cX0_gives 50 = .ok (.iconst 0, 1) := dk_3 (dk_at dksX0_gives_2 3 rfl rfl)
theorem dX0_gives_51 : decode cX0_gives 51 = .ok (.ireturn, 1) := dk_172 (dk_at dksX0_gives_2 4 rfl rfl)
abbrev cX0_routine : ByteArray := prog_1_method_34_code
def yX0_routine : MethodName := ⟨RX0, "routine", "(II)I"⟩
def dkwX0_routine_2 : List UInt8 := [182, 1, 22, 167, 0, 19, 28, 5, 160, 0, 10, 42, 182, 1, 28, 167, 0, 7, 42, 182, 1, 31, 172]
abbrev dktX0_routine_2 : List UInt8 := dkwX0_routine_2 ++ []
def dkwX0_routine_1 : List UInt8 := [29, 156, 0, 5, 29, 172, 28, 154, 0, 10, 42, 180, 0, 247, 167, 0, 31, 28, 4, 160, 0, 10, 42]
abbrev dktX0_routine_1 : List UInt8 := dkwX0_routine_1 ++ dktX0_routine_2
def dkwX0_routine_0 : List UInt8 := [27, 184, 0, 97, 153, 0, 12, 28, 3, 6, 184, 0, 82, 154, 0, 5, 2, 172, 42, 27, 182, 1, 25, 62]
abbrev dktX0_routine_0 : List UInt8 := dkwX0_routine_0 ++ dktX0_routine_1
theorem dksX0_routine_0 : cX0_routine.data.toList.drop 0 = dktX0_routine_0 := by decide +kernel
theorem dksX0_routine_1 : cX0_routine.data.toList.drop 24 = dktX0_routine_1 := dk_seg dksX0_routine_0 24 rfl rfl
theorem dksX0_routine_2 : cX0_routine.data.toList.drop 47 = dktX0_routine_2 := dk_seg dksX0_routine_1 23 rfl rfl
theorem dX0_routine_0 : decode cX0_routine 0 = .ok (.iload_n 1, 1) := dk_27 (dk_at dksX0_routine_0 0 rfl rfl)
theorem dX0_routine_1 : decode cX0_routine 1 = .ok (.invokestatic 97, 3) := dk_184 0 97 (dk_at dksX0_routine_0 1 rfl rfl)
theorem dX0_routine_4 : decode cX0_routine 4 = .ok (.ifCond .eq 12, 3) := dk_153 0 12 (dk_at dksX0_routine_0 4 rfl rfl)
theorem dX0_routine_7 : decode cX0_routine 7 = .ok (.iload_n 2, 1) := dk_28 (dk_at dksX0_routine_0 7 rfl rfl)
theorem dX0_routine_8 : decode cX0_routine 8 = .ok (.iconst 0, 1) := dk_3 (dk_at dksX0_routine_0 8 rfl rfl)
theorem dX0_routine_9 : decode cX0_routine 9 = .ok (.iconst 3, 1) := dk_6 (dk_at dksX0_routine_0 9 rfl rfl)
theorem dX0_routine_10 : decode cX0_routine 10 = .ok (.invokestatic 82, 3) := dk_184 0 82 (dk_at dksX0_routine_0 10 rfl rfl)
theorem dX0_routine_13 : decode cX0_routine 13 = .ok (.ifCond .ne 5, 3) := dk_154 0 5 (dk_at dksX0_routine_0 13 rfl rfl)
theorem dX0_routine_16 : decode cX0_routine 16 = .ok (.iconst (-1), 1) := dk_2 (dk_at dksX0_routine_0 16 rfl rfl)
theorem dX0_routine_17 : decode cX0_routine 17 = .ok (.ireturn, 1) := dk_172 (dk_at dksX0_routine_0 17 rfl rfl)
theorem dX0_routine_18 : decode cX0_routine 18 = .ok (.aload_n 0, 1) := dk_42 (dk_at dksX0_routine_0 18 rfl rfl)
theorem dX0_routine_19 : decode cX0_routine 19 = .ok (.iload_n 1, 1) := dk_27 (dk_at dksX0_routine_0 19 rfl rfl)
theorem dX0_routine_20 : decode cX0_routine 20 = .ok (.invokevirtual 281, 3) := dk_182 1 25 (dk_at dksX0_routine_0 20 rfl rfl)
theorem dX0_routine_23 : decode cX0_routine 23 = .ok (.istore_n 3, 1) := dk_62 (dk_at dksX0_routine_0 23 rfl rfl)
theorem dX0_routine_24 : decode cX0_routine 24 = .ok (.iload_n 3, 1) := dk_29 (dk_at dksX0_routine_1 0 rfl rfl)
theorem dX0_routine_25 : decode cX0_routine 25 = .ok (.ifCond .ge 5, 3) := dk_156 0 5 (dk_at dksX0_routine_1 1 rfl rfl)
theorem dX0_routine_28 : decode cX0_routine 28 = .ok (.iload_n 3, 1) := dk_29 (dk_at dksX0_routine_1 4 rfl rfl)
theorem dX0_routine_29 : decode cX0_routine 29 = .ok (.ireturn, 1) := dk_172 (dk_at dksX0_routine_1 5 rfl rfl)
theorem dX0_routine_30 : decode cX0_routine 30 = .ok (.iload_n 2, 1) := dk_28 (dk_at dksX0_routine_1 6 rfl rfl)
theorem dX0_routine_31 : decode cX0_routine 31 = .ok (.ifCond .ne 10, 3) := dk_154 0 10 (dk_at dksX0_routine_1 7 rfl rfl)
theorem dX0_routine_34 : decode cX0_routine 34 = .ok (.aload_n 0, 1) := dk_42 (dk_at dksX0_routine_1 10 rfl rfl)
theorem dX0_routine_35 : decode cX0_routine 35 = .ok (.getfield 247, 3) := dk_180 0 247 (dk_at dksX0_routine_1 11 rfl rfl)
theorem dX0_routine_38 : decode cX0_routine 38 = .ok (.goto 31, 3) := dk_167 0 31 (dk_at dksX0_routine_1 14 rfl rfl)
theorem dX0_routine_41 : decode cX0_routine 41 = .ok (.iload_n 2, 1) := dk_28 (dk_at dksX0_routine_1 17 rfl rfl)
theorem dX0_routine_42 : decode cX0_routine 42 = .ok (.iconst 1, 1) := dk_4 (dk_at dksX0_routine_1 18 rfl rfl)
theorem dX0_routine_43 : decode cX0_routine 43 = .ok (.if_icmp .ne 10, 3) := dk_160 0 10 (dk_at dksX0_routine_1 19 rfl rfl)
theorem dX0_routine_46 : decode cX0_routine 46 = .ok (.aload_n 0, 1) := dk_42 (dk_at dksX0_routine_1 22 rfl rfl)
theorem dX0_routine_47 : decode cX0_routine 47 = .ok (.invokevirtual 278, 3) := dk_182 1 22 (dk_at dksX0_routine_2 0 rfl rfl)
theorem dX0_routine_50 : decode cX0_routine 50 = .ok (.goto 19, 3) := dk_167 0 19 (dk_at dksX0_routine_2 3 rfl rfl)
theorem dX0_routine_53 : decode cX0_routine 53 = .ok (.iload_n 2, 1) := dk_28 (dk_at dksX0_routine_2 6 rfl rfl)
theorem dX0_routine_54 : decode cX0_routine 54 = .ok (.iconst 2, 1) := dk_5 (dk_at dksX0_routine_2 7 rfl rfl)
theorem dX0_routine_55 : decode cX0_routine 55 = .ok (.if_icmp .ne 10, 3) := dk_160 0 10 (dk_at dksX0_routine_2 8 rfl rfl)
theorem dX0_routine_58 : decode cX0_routine 58 = .ok (.aload_n 0, 1) := dk_42 (dk_at dksX0_routine_2 11 rfl rfl)
theorem dX0_routine_59 : decode cX0_routine 59 = .ok (.invokevirtual 284, 3) := dk_182 1 28 (dk_at dksX0_routine_2 12 rfl rfl)
theorem dX0_routine_62 : decode cX0_routine 62 = .ok (.goto 7, 3) := dk_167 0 7 (dk_at dksX0_routine_2 15 rfl rfl)
theorem dX0_routine_65 : decode cX0_routine 65 = .ok (.aload_n 0, 1) := dk_42 (dk_at dksX0_routine_2 18 rfl rfl)
theorem dX0_routine_66 : decode cX0_routine 66 = .ok (.invokevirtual 287, 3) := dk_182 1 31 (dk_at dksX0_routine_2 19 rfl rfl)
theorem dX0_routine_69 : decode cX0_routine 69 = .ok (.ireturn, 1) := dk_172 (dk_at dksX0_routine_2 22 rfl rfl)
abbrev cX0_layRoutine : ByteArray := prog_1_method_23_code
def yX0_layRoutine : MethodName := ⟨RX0, "layRoutine", "(I)I"⟩
def dkwX0_layRoutine_3 : List UInt8 := [132, 3, 1, 167, 255, 201, 167, 0, 11, 77, 16, 244, 172, 77, 16, 245, 172, 3, 172]
abbrev dktX0_layRoutine_3 : List UInt8 := dkwX0_layRoutine_3 ++ []
def dkwX0_layRoutine_2 : List UInt8 := [154, 0, 5, 3, 172, 42, 180, 0, 39, 29, 21, 4, 79, 42, 89, 180, 0, 247, 4, 96, 181, 0, 247]
abbrev dktX0_layRoutine_2 : List UInt8 := dkwX0_layRoutine_2 ++ dktX0_layRoutine_3
def dkwX0_layRoutine_1 : List UInt8 := [162, 0, 53, 29, 16, 60, 162, 0, 47, 44, 29, 182, 0, 102, 136, 54, 4, 21, 4, 3, 7, 184, 0, 82]
abbrev dktX0_layRoutine_1 : List UInt8 := dkwX0_layRoutine_1 ++ dktX0_layRoutine_2
def dkwX0_layRoutine_0 : List UInt8 := [42, 3, 181, 0, 247, 42, 180, 0, 75, 27, 50, 192, 0, 100, 77, 3, 62, 29, 44, 182, 0, 250]
abbrev dktX0_layRoutine_0 : List UInt8 := dkwX0_layRoutine_0 ++ dktX0_layRoutine_1
theorem dksX0_layRoutine_0 : cX0_layRoutine.data.toList.drop 0 = dktX0_layRoutine_0 := by decide +kernel
theorem dksX0_layRoutine_1 : cX0_layRoutine.data.toList.drop 22 = dktX0_layRoutine_1 := dk_seg dksX0_layRoutine_0 22 rfl rfl
theorem dksX0_layRoutine_2 : cX0_layRoutine.data.toList.drop 46 = dktX0_layRoutine_2 := dk_seg dksX0_layRoutine_1 24 rfl rfl
theorem dksX0_layRoutine_3 : cX0_layRoutine.data.toList.drop 69 = dktX0_layRoutine_3 := dk_seg dksX0_layRoutine_2 23 rfl rfl
theorem dX0_layRoutine_0 : decode cX0_layRoutine 0 = .ok (.aload_n 0, 1) := dk_42 (dk_at dksX0_layRoutine_0 0 rfl rfl)
theorem dX0_layRoutine_1 : decode cX0_layRoutine 1 = .ok (.iconst 0, 1) := dk_3 (dk_at dksX0_layRoutine_0 1 rfl rfl)
theorem dX0_layRoutine_2 : decode cX0_layRoutine 2 = .ok (.putfield 247, 3) := dk_181 0 247 (dk_at dksX0_layRoutine_0 2 rfl rfl)
theorem dX0_layRoutine_5 : decode cX0_layRoutine 5 = .ok (.aload_n 0, 1) := dk_42 (dk_at dksX0_layRoutine_0 5 rfl rfl)
theorem dX0_layRoutine_6 : decode cX0_layRoutine 6 = .ok (.getfield 75, 3) := dk_180 0 75 (dk_at dksX0_layRoutine_0 6 rfl rfl)
theorem dX0_layRoutine_9 : decode cX0_layRoutine 9 = .ok (.iload_n 1, 1) := dk_27 (dk_at dksX0_layRoutine_0 9 rfl rfl)
theorem dX0_layRoutine_10 : decode cX0_layRoutine 10 = .ok (.aaload, 1) := dk_50 (dk_at dksX0_layRoutine_0 10 rfl rfl)
theorem dX0_layRoutine_11 : decode cX0_layRoutine 11 = .ok (.checkcast 100, 3) := dk_192 0 100 (dk_at dksX0_layRoutine_0 11 rfl rfl)
theorem dX0_layRoutine_14 : decode cX0_layRoutine 14 = .ok (.astore_n 2, 1) := dk_77 (dk_at dksX0_layRoutine_0 14 rfl rfl)
theorem dX0_layRoutine_15 : decode cX0_layRoutine 15 = .ok (.iconst 0, 1) := dk_3 (dk_at dksX0_layRoutine_0 15 rfl rfl)
theorem dX0_layRoutine_16 : decode cX0_layRoutine 16 = .ok (.istore_n 3, 1) := dk_62 (dk_at dksX0_layRoutine_0 16 rfl rfl)
theorem dX0_layRoutine_17 : decode cX0_layRoutine 17 = .ok (.iload_n 3, 1) := dk_29 (dk_at dksX0_layRoutine_0 17 rfl rfl)
theorem dX0_layRoutine_18 : decode cX0_layRoutine 18 = .ok (.aload_n 2, 1) := dk_44 (dk_at dksX0_layRoutine_0 18 rfl rfl)
theorem dX0_layRoutine_19 : decode cX0_layRoutine 19 = .ok (.invokevirtual 250, 3) := dk_182 0 250 (dk_at dksX0_layRoutine_0 19 rfl rfl)
theorem dX0_layRoutine_22 : decode cX0_layRoutine 22 = .ok (.if_icmp .ge 53, 3) := dk_162 0 53 (dk_at dksX0_layRoutine_1 0 rfl rfl)
theorem dX0_layRoutine_25 : decode cX0_layRoutine 25 = .ok (.iload_n 3, 1) := dk_29 (dk_at dksX0_layRoutine_1 3 rfl rfl)
theorem dX0_layRoutine_26 : decode cX0_layRoutine 26 = .ok (.bipush 60, 2) := dk_16 60 (dk_at dksX0_layRoutine_1 4 rfl rfl)
theorem dX0_layRoutine_28 : decode cX0_layRoutine 28 = .ok (.if_icmp .ge 47, 3) := dk_162 0 47 (dk_at dksX0_layRoutine_1 6 rfl rfl)
theorem dX0_layRoutine_31 : decode cX0_layRoutine 31 = .ok (.aload_n 2, 1) := dk_44 (dk_at dksX0_layRoutine_1 9 rfl rfl)
theorem dX0_layRoutine_32 : decode cX0_layRoutine 32 = .ok (.iload_n 3, 1) := dk_29 (dk_at dksX0_layRoutine_1 10 rfl rfl)
theorem dX0_layRoutine_33 : decode cX0_layRoutine 33 = .ok (.invokevirtual 102, 3) := dk_182 0 102 (dk_at dksX0_layRoutine_1 11 rfl rfl)
theorem dX0_layRoutine_36 : decode cX0_layRoutine 36 = .ok (.l2i, 1) := dk_136 (dk_at dksX0_layRoutine_1 14 rfl rfl)
theorem dX0_layRoutine_37 : decode cX0_layRoutine 37 = .ok (.istore 4, 2) := dk_54 4 (dk_at dksX0_layRoutine_1 15 rfl rfl)
theorem dX0_layRoutine_39 : decode cX0_layRoutine 39 = .ok (.iload 4, 2) := dk_21 4 (dk_at dksX0_layRoutine_1 17 rfl rfl)
theorem dX0_layRoutine_41 : decode cX0_layRoutine 41 = .ok (.iconst 0, 1) := dk_3 (dk_at dksX0_layRoutine_1 19 rfl rfl)
theorem dX0_layRoutine_42 : decode cX0_layRoutine 42 = .ok (.iconst 4, 1) := dk_7 (dk_at dksX0_layRoutine_1 20 rfl rfl)
theorem dX0_layRoutine_43 : decode cX0_layRoutine 43 = .ok (.invokestatic 82, 3) := dk_184 0 82 (dk_at dksX0_layRoutine_1 21 rfl rfl)
theorem dX0_layRoutine_46 : decode cX0_layRoutine 46 = .ok (.ifCond .ne 5, 3) := dk_154 0 5 (dk_at dksX0_layRoutine_2 0 rfl rfl)
theorem dX0_layRoutine_49 : decode cX0_layRoutine 49 = .ok (.iconst 0, 1) := dk_3 (dk_at dksX0_layRoutine_2 3 rfl rfl)
theorem dX0_layRoutine_50 : decode cX0_layRoutine 50 = .ok (.ireturn, 1) := dk_172 (dk_at dksX0_layRoutine_2 4 rfl rfl)
theorem dX0_layRoutine_51 : decode cX0_layRoutine 51 = .ok (.aload_n 0, 1) := dk_42 (dk_at dksX0_layRoutine_2 5 rfl rfl)
theorem dX0_layRoutine_52 : decode cX0_layRoutine 52 = .ok (.getfield 39, 3) := dk_180 0 39 (dk_at dksX0_layRoutine_2 6 rfl rfl)
theorem dX0_layRoutine_55 : decode cX0_layRoutine 55 = .ok (.iload_n 3, 1) := dk_29 (dk_at dksX0_layRoutine_2 9 rfl rfl)
theorem dX0_layRoutine_56 : decode cX0_layRoutine 56 = .ok (.iload 4, 2) := dk_21 4 (dk_at dksX0_layRoutine_2 10 rfl rfl)
theorem dX0_layRoutine_58 : decode cX0_layRoutine 58 = .ok (.iastore, 1) := dk_79 (dk_at dksX0_layRoutine_2 12 rfl rfl)
theorem dX0_layRoutine_59 : decode cX0_layRoutine 59 = .ok (.aload_n 0, 1) := dk_42 (dk_at dksX0_layRoutine_2 13 rfl rfl)
theorem dX0_layRoutine_60 : decode cX0_layRoutine 60 = .ok (.dup, 1) := dk_89 (dk_at dksX0_layRoutine_2 14 rfl rfl)
theorem dX0_layRoutine_61 : decode cX0_layRoutine 61 = .ok (.getfield 247, 3) := dk_180 0 247 (dk_at dksX0_layRoutine_2 15 rfl rfl)
theorem dX0_layRoutine_64 : decode cX0_layRoutine 64 = .ok (.iconst 1, 1) := dk_4 (dk_at dksX0_layRoutine_2 18 rfl rfl)
theorem dX0_layRoutine_65 : decode cX0_layRoutine 65 = .ok (.iadd, 1) := dk_96 (dk_at dksX0_layRoutine_2 19 rfl rfl)
theorem dX0_layRoutine_66 : decode cX0_layRoutine 66 = .ok (.putfield 247, 3) := dk_181 0 247 (dk_at dksX0_layRoutine_2 20 rfl rfl)
theorem dX0_layRoutine_69 : decode cX0_layRoutine 69 = .ok (.iinc 3 1, 3) := dk_132 3 1 (dk_at dksX0_layRoutine_3 0 rfl rfl)
theorem dX0_layRoutine_72 : decode cX0_layRoutine 72 = .ok (.goto (-55), 3) := dk_167 255 201 (dk_at dksX0_layRoutine_3 3 rfl rfl)
theorem dX0_layRoutine_75 : decode cX0_layRoutine 75 = .ok (.goto 11, 3) := dk_167 0 11 (dk_at dksX0_layRoutine_3 6 rfl rfl)
theorem dX0_layRoutine_78 : decode cX0_layRoutine 78 = .ok (.astore_n 2, 1) := dk_77 (dk_at dksX0_layRoutine_3 9 rfl rfl)
theorem dX0_layRoutine_79 : decode cX0_layRoutine 79 = .ok (.bipush (-12), 2) := dk_16 244 (dk_at dksX0_layRoutine_3 10 rfl rfl)
theorem dX0_layRoutine_81 : decode cX0_layRoutine 81 = .ok (.ireturn, 1) := dk_172 (dk_at dksX0_layRoutine_3 12 rfl rfl)
theorem dX0_layRoutine_82 : decode cX0_layRoutine 82 = .ok (.astore_n 2, 1) := dk_77 (dk_at dksX0_layRoutine_3 13 rfl rfl)
theorem dX0_layRoutine_83 : decode cX0_layRoutine 83 = .ok (.bipush (-11), 2) := dk_16 245 (dk_at dksX0_layRoutine_3 14 rfl rfl)
theorem dX0_layRoutine_85 : decode cX0_layRoutine 85 = .ok (.ireturn, 1) := dk_172 (dk_at dksX0_layRoutine_3 16 rfl rfl)
theorem dX0_layRoutine_86 : decode cX0_layRoutine 86 = .ok (.iconst 0, 1) := dk_3 (dk_at dksX0_layRoutine_3 17 rfl rfl)
theorem dX0_layRoutine_87 : decode cX0_layRoutine 87 = .ok (.ireturn, 1) := dk_172 (dk_at dksX0_layRoutine_3 18 rfl rfl)
abbrev cX0_marks : ByteArray := prog_1_method_31_code
def yX0_marks : MethodName := ⟨RX0, "marks", "()I"⟩
def dkwX0_marks_2 : List UInt8 := [182, 1, 16, 96, 60, 132, 2, 1, 167, 255, 232, 27, 172]
abbrev dktX0_marks_2 : List UInt8 := dkwX0_marks_2 ++ []
def dkwX0_marks_1 : List UInt8 := [182, 1, 9, 3, 60, 3, 61, 28, 42, 180, 0, 247, 162, 0, 22, 42, 28, 182, 1, 12, 27, 42, 28]
abbrev dktX0_marks_1 : List UInt8 := dkwX0_marks_1 ++ dktX0_marks_2
def dkwX0_marks_0 : List UInt8 := [3, 60, 27, 16, 64, 162, 0, 16, 42, 180, 0, 46, 27, 3, 79, 132, 1, 1, 167, 255, 240, 42]
abbrev dktX0_marks_0 : List UInt8 := dkwX0_marks_0 ++ dktX0_marks_1
theorem dksX0_marks_0 : cX0_marks.data.toList.drop 0 = dktX0_marks_0 := by decide +kernel
theorem dksX0_marks_1 : cX0_marks.data.toList.drop 22 = dktX0_marks_1 := dk_seg dksX0_marks_0 22 rfl rfl
theorem dksX0_marks_2 : cX0_marks.data.toList.drop 45 = dktX0_marks_2 := dk_seg dksX0_marks_1 23 rfl rfl
theorem dX0_marks_0 : decode cX0_marks 0 = .ok (.iconst 0, 1) := dk_3 (dk_at dksX0_marks_0 0 rfl rfl)
theorem dX0_marks_1 : decode cX0_marks 1 = .ok (.istore_n 1, 1) := dk_60 (dk_at dksX0_marks_0 1 rfl rfl)
theorem dX0_marks_2 : decode cX0_marks 2 = .ok (.iload_n 1, 1) := dk_27 (dk_at dksX0_marks_0 2 rfl rfl)
theorem dX0_marks_3 : decode cX0_marks 3 = .ok (.bipush 64, 2) := dk_16 64 (dk_at dksX0_marks_0 3 rfl rfl)
theorem dX0_marks_5 : decode cX0_marks 5 = .ok (.if_icmp .ge 16, 3) := dk_162 0 16 (dk_at dksX0_marks_0 5 rfl rfl)
theorem dX0_marks_8 : decode cX0_marks 8 = .ok (.aload_n 0, 1) := dk_42 (dk_at dksX0_marks_0 8 rfl rfl)
theorem dX0_marks_9 : decode cX0_marks 9 = .ok (.getfield 46, 3) := dk_180 0 46 (dk_at dksX0_marks_0 9 rfl rfl)
theorem dX0_marks_12 : decode cX0_marks 12 = .ok (.iload_n 1, 1) := dk_27 (dk_at dksX0_marks_0 12 rfl rfl)
theorem dX0_marks_13 : decode cX0_marks 13 = .ok (.iconst 0, 1) := dk_3 (dk_at dksX0_marks_0 13 rfl rfl)
theorem dX0_marks_14 : decode cX0_marks 14 = .ok (.iastore, 1) := dk_79 (dk_at dksX0_marks_0 14 rfl rfl)
theorem dX0_marks_15 : decode cX0_marks 15 = .ok (.iinc 1 1, 3) := dk_132 1 1 (dk_at dksX0_marks_0 15 rfl rfl)
theorem dX0_marks_18 : decode cX0_marks 18 = .ok (.goto (-16), 3) := dk_167 255 240 (dk_at dksX0_marks_0 18 rfl rfl)
theorem dX0_marks_21 : decode cX0_marks 21 = .ok (.aload_n 0, 1) := dk_42 (dk_at dksX0_marks_0 21 rfl rfl)
theorem dX0_marks_22 : decode cX0_marks 22 = .ok (.invokevirtual 265, 3) := dk_182 1 9 (dk_at dksX0_marks_1 0 rfl rfl)
theorem dX0_marks_25 : decode cX0_marks 25 = .ok (.iconst 0, 1) := dk_3 (dk_at dksX0_marks_1 3 rfl rfl)
theorem dX0_marks_26 : decode cX0_marks 26 = .ok (.istore_n 1, 1) := dk_60 (dk_at dksX0_marks_1 4 rfl rfl)
theorem dX0_marks_27 : decode cX0_marks 27 = .ok (.iconst 0, 1) := dk_3 (dk_at dksX0_marks_1 5 rfl rfl)
theorem dX0_marks_28 : decode cX0_marks 28 = .ok (.istore_n 2, 1) := dk_61 (dk_at dksX0_marks_1 6 rfl rfl)
theorem dX0_marks_29 : decode cX0_marks 29 = .ok (.iload_n 2, 1) := dk_28 (dk_at dksX0_marks_1 7 rfl rfl)
theorem dX0_marks_30 : decode cX0_marks 30 = .ok (.aload_n 0, 1) := dk_42 (dk_at dksX0_marks_1 8 rfl rfl)
theorem dX0_marks_31 : decode cX0_marks 31 = .ok (.getfield 247, 3) := dk_180 0 247 (dk_at dksX0_marks_1 9 rfl rfl)
theorem dX0_marks_34 : decode cX0_marks 34 = .ok (.if_icmp .ge 22, 3) := dk_162 0 22 (dk_at dksX0_marks_1 12 rfl rfl)
theorem dX0_marks_37 : decode cX0_marks 37 = .ok (.aload_n 0, 1) := dk_42 (dk_at dksX0_marks_1 15 rfl rfl)
theorem dX0_marks_38 : decode cX0_marks 38 = .ok (.iload_n 2, 1) := dk_28 (dk_at dksX0_marks_1 16 rfl rfl)
theorem dX0_marks_39 : decode cX0_marks 39 = .ok (.invokevirtual 268, 3) := dk_182 1 12 (dk_at dksX0_marks_1 17 rfl rfl)
theorem dX0_marks_42 : decode cX0_marks 42 = .ok (.iload_n 1, 1) := dk_27 (dk_at dksX0_marks_1 20 rfl rfl)
theorem dX0_marks_43 : decode cX0_marks 43 = .ok (.aload_n 0, 1) := dk_42 (dk_at dksX0_marks_1 21 rfl rfl)
theorem dX0_marks_44 : decode cX0_marks 44 = .ok (.iload_n 2, 1) := dk_28 (dk_at dksX0_marks_1 22 rfl rfl)
theorem dX0_marks_45 : decode cX0_marks 45 = .ok (.invokevirtual 272, 3) := dk_182 1 16 (dk_at dksX0_marks_2 0 rfl rfl)
theorem dX0_marks_48 : decode cX0_marks 48 = .ok (.iadd, 1) := dk_96 (dk_at dksX0_marks_2 3 rfl rfl)
theorem dX0_marks_49 : decode cX0_marks 49 = .ok (.istore_n 1, 1) := dk_60 (dk_at dksX0_marks_2 4 rfl rfl)
theorem dX0_marks_50 : decode cX0_marks 50 = .ok (.iinc 2 1, 3) := dk_132 2 1 (dk_at dksX0_marks_2 5 rfl rfl)
theorem dX0_marks_53 : decode cX0_marks 53 = .ok (.goto (-24), 3) := dk_167 255 232 (dk_at dksX0_marks_2 8 rfl rfl)
theorem dX0_marks_56 : decode cX0_marks 56 = .ok (.iload_n 1, 1) := dk_27 (dk_at dksX0_marks_2 11 rfl rfl)
theorem dX0_marks_57 : decode cX0_marks 57 = .ok (.ireturn, 1) := dk_172 (dk_at dksX0_marks_2 12 rfl rfl)
abbrev cX0_begin : ByteArray := prog_1_method_24_code
def yX0_begin : MethodName := ⟨RX0, "begin", "()V"⟩
def dkwX0_begin_0 : List UInt8 := [3, 60, 27, 42, 180, 0, 79, 162, 0, 16, 42, 180, 0, 43, 27, 3, 79, 132, 1, 1, 167, 255, 238, 177]
abbrev dktX0_begin_0 : List UInt8 := dkwX0_begin_0 ++ []
theorem dksX0_begin_0 : cX0_begin.data.toList.drop 0 = dktX0_begin_0 := by decide +kernel
theorem dX0_begin_0 : decode cX0_begin 0 = .ok (.iconst 0, 1) := dk_3 (dk_at dksX0_begin_0 0 rfl rfl)
theorem dX0_begin_1 : decode cX0_begin 1 = .ok (.istore_n 1, 1) := dk_60 (dk_at dksX0_begin_0 1 rfl rfl)
theorem dX0_begin_2 : decode cX0_begin 2 = .ok (.iload_n 1, 1) := dk_27 (dk_at dksX0_begin_0 2 rfl rfl)
theorem dX0_begin_3 : decode cX0_begin 3 = .ok (.aload_n 0, 1) := dk_42 (dk_at dksX0_begin_0 3 rfl rfl)
theorem dX0_begin_4 : decode cX0_begin 4 = .ok (.getfield 79, 3) := dk_180 0 79 (dk_at dksX0_begin_0 4 rfl rfl)
theorem dX0_begin_7 : decode cX0_begin 7 = .ok (.if_icmp .ge 16, 3) := dk_162 0 16 (dk_at dksX0_begin_0 7 rfl rfl)
theorem dX0_begin_10 : decode cX0_begin 10 = .ok (.aload_n 0, 1) := dk_42 (dk_at dksX0_begin_0 10 rfl rfl)
theorem dX0_begin_11 : decode cX0_begin 11 = .ok (.getfield 43, 3) := dk_180 0 43 (dk_at dksX0_begin_0 11 rfl rfl)
theorem dX0_begin_14 : decode cX0_begin 14 = .ok (.iload_n 1, 1) := dk_27 (dk_at dksX0_begin_0 14 rfl rfl)
theorem dX0_begin_15 : decode cX0_begin 15 = .ok (.iconst 0, 1) := dk_3 (dk_at dksX0_begin_0 15 rfl rfl)
theorem dX0_begin_16 : decode cX0_begin 16 = .ok (.iastore, 1) := dk_79 (dk_at dksX0_begin_0 16 rfl rfl)
theorem dX0_begin_17 : decode cX0_begin 17 = .ok (.iinc 1 1, 3) := dk_132 1 1 (dk_at dksX0_begin_0 17 rfl rfl)
theorem dX0_begin_20 : decode cX0_begin 20 = .ok (.goto (-18), 3) := dk_167 255 238 (dk_at dksX0_begin_0 20 rfl rfl)
theorem dX0_begin_23 : decode cX0_begin 23 = .ok (.return_, 1) := dk_177 (dk_at dksX0_begin_0 23 rfl rfl)
abbrev cX0_goCount : ByteArray := prog_1_method_25_code
def yX0_goCount : MethodName := ⟨RX0, "goCount", "(I)V"⟩
def dkwX0_goCount_4 : List UInt8 := [42, 180, 0, 43, 42, 180, 0, 253, 92, 46, 42, 180, 1, 0, 96, 79, 177]
abbrev dktX0_goCount_4 : List UInt8 := dkwX0_goCount_4 ++ []
def dkwX0_goCount_3 : List UInt8 := [42, 180, 0, 43, 42, 180, 0, 130, 46, 79, 132, 2, 1, 167, 255, 230, 27, 42, 180, 0, 49, 160, 0, 19]
abbrev dktX0_goCount_3 : List UInt8 := dkwX0_goCount_3 ++ dktX0_goCount_4
def dkwX0_goCount_2 : List UInt8 := [180, 0, 130, 182, 0, 156, 153, 0, 34, 3, 61, 28, 42, 180, 0, 79, 162, 0, 24, 42, 180, 0, 43, 28]
abbrev dktX0_goCount_2 : List UInt8 := dkwX0_goCount_2 ++ dktX0_goCount_3
def dkwX0_goCount_1 : List UInt8 := [180, 0, 106, 96, 79, 132, 2, 1, 167, 255, 227, 42, 180, 0, 39, 27, 46, 7, 160, 0, 45, 42, 42]
abbrev dktX0_goCount_1 : List UInt8 := dkwX0_goCount_1 ++ dktX0_goCount_2
def dkwX0_goCount_0 : List UInt8 := [3, 61, 28, 42, 180, 0, 79, 162, 0, 27, 42, 180, 0, 43, 28, 92, 46, 42, 180, 0, 11, 28, 50]
abbrev dktX0_goCount_0 : List UInt8 := dkwX0_goCount_0 ++ dktX0_goCount_1
theorem dksX0_goCount_0 : cX0_goCount.data.toList.drop 0 = dktX0_goCount_0 := by decide +kernel
theorem dksX0_goCount_1 : cX0_goCount.data.toList.drop 23 = dktX0_goCount_1 := dk_seg dksX0_goCount_0 23 rfl rfl
theorem dksX0_goCount_2 : cX0_goCount.data.toList.drop 46 = dktX0_goCount_2 := dk_seg dksX0_goCount_1 23 rfl rfl
theorem dksX0_goCount_3 : cX0_goCount.data.toList.drop 70 = dktX0_goCount_3 := dk_seg dksX0_goCount_2 24 rfl rfl
theorem dksX0_goCount_4 : cX0_goCount.data.toList.drop 94 = dktX0_goCount_4 := dk_seg dksX0_goCount_3 24 rfl rfl
theorem dX0_goCount_0 : decode cX0_goCount 0 = .ok (.iconst 0, 1) := dk_3 (dk_at dksX0_goCount_0 0 rfl rfl)
theorem dX0_goCount_1 : decode cX0_goCount 1 = .ok (.istore_n 2, 1) := dk_61 (dk_at dksX0_goCount_0 1 rfl rfl)
theorem dX0_goCount_2 : decode cX0_goCount 2 = .ok (.iload_n 2, 1) := dk_28 (dk_at dksX0_goCount_0 2 rfl rfl)
theorem dX0_goCount_3 : decode cX0_goCount 3 = .ok (.aload_n 0, 1) := dk_42 (dk_at dksX0_goCount_0 3 rfl rfl)
theorem dX0_goCount_4 : decode cX0_goCount 4 = .ok (.getfield 79, 3) := dk_180 0 79 (dk_at dksX0_goCount_0 4 rfl rfl)
theorem dX0_goCount_7 : decode cX0_goCount 7 = .ok (.if_icmp .ge 27, 3) := dk_162 0 27 (dk_at dksX0_goCount_0 7 rfl rfl)
theorem dX0_goCount_10 : decode cX0_goCount 10 = .ok (.aload_n 0, 1) := dk_42 (dk_at dksX0_goCount_0 10 rfl rfl)
theorem dX0_goCount_11 : decode cX0_goCount 11 = .ok (.getfield 43, 3) := dk_180 0 43 (dk_at dksX0_goCount_0 11 rfl rfl)
theorem dX0_goCount_14 : decode cX0_goCount 14 = .ok (.iload_n 2, 1) := dk_28 (dk_at dksX0_goCount_0 14 rfl rfl)
theorem dX0_goCount_15 : decode cX0_goCount 15 = .ok (.dup2, 1) := dk_92 (dk_at dksX0_goCount_0 15 rfl rfl)
theorem dX0_goCount_16 : decode cX0_goCount 16 = .ok (.iaload, 1) := dk_46 (dk_at dksX0_goCount_0 16 rfl rfl)
theorem dX0_goCount_17 : decode cX0_goCount 17 = .ok (.aload_n 0, 1) := dk_42 (dk_at dksX0_goCount_0 17 rfl rfl)
theorem dX0_goCount_18 : decode cX0_goCount 18 = .ok (.getfield 11, 3) := dk_180 0 11 (dk_at dksX0_goCount_0 18 rfl rfl)
theorem dX0_goCount_21 : decode cX0_goCount 21 = .ok (.iload_n 2, 1) := dk_28 (dk_at dksX0_goCount_0 21 rfl rfl)
theorem dX0_goCount_22 : decode cX0_goCount 22 = .ok (.aaload, 1) := dk_50 (dk_at dksX0_goCount_0 22 rfl rfl)
theorem dX0_goCount_23 : decode cX0_goCount 23 = .ok (.getfield 106, 3) := dk_180 0 106 (dk_at dksX0_goCount_1 0 rfl rfl)
theorem dX0_goCount_26 : decode cX0_goCount 26 = .ok (.iadd, 1) := dk_96 (dk_at dksX0_goCount_1 3 rfl rfl)
theorem dX0_goCount_27 : decode cX0_goCount 27 = .ok (.iastore, 1) := dk_79 (dk_at dksX0_goCount_1 4 rfl rfl)
theorem dX0_goCount_28 : decode cX0_goCount 28 = .ok (.iinc 2 1, 3) := dk_132 2 1 (dk_at dksX0_goCount_1 5 rfl rfl)
theorem dX0_goCount_31 : decode cX0_goCount 31 = .ok (.goto (-29), 3) := dk_167 255 227 (dk_at dksX0_goCount_1 8 rfl rfl)
theorem dX0_goCount_34 : decode cX0_goCount 34 = .ok (.aload_n 0, 1) := dk_42 (dk_at dksX0_goCount_1 11 rfl rfl)
theorem dX0_goCount_35 : decode cX0_goCount 35 = .ok (.getfield 39, 3) := dk_180 0 39 (dk_at dksX0_goCount_1 12 rfl rfl)
theorem dX0_goCount_38 : decode cX0_goCount 38 = .ok (.iload_n 1, 1) := dk_27 (dk_at dksX0_goCount_1 15 rfl rfl)
theorem dX0_goCount_39 : decode cX0_goCount 39 = .ok (.iaload, 1) := dk_46 (dk_at dksX0_goCount_1 16 rfl rfl)
theorem dX0_goCount_40 : decode cX0_goCount 40 = .ok (.iconst 4, 1) := dk_7 (dk_at dksX0_goCount_1 17 rfl rfl)
theorem dX0_goCount_41 : decode cX0_goCount 41 = .ok (.if_icmp .ne 45, 3) := dk_160 0 45 (dk_at dksX0_goCount_1 18 rfl rfl)
theorem dX0_goCount_44 : decode cX0_goCount 44 = .ok (.aload_n 0, 1) := dk_42 (dk_at dksX0_goCount_1 21 rfl rfl)
theorem dX0_goCount_45 : decode cX0_goCount 45 = .ok (.aload_n 0, 1) := dk_42 (dk_at dksX0_goCount_1 22 rfl rfl)
theorem dX0_goCount_46 : decode cX0_goCount 46 = .ok (.getfield 130, 3) := dk_180 0 130 (dk_at dksX0_goCount_2 0 rfl rfl)
theorem dX0_goCount_49 : decode cX0_goCount 49 = .ok (.invokevirtual 156, 3) := dk_182 0 156 (dk_at dksX0_goCount_2 3 rfl rfl)
theorem dX0_goCount_52 : decode cX0_goCount 52 = .ok (.ifCond .eq 34, 3) := dk_153 0 34 (dk_at dksX0_goCount_2 6 rfl rfl)
theorem dX0_goCount_55 : decode cX0_goCount 55 = .ok (.iconst 0, 1) := dk_3 (dk_at dksX0_goCount_2 9 rfl rfl)
theorem dX0_goCount_56 : decode cX0_goCount 56 = .ok (.istore_n 2, 1) := dk_61 (dk_at dksX0_goCount_2 10 rfl rfl)
theorem dX0_goCount_57 : decode cX0_goCount 57 = .ok (.iload_n 2, 1) := dk_28 (dk_at dksX0_goCount_2 11 rfl rfl)
theorem dX0_goCount_58 : decode cX0_goCount 58 = .ok (.aload_n 0, 1) := dk_42 (dk_at dksX0_goCount_2 12 rfl rfl)
theorem dX0_goCount_59 : decode cX0_goCount 59 = .ok (.getfield 79, 3) := dk_180 0 79 (dk_at dksX0_goCount_2 13 rfl rfl)
theorem dX0_goCount_62 : decode cX0_goCount 62 = .ok (.if_icmp .ge 24, 3) := dk_162 0 24 (dk_at dksX0_goCount_2 16 rfl rfl)
theorem dX0_goCount_65 : decode cX0_goCount 65 = .ok (.aload_n 0, 1) := dk_42 (dk_at dksX0_goCount_2 19 rfl rfl)
theorem dX0_goCount_66 : decode cX0_goCount 66 = .ok (.getfield 43, 3) := dk_180 0 43 (dk_at dksX0_goCount_2 20 rfl rfl)
theorem dX0_goCount_69 : decode cX0_goCount 69 = .ok (.iload_n 2, 1) := dk_28 (dk_at dksX0_goCount_2 23 rfl rfl)
theorem dX0_goCount_70 : decode cX0_goCount 70 = .ok (.aload_n 0, 1) := dk_42 (dk_at dksX0_goCount_3 0 rfl rfl)
theorem dX0_goCount_71 : decode cX0_goCount 71 = .ok (.getfield 43, 3) := dk_180 0 43 (dk_at dksX0_goCount_3 1 rfl rfl)
theorem dX0_goCount_74 : decode cX0_goCount 74 = .ok (.aload_n 0, 1) := dk_42 (dk_at dksX0_goCount_3 4 rfl rfl)
theorem dX0_goCount_75 : decode cX0_goCount 75 = .ok (.getfield 130, 3) := dk_180 0 130 (dk_at dksX0_goCount_3 5 rfl rfl)
theorem dX0_goCount_78 : decode cX0_goCount 78 = .ok (.iaload, 1) := dk_46 (dk_at dksX0_goCount_3 8 rfl rfl)
theorem dX0_goCount_79 : decode cX0_goCount 79 = .ok (.iastore, 1) := dk_79 (dk_at dksX0_goCount_3 9 rfl rfl)
theorem dX0_goCount_80 : decode cX0_goCount 80 = .ok (.iinc 2 1, 3) := dk_132 2 1 (dk_at dksX0_goCount_3 10 rfl rfl)
theorem dX0_goCount_83 : decode cX0_goCount 83 = .ok (.goto (-26), 3) := dk_167 255 230 (dk_at dksX0_goCount_3 13 rfl rfl)
theorem dX0_goCount_86 : decode cX0_goCount 86 = .ok (.iload_n 1, 1) := dk_27 (dk_at dksX0_goCount_3 16 rfl rfl)
theorem dX0_goCount_87 : decode cX0_goCount 87 = .ok (.aload_n 0, 1) := dk_42 (dk_at dksX0_goCount_3 17 rfl rfl)
theorem dX0_goCount_88 : decode cX0_goCount 88 = .ok (.getfield 49, 3) := dk_180 0 49 (dk_at dksX0_goCount_3 18 rfl rfl)
theorem dX0_goCount_91 : decode cX0_goCount 91 = .ok (.if_icmp .ne 19, 3) := dk_160 0 19 (dk_at dksX0_goCount_3 21 rfl rfl)
theorem dX0_goCount_94 : decode cX0_goCount 94 = .ok (.aload_n 0, 1) := dk_42 (dk_at dksX0_goCount_4 0 rfl rfl)
theorem dX0_goCount_95 : decode cX0_goCount 95 = .ok (.getfield 43, 3) := dk_180 0 43 (dk_at dksX0_goCount_4 1 rfl rfl)
theorem dX0_goCount_98 : decode cX0_goCount 98 = .ok (.aload_n 0, 1) := dk_42 (dk_at dksX0_goCount_4 4 rfl rfl)
theorem dX0_goCount_99 : decode cX0_goCount 99 = .ok (.getfield 253, 3) := dk_180 0 253 (dk_at dksX0_goCount_4 5 rfl rfl)
theorem dX0_goCount_102 : decode cX0_goCount 102 = .ok (.dup2, 1) := dk_92 (dk_at dksX0_goCount_4 8 rfl rfl)
theorem dX0_goCount_103 : decode cX0_goCount 103 = .ok (.iaload, 1) := dk_46 (dk_at dksX0_goCount_4 9 rfl rfl)
theorem dX0_goCount_104 : decode cX0_goCount 104 = .ok (.aload_n 0, 1) := dk_42 (dk_at dksX0_goCount_4 10 rfl rfl)
theorem dX0_goCount_105 : decode cX0_goCount 105 = .ok (.getfield 256, 3) := dk_180 1 0 (dk_at dksX0_goCount_4 11 rfl rfl)
theorem dX0_goCount_108 : decode cX0_goCount 108 = .ok (.iadd, 1) := dk_96 (dk_at dksX0_goCount_4 14 rfl rfl)
theorem dX0_goCount_109 : decode cX0_goCount 109 = .ok (.iastore, 1) := dk_79 (dk_at dksX0_goCount_4 15 rfl rfl)
theorem dX0_goCount_110 : decode cX0_goCount 110 = .ok (.return_, 1) := dk_177 (dk_at dksX0_goCount_4 16 rfl rfl)
abbrev cX0_marksIn : ByteArray := prog_1_method_30_code
def yX0_marksIn : MethodName := ⟨RX0, "marksIn", "(I)I"⟩
def dkwX0_marksIn_3 : List UInt8 := [46, 21, 5, 96, 79, 28, 21, 5, 96, 61, 132, 4, 1, 167, 255, 189, 132, 3, 1, 167, 255, 170, 28, 172]
abbrev dktX0_marksIn_3 : List UInt8 := dkwX0_marksIn_3 ++ []
def dkwX0_marksIn_2 : List UInt8 := [42, 180, 0, 39, 27, 46, 27, 182, 0, 243, 54, 5, 42, 180, 0, 46, 16, 8, 29, 104, 21, 4, 96, 92]
abbrev dktX0_marksIn_2 : List UInt8 := dkwX0_marksIn_2 ++ dktX0_marksIn_3
def dkwX0_marksIn_1 : List UInt8 := [162, 0, 64, 42, 42, 180, 0, 11, 29, 50, 42, 180, 0, 11, 21, 4, 50, 42, 29, 21, 4, 182, 1, 6]
abbrev dktX0_marksIn_1 : List UInt8 := dkwX0_marksIn_1 ++ dktX0_marksIn_2
def dkwX0_marksIn_0 : List UInt8 := [3, 61, 3, 62, 29, 42, 180, 0, 79, 162, 0, 84, 29, 4, 96, 54, 4, 21, 4, 42, 180, 0, 79]
abbrev dktX0_marksIn_0 : List UInt8 := dkwX0_marksIn_0 ++ dktX0_marksIn_1
theorem dksX0_marksIn_0 : cX0_marksIn.data.toList.drop 0 = dktX0_marksIn_0 := by decide +kernel
theorem dksX0_marksIn_1 : cX0_marksIn.data.toList.drop 23 = dktX0_marksIn_1 := dk_seg dksX0_marksIn_0 23 rfl rfl
theorem dksX0_marksIn_2 : cX0_marksIn.data.toList.drop 47 = dktX0_marksIn_2 := dk_seg dksX0_marksIn_1 24 rfl rfl
theorem dksX0_marksIn_3 : cX0_marksIn.data.toList.drop 71 = dktX0_marksIn_3 := dk_seg dksX0_marksIn_2 24 rfl rfl
theorem dX0_marksIn_0 : decode cX0_marksIn 0 = .ok (.iconst 0, 1) := dk_3 (dk_at dksX0_marksIn_0 0 rfl rfl)
theorem dX0_marksIn_1 : decode cX0_marksIn 1 = .ok (.istore_n 2, 1) := dk_61 (dk_at dksX0_marksIn_0 1 rfl rfl)
theorem dX0_marksIn_2 : decode cX0_marksIn 2 = .ok (.iconst 0, 1) := dk_3 (dk_at dksX0_marksIn_0 2 rfl rfl)
theorem dX0_marksIn_3 : decode cX0_marksIn 3 = .ok (.istore_n 3, 1) := dk_62 (dk_at dksX0_marksIn_0 3 rfl rfl)
theorem dX0_marksIn_4 : decode cX0_marksIn 4 = .ok (.iload_n 3, 1) := dk_29 (dk_at dksX0_marksIn_0 4 rfl rfl)
theorem dX0_marksIn_5 : decode cX0_marksIn 5 = .ok (.aload_n 0, 1) := dk_42 (dk_at dksX0_marksIn_0 5 rfl rfl)
theorem dX0_marksIn_6 : decode cX0_marksIn 6 = .ok (.getfield 79, 3) := dk_180 0 79 (dk_at dksX0_marksIn_0 6 rfl rfl)
theorem dX0_marksIn_9 : decode cX0_marksIn 9 = .ok (.if_icmp .ge 84, 3) := dk_162 0 84 (dk_at dksX0_marksIn_0 9 rfl rfl)
theorem dX0_marksIn_12 : decode cX0_marksIn 12 = .ok (.iload_n 3, 1) := dk_29 (dk_at dksX0_marksIn_0 12 rfl rfl)
theorem dX0_marksIn_13 : decode cX0_marksIn 13 = .ok (.iconst 1, 1) := dk_4 (dk_at dksX0_marksIn_0 13 rfl rfl)
theorem dX0_marksIn_14 : decode cX0_marksIn 14 = .ok (.iadd, 1) := dk_96 (dk_at dksX0_marksIn_0 14 rfl rfl)
theorem dX0_marksIn_15 : decode cX0_marksIn 15 = .ok (.istore 4, 2) := dk_54 4 (dk_at dksX0_marksIn_0 15 rfl rfl)
theorem dX0_marksIn_17 : decode cX0_marksIn 17 = .ok (.iload 4, 2) := dk_21 4 (dk_at dksX0_marksIn_0 17 rfl rfl)
theorem dX0_marksIn_19 : decode cX0_marksIn 19 = .ok (.aload_n 0, 1) := dk_42 (dk_at dksX0_marksIn_0 19 rfl rfl)
theorem dX0_marksIn_20 : decode cX0_marksIn 20 = .ok (.getfield 79, 3) := dk_180 0 79 (dk_at dksX0_marksIn_0 20 rfl rfl)
theorem dX0_marksIn_23 : decode cX0_marksIn 23 = .ok (.if_icmp .ge 64, 3) := dk_162 0 64 (dk_at dksX0_marksIn_1 0 rfl rfl)
theorem dX0_marksIn_26 : decode cX0_marksIn 26 = .ok (.aload_n 0, 1) := dk_42 (dk_at dksX0_marksIn_1 3 rfl rfl)
theorem dX0_marksIn_27 : decode cX0_marksIn 27 = .ok (.aload_n 0, 1) := dk_42 (dk_at dksX0_marksIn_1 4 rfl rfl)
theorem dX0_marksIn_28 : decode cX0_marksIn 28 = .ok (.getfield 11, 3) := dk_180 0 11 (dk_at dksX0_marksIn_1 5 rfl rfl)
theorem dX0_marksIn_31 : decode cX0_marksIn 31 = .ok (.iload_n 3, 1) := dk_29 (dk_at dksX0_marksIn_1 8 rfl rfl)
theorem dX0_marksIn_32 : decode cX0_marksIn 32 = .ok (.aaload, 1) := dk_50 (dk_at dksX0_marksIn_1 9 rfl rfl)
theorem dX0_marksIn_33 : decode cX0_marksIn 33 = .ok (.aload_n 0, 1) := dk_42 (dk_at dksX0_marksIn_1 10 rfl rfl)
theorem dX0_marksIn_34 : decode cX0_marksIn 34 = .ok (.getfield 11, 3) := dk_180 0 11 (dk_at dksX0_marksIn_1 11 rfl rfl)
theorem dX0_marksIn_37 : decode cX0_marksIn 37 = .ok (.iload 4, 2) := dk_21 4 (dk_at dksX0_marksIn_1 14 rfl rfl)
theorem dX0_marksIn_39 : decode cX0_marksIn 39 = .ok (.aaload, 1) := dk_50 (dk_at dksX0_marksIn_1 16 rfl rfl)
theorem dX0_marksIn_40 : decode cX0_marksIn 40 = .ok (.aload_n 0, 1) := dk_42 (dk_at dksX0_marksIn_1 17 rfl rfl)
theorem dX0_marksIn_41 : decode cX0_marksIn 41 = .ok (.iload_n 3, 1) := dk_29 (dk_at dksX0_marksIn_1 18 rfl rfl)
theorem dX0_marksIn_42 : decode cX0_marksIn 42 = .ok (.iload 4, 2) := dk_21 4 (dk_at dksX0_marksIn_1 19 rfl rfl)
theorem dX0_marksIn_44 : decode cX0_marksIn 44 = .ok (.invokevirtual 262, 3) := dk_182 1 6 (dk_at dksX0_marksIn_1 21 rfl rfl)
theorem dX0_marksIn_47 : decode cX0_marksIn 47 = .ok (.aload_n 0, 1) := dk_42 (dk_at dksX0_marksIn_2 0 rfl rfl)
theorem dX0_marksIn_48 : decode cX0_marksIn 48 = .ok (.getfield 39, 3) := dk_180 0 39 (dk_at dksX0_marksIn_2 1 rfl rfl)
theorem dX0_marksIn_51 : decode cX0_marksIn 51 = .ok (.iload_n 1, 1) := dk_27 (dk_at dksX0_marksIn_2 4 rfl rfl)
theorem dX0_marksIn_52 : decode cX0_marksIn 52 = .ok (.iaload, 1) := dk_46 (dk_at dksX0_marksIn_2 5 rfl rfl)
theorem dX0_marksIn_53 : decode cX0_marksIn 53 = .ok (.iload_n 1, 1) := dk_27 (dk_at dksX0_marksIn_2 6 rfl rfl)
theorem dX0_marksIn_54 : decode cX0_marksIn 54 = .ok (.invokevirtual 243, 3) := dk_182 0 243 (dk_at dksX0_marksIn_2 7 rfl rfl)
theorem dX0_marksIn_57 : decode cX0_marksIn 57 = .ok (.istore 5, 2) := dk_54 5 (dk_at dksX0_marksIn_2 10 rfl rfl)
theorem dX0_marksIn_59 : decode cX0_marksIn 59 = .ok (.aload_n 0, 1) := dk_42 (dk_at dksX0_marksIn_2 12 rfl rfl)
theorem dX0_marksIn_60 : decode cX0_marksIn 60 = .ok (.getfield 46, 3) := dk_180 0 46 (dk_at dksX0_marksIn_2 13 rfl rfl)
theorem dX0_marksIn_63 : decode cX0_marksIn 63 = .ok (.bipush 8, 2) := dk_16 8 (dk_at dksX0_marksIn_2 16 rfl rfl)
theorem dX0_marksIn_65 : decode cX0_marksIn 65 = .ok (.iload_n 3, 1) := dk_29 (dk_at dksX0_marksIn_2 18 rfl rfl)
theorem dX0_marksIn_66 : decode cX0_marksIn 66 = .ok (.imul, 1) := dk_104 (dk_at dksX0_marksIn_2 19 rfl rfl)
theorem dX0_marksIn_67 : decode cX0_marksIn 67 = .ok (.iload 4, 2) := dk_21 4 (dk_at dksX0_marksIn_2 20 rfl rfl)
theorem dX0_marksIn_69 : decode cX0_marksIn 69 = .ok (.iadd, 1) := dk_96 (dk_at dksX0_marksIn_2 22 rfl rfl)
theorem dX0_marksIn_70 : decode cX0_marksIn 70 = .ok (.dup2, 1) := dk_92 (dk_at dksX0_marksIn_2 23 rfl rfl)
theorem dX0_marksIn_71 : decode cX0_marksIn 71 = .ok (.iaload, 1) := dk_46 (dk_at dksX0_marksIn_3 0 rfl rfl)
theorem dX0_marksIn_72 : decode cX0_marksIn 72 = .ok (.iload 5, 2) := dk_21 5 (dk_at dksX0_marksIn_3 1 rfl rfl)
theorem dX0_marksIn_74 : decode cX0_marksIn 74 = .ok (.iadd, 1) := dk_96 (dk_at dksX0_marksIn_3 3 rfl rfl)
theorem dX0_marksIn_75 : decode cX0_marksIn 75 = .ok (.iastore, 1) := dk_79 (dk_at dksX0_marksIn_3 4 rfl rfl)
theorem dX0_marksIn_76 : decode cX0_marksIn 76 = .ok (.iload_n 2, 1) := dk_28 (dk_at dksX0_marksIn_3 5 rfl rfl)
theorem dX0_marksIn_77 : decode cX0_marksIn 77 = .ok (.iload 5, 2) := dk_21 5 (dk_at dksX0_marksIn_3 6 rfl rfl)
theorem dX0_marksIn_79 : decode cX0_marksIn 79 = .ok (.iadd, 1) := dk_96 (dk_at dksX0_marksIn_3 8 rfl rfl)
theorem dX0_marksIn_80 : decode cX0_marksIn 80 = .ok (.istore_n 2, 1) := dk_61 (dk_at dksX0_marksIn_3 9 rfl rfl)
theorem dX0_marksIn_81 : decode cX0_marksIn 81 = .ok (.iinc 4 1, 3) := dk_132 4 1 (dk_at dksX0_marksIn_3 10 rfl rfl)
theorem dX0_marksIn_84 : decode cX0_marksIn 84 = .ok (.goto (-67), 3) := dk_167 255 189 (dk_at dksX0_marksIn_3 13 rfl rfl)
theorem dX0_marksIn_87 : decode cX0_marksIn 87 = .ok (.iinc 3 1, 3) := dk_132 3 1 (dk_at dksX0_marksIn_3 16 rfl rfl)
theorem dX0_marksIn_90 : decode cX0_marksIn 90 = .ok (.goto (-86), 3) := dk_167 255 170 (dk_at dksX0_marksIn_3 19 rfl rfl)
theorem dX0_marksIn_93 : decode cX0_marksIn 93 = .ok (.iload_n 2, 1) := dk_28 (dk_at dksX0_marksIn_3 22 rfl rfl)
theorem dX0_marksIn_94 : decode cX0_marksIn 94 = .ok (.ireturn, 1) := dk_172 (dk_at dksX0_marksIn_3 23 rfl rfl)
abbrev cX0_apartOf : ByteArray := prog_1_method_27_code
def yX0_apartOf : MethodName := ⟨RX0, "apartOf", "(II)I"⟩
def dkwX0_apartOf_0 : List UInt8 := [42, 27, 182, 1, 3, 42, 28, 182, 1, 3, 100, 184, 0, 228, 172]
abbrev dktX0_apartOf_0 : List UInt8 := dkwX0_apartOf_0 ++ []
theorem dksX0_apartOf_0 : cX0_apartOf.data.toList.drop 0 = dktX0_apartOf_0 := by decide +kernel
theorem dX0_apartOf_0 : decode cX0_apartOf 0 = .ok (.aload_n 0, 1) := dk_42 (dk_at dksX0_apartOf_0 0 rfl rfl)
theorem dX0_apartOf_1 : decode cX0_apartOf 1 = .ok (.iload_n 1, 1) := dk_27 (dk_at dksX0_apartOf_0 1 rfl rfl)
theorem dX0_apartOf_2 : decode cX0_apartOf 2 = .ok (.invokevirtual 259, 3) := dk_182 1 3 (dk_at dksX0_apartOf_0 2 rfl rfl)
theorem dX0_apartOf_5 : decode cX0_apartOf 5 = .ok (.aload_n 0, 1) := dk_42 (dk_at dksX0_apartOf_0 5 rfl rfl)
theorem dX0_apartOf_6 : decode cX0_apartOf 6 = .ok (.iload_n 2, 1) := dk_28 (dk_at dksX0_apartOf_0 6 rfl rfl)
theorem dX0_apartOf_7 : decode cX0_apartOf 7 = .ok (.invokevirtual 259, 3) := dk_182 1 3 (dk_at dksX0_apartOf_0 7 rfl rfl)
theorem dX0_apartOf_10 : decode cX0_apartOf 10 = .ok (.isub, 1) := dk_100 (dk_at dksX0_apartOf_0 10 rfl rfl)
theorem dX0_apartOf_11 : decode cX0_apartOf 11 = .ok (.invokestatic 228, 3) := dk_184 0 228 (dk_at dksX0_apartOf_0 11 rfl rfl)
theorem dX0_apartOf_14 : decode cX0_apartOf 14 = .ok (.ireturn, 1) := dk_172 (dk_at dksX0_apartOf_0 14 rfl rfl)
abbrev cX0_offOf : ByteArray := prog_1_method_26_code
def yX0_offOf : MethodName := ⟨RX0, "offOf", "(I)I"⟩
def dkwX0_offOf_0 : List UInt8 := [42, 180, 0, 43, 27, 46, 42, 180, 0, 11, 27, 50, 180, 0, 127, 100, 172]
abbrev dktX0_offOf_0 : List UInt8 := dkwX0_offOf_0 ++ []
theorem dksX0_offOf_0 : cX0_offOf.data.toList.drop 0 = dktX0_offOf_0 := by decide +kernel
theorem dX0_offOf_0 : decode cX0_offOf 0 = .ok (.aload_n 0, 1) := dk_42 (dk_at dksX0_offOf_0 0 rfl rfl)
theorem dX0_offOf_1 : decode cX0_offOf 1 = .ok (.getfield 43, 3) := dk_180 0 43 (dk_at dksX0_offOf_0 1 rfl rfl)
theorem dX0_offOf_4 : decode cX0_offOf 4 = .ok (.iload_n 1, 1) := dk_27 (dk_at dksX0_offOf_0 4 rfl rfl)
theorem dX0_offOf_5 : decode cX0_offOf 5 = .ok (.iaload, 1) := dk_46 (dk_at dksX0_offOf_0 5 rfl rfl)
theorem dX0_offOf_6 : decode cX0_offOf 6 = .ok (.aload_n 0, 1) := dk_42 (dk_at dksX0_offOf_0 6 rfl rfl)
theorem dX0_offOf_7 : decode cX0_offOf 7 = .ok (.getfield 11, 3) := dk_180 0 11 (dk_at dksX0_offOf_0 7 rfl rfl)
theorem dX0_offOf_10 : decode cX0_offOf 10 = .ok (.iload_n 1, 1) := dk_27 (dk_at dksX0_offOf_0 10 rfl rfl)
theorem dX0_offOf_11 : decode cX0_offOf 11 = .ok (.aaload, 1) := dk_50 (dk_at dksX0_offOf_0 11 rfl rfl)
theorem dX0_offOf_12 : decode cX0_offOf 12 = .ok (.getfield 127, 3) := dk_180 0 127 (dk_at dksX0_offOf_0 12 rfl rfl)
theorem dX0_offOf_15 : decode cX0_offOf 15 = .ok (.isub, 1) := dk_100 (dk_at dksX0_offOf_0 15 rfl rfl)
theorem dX0_offOf_16 : decode cX0_offOf 16 = .ok (.ireturn, 1) := dk_172 (dk_at dksX0_offOf_0 16 rfl rfl)
abbrev cX0_firstSeen : ByteArray := prog_1_method_32_code
def yX0_firstSeen : MethodName := ⟨RX0, "firstSeen", "()I"⟩
def dkwX0_firstSeen_1 : List UInt8 := [180, 0, 15, 161, 0, 5, 27, 172, 132, 1, 1, 167, 255, 227, 16, 254, 172]
abbrev dktX0_firstSeen_1 : List UInt8 := dkwX0_firstSeen_1 ++ []
def dkwX0_firstSeen_0 : List UInt8 := [42, 182, 1, 9, 3, 60, 27, 42, 180, 0, 247, 162, 0, 27, 42, 27, 182, 1, 12, 42, 182, 1, 19, 42]
abbrev dktX0_firstSeen_0 : List UInt8 := dkwX0_firstSeen_0 ++ dktX0_firstSeen_1
theorem dksX0_firstSeen_0 : cX0_firstSeen.data.toList.drop 0 = dktX0_firstSeen_0 := by decide +kernel
theorem dksX0_firstSeen_1 : cX0_firstSeen.data.toList.drop 24 = dktX0_firstSeen_1 := dk_seg dksX0_firstSeen_0 24 rfl rfl
theorem dX0_firstSeen_0 : decode cX0_firstSeen 0 = .ok (.aload_n 0, 1) := dk_42 (dk_at dksX0_firstSeen_0 0 rfl rfl)
theorem dX0_firstSeen_1 : decode cX0_firstSeen 1 = .ok (.invokevirtual 265, 3) := dk_182 1 9 (dk_at dksX0_firstSeen_0 1 rfl rfl)
theorem dX0_firstSeen_4 : decode cX0_firstSeen 4 = .ok (.iconst 0, 1) := dk_3 (dk_at dksX0_firstSeen_0 4 rfl rfl)
theorem dX0_firstSeen_5 : decode cX0_firstSeen 5 = .ok (.istore_n 1, 1) := dk_60 (dk_at dksX0_firstSeen_0 5 rfl rfl)
theorem dX0_firstSeen_6 : decode cX0_firstSeen 6 = .ok (.iload_n 1, 1) := dk_27 (dk_at dksX0_firstSeen_0 6 rfl rfl)
theorem dX0_firstSeen_7 : decode cX0_firstSeen 7 = .ok (.aload_n 0, 1) := dk_42 (dk_at dksX0_firstSeen_0 7 rfl rfl)
theorem dX0_firstSeen_8 : decode cX0_firstSeen 8 = .ok (.getfield 247, 3) := dk_180 0 247 (dk_at dksX0_firstSeen_0 8 rfl rfl)
theorem dX0_firstSeen_11 : decode cX0_firstSeen 11 = .ok (.if_icmp .ge 27, 3) := dk_162 0 27 (dk_at dksX0_firstSeen_0 11 rfl rfl)
theorem dX0_firstSeen_14 : decode cX0_firstSeen 14 = .ok (.aload_n 0, 1) := dk_42 (dk_at dksX0_firstSeen_0 14 rfl rfl)
theorem dX0_firstSeen_15 : decode cX0_firstSeen 15 = .ok (.iload_n 1, 1) := dk_27 (dk_at dksX0_firstSeen_0 15 rfl rfl)
theorem dX0_firstSeen_16 : decode cX0_firstSeen 16 = .ok (.invokevirtual 268, 3) := dk_182 1 12 (dk_at dksX0_firstSeen_0 16 rfl rfl)
theorem dX0_firstSeen_19 : decode cX0_firstSeen 19 = .ok (.aload_n 0, 1) := dk_42 (dk_at dksX0_firstSeen_0 19 rfl rfl)
theorem dX0_firstSeen_20 : decode cX0_firstSeen 20 = .ok (.invokevirtual 275, 3) := dk_182 1 19 (dk_at dksX0_firstSeen_0 20 rfl rfl)
theorem dX0_firstSeen_23 : decode cX0_firstSeen 23 = .ok (.aload_n 0, 1) := dk_42 (dk_at dksX0_firstSeen_0 23 rfl rfl)
theorem dX0_firstSeen_24 : decode cX0_firstSeen 24 = .ok (.getfield 15, 3) := dk_180 0 15 (dk_at dksX0_firstSeen_1 0 rfl rfl)
theorem dX0_firstSeen_27 : decode cX0_firstSeen 27 = .ok (.if_icmp .lt 5, 3) := dk_161 0 5 (dk_at dksX0_firstSeen_1 3 rfl rfl)
theorem dX0_firstSeen_30 : decode cX0_firstSeen 30 = .ok (.iload_n 1, 1) := dk_27 (dk_at dksX0_firstSeen_1 6 rfl rfl)
theorem dX0_firstSeen_31 : decode cX0_firstSeen 31 = .ok (.ireturn, 1) := dk_172 (dk_at dksX0_firstSeen_1 7 rfl rfl)
theorem dX0_firstSeen_32 : decode cX0_firstSeen 32 = .ok (.iinc 1 1, 3) := dk_132 1 1 (dk_at dksX0_firstSeen_1 8 rfl rfl)
theorem dX0_firstSeen_35 : decode cX0_firstSeen 35 = .ok (.goto (-29), 3) := dk_167 255 227 (dk_at dksX0_firstSeen_1 11 rfl rfl)
theorem dX0_firstSeen_38 : decode cX0_firstSeen 38 = .ok (.bipush (-2), 2) := dk_16 254 (dk_at dksX0_firstSeen_1 14 rfl rfl)
theorem dX0_firstSeen_40 : decode cX0_firstSeen 40 = .ok (.ireturn, 1) := dk_172 (dk_at dksX0_firstSeen_1 16 rfl rfl)
abbrev cX0_apartNow : ByteArray := prog_1_method_28_code
def yX0_apartNow : MethodName := ⟨RX0, "apartNow", "()I"⟩
def dkwX0_apartNow_2 : List UInt8 := [172]
abbrev dktX0_apartNow_2 : List UInt8 := dkwX0_apartNow_2 ++ []
def dkwX0_apartNow_1 : List UInt8 := [27, 42, 28, 29, 182, 1, 6, 184, 0, 240, 60, 132, 3, 1, 167, 255, 234, 132, 2, 1, 167, 255, 216, 27]
abbrev dktX0_apartNow_1 : List UInt8 := dkwX0_apartNow_1 ++ dktX0_apartNow_2
def dkwX0_apartNow_0 : List UInt8 := [3, 60, 3, 61, 28, 42, 180, 0, 79, 162, 0, 38, 28, 4, 96, 62, 29, 42, 180, 0, 79, 162, 0, 20]
abbrev dktX0_apartNow_0 : List UInt8 := dkwX0_apartNow_0 ++ dktX0_apartNow_1
theorem dksX0_apartNow_0 : cX0_apartNow.data.toList.drop 0 = dktX0_apartNow_0 := by decide +kernel
theorem dksX0_apartNow_1 : cX0_apartNow.data.toList.drop 24 = dktX0_apartNow_1 := dk_seg dksX0_apartNow_0 24 rfl rfl
theorem dksX0_apartNow_2 : cX0_apartNow.data.toList.drop 48 = dktX0_apartNow_2 := dk_seg dksX0_apartNow_1 24 rfl rfl
theorem dX0_apartNow_0 : decode cX0_apartNow 0 = .ok (.iconst 0, 1) := dk_3 (dk_at dksX0_apartNow_0 0 rfl rfl)
theorem dX0_apartNow_1 : decode cX0_apartNow 1 = .ok (.istore_n 1, 1) := dk_60 (dk_at dksX0_apartNow_0 1 rfl rfl)
theorem dX0_apartNow_2 : decode cX0_apartNow 2 = .ok (.iconst 0, 1) := dk_3 (dk_at dksX0_apartNow_0 2 rfl rfl)
theorem dX0_apartNow_3 : decode cX0_apartNow 3 = .ok (.istore_n 2, 1) := dk_61 (dk_at dksX0_apartNow_0 3 rfl rfl)
theorem dX0_apartNow_4 : decode cX0_apartNow 4 = .ok (.iload_n 2, 1) := dk_28 (dk_at dksX0_apartNow_0 4 rfl rfl)
theorem dX0_apartNow_5 : decode cX0_apartNow 5 = .ok (.aload_n 0, 1) := dk_42 (dk_at dksX0_apartNow_0 5 rfl rfl)
theorem dX0_apartNow_6 : decode cX0_apartNow 6 = .ok (.getfield 79, 3) := dk_180 0 79 (dk_at dksX0_apartNow_0 6 rfl rfl)
theorem dX0_apartNow_9 : decode cX0_apartNow 9 = .ok (.if_icmp .ge 38, 3) := dk_162 0 38 (dk_at dksX0_apartNow_0 9 rfl rfl)
theorem dX0_apartNow_12 : decode cX0_apartNow 12 = .ok (.iload_n 2, 1) := dk_28 (dk_at dksX0_apartNow_0 12 rfl rfl)
theorem dX0_apartNow_13 : decode cX0_apartNow 13 = .ok (.iconst 1, 1) := dk_4 (dk_at dksX0_apartNow_0 13 rfl rfl)
theorem dX0_apartNow_14 : decode cX0_apartNow 14 = .ok (.iadd, 1) := dk_96 (dk_at dksX0_apartNow_0 14 rfl rfl)
theorem dX0_apartNow_15 : decode cX0_apartNow 15 = .ok (.istore_n 3, 1) := dk_62 (dk_at dksX0_apartNow_0 15 rfl rfl)
theorem dX0_apartNow_16 : decode cX0_apartNow 16 = .ok (.iload_n 3, 1) := dk_29 (dk_at dksX0_apartNow_0 16 rfl rfl)
theorem dX0_apartNow_17 : decode cX0_apartNow 17 = .ok (.aload_n 0, 1) := dk_42 (dk_at dksX0_apartNow_0 17 rfl rfl)
theorem dX0_apartNow_18 : decode cX0_apartNow 18 = .ok (.getfield 79, 3) := dk_180 0 79 (dk_at dksX0_apartNow_0 18 rfl rfl)
theorem dX0_apartNow_21 : decode cX0_apartNow 21 = .ok (.if_icmp .ge 20, 3) := dk_162 0 20 (dk_at dksX0_apartNow_0 21 rfl rfl)
theorem dX0_apartNow_24 : decode cX0_apartNow 24 = .ok (.iload_n 1, 1) := dk_27 (dk_at dksX0_apartNow_1 0 rfl rfl)
theorem dX0_apartNow_25 : decode cX0_apartNow 25 = .ok (.aload_n 0, 1) := dk_42 (dk_at dksX0_apartNow_1 1 rfl rfl)
theorem dX0_apartNow_26 : decode cX0_apartNow 26 = .ok (.iload_n 2, 1) := dk_28 (dk_at dksX0_apartNow_1 2 rfl rfl)
theorem dX0_apartNow_27 : decode cX0_apartNow 27 = .ok (.iload_n 3, 1) := dk_29 (dk_at dksX0_apartNow_1 3 rfl rfl)
theorem dX0_apartNow_28 : decode cX0_apartNow 28 = .ok (.invokevirtual 262, 3) := dk_182 1 6 (dk_at dksX0_apartNow_1 4 rfl rfl)
theorem dX0_apartNow_31 : decode cX0_apartNow 31 = .ok (.invokestatic 240, 3) := dk_184 0 240 (dk_at dksX0_apartNow_1 7 rfl rfl)
theorem dX0_apartNow_34 : decode cX0_apartNow 34 = .ok (.istore_n 1, 1) := dk_60 (dk_at dksX0_apartNow_1 10 rfl rfl)
theorem dX0_apartNow_35 : decode cX0_apartNow 35 = .ok (.iinc 3 1, 3) := dk_132 3 1 (dk_at dksX0_apartNow_1 11 rfl rfl)
theorem dX0_apartNow_38 : decode cX0_apartNow 38 = .ok (.goto (-22), 3) := dk_167 255 234 (dk_at dksX0_apartNow_1 14 rfl rfl)
theorem dX0_apartNow_41 : decode cX0_apartNow 41 = .ok (.iinc 2 1, 3) := dk_132 2 1 (dk_at dksX0_apartNow_1 17 rfl rfl)
theorem dX0_apartNow_44 : decode cX0_apartNow 44 = .ok (.goto (-40), 3) := dk_167 255 216 (dk_at dksX0_apartNow_1 20 rfl rfl)
theorem dX0_apartNow_47 : decode cX0_apartNow 47 = .ok (.iload_n 1, 1) := dk_27 (dk_at dksX0_apartNow_1 23 rfl rfl)
theorem dX0_apartNow_48 : decode cX0_apartNow 48 = .ok (.ireturn, 1) := dk_172 (dk_at dksX0_apartNow_2 0 rfl rfl)
abbrev cX0_worstTwo : ByteArray := prog_1_method_33_code
def yX0_worstTwo : MethodName := ⟨RX0, "worstTwo", "()I"⟩
def dkwX0_worstTwo_2 : List UInt8 := [29, 46, 61, 132, 3, 1, 167, 255, 214, 27, 172]
abbrev dktX0_worstTwo_2 : List UInt8 := dkwX0_worstTwo_2 ++ []
def dkwX0_worstTwo_1 : List UInt8 := [28, 163, 0, 6, 167, 0, 23, 29, 16, 8, 108, 16, 10, 104, 29, 16, 8, 112, 96, 60, 42, 180, 0, 46]
abbrev dktX0_worstTwo_1 : List UInt8 := dkwX0_worstTwo_1 ++ dktX0_worstTwo_2
def dkwX0_worstTwo_0 : List UInt8 := [42, 182, 1, 22, 87, 16, 254, 60, 3, 61, 3, 62, 29, 16, 64, 162, 0, 42, 42, 180, 0, 46, 29, 46]
abbrev dktX0_worstTwo_0 : List UInt8 := dkwX0_worstTwo_0 ++ dktX0_worstTwo_1
theorem dksX0_worstTwo_0 : cX0_worstTwo.data.toList.drop 0 = dktX0_worstTwo_0 := by decide +kernel
theorem dksX0_worstTwo_1 : cX0_worstTwo.data.toList.drop 24 = dktX0_worstTwo_1 := dk_seg dksX0_worstTwo_0 24 rfl rfl
theorem dksX0_worstTwo_2 : cX0_worstTwo.data.toList.drop 48 = dktX0_worstTwo_2 := dk_seg dksX0_worstTwo_1 24 rfl rfl
theorem dX0_worstTwo_0 : decode cX0_worstTwo 0 = .ok (.aload_n 0, 1) := dk_42 (dk_at dksX0_worstTwo_0 0 rfl rfl)
theorem dX0_worstTwo_1 : decode cX0_worstTwo 1 = .ok (.invokevirtual 278, 3) := dk_182 1 22 (dk_at dksX0_worstTwo_0 1 rfl rfl)
theorem dX0_worstTwo_4 : decode cX0_worstTwo 4 = .ok (.pop, 1) := dk_87 (dk_at dksX0_worstTwo_0 4 rfl rfl)
theorem dX0_worstTwo_5 : decode cX0_worstTwo 5 = .ok (.bipush (-2), 2) := dk_16 254 (dk_at dksX0_worstTwo_0 5 rfl rfl)
theorem dX0_worstTwo_7 : decode cX0_worstTwo 7 = .ok (.istore_n 1, 1) := dk_60 (dk_at dksX0_worstTwo_0 7 rfl rfl)
theorem dX0_worstTwo_8 : decode cX0_worstTwo 8 = .ok (.iconst 0, 1) := dk_3 (dk_at dksX0_worstTwo_0 8 rfl rfl)
theorem dX0_worstTwo_9 : decode cX0_worstTwo 9 = .ok (.istore_n 2, 1) := dk_61 (dk_at dksX0_worstTwo_0 9 rfl rfl)
theorem dX0_worstTwo_10 : decode cX0_worstTwo 10 = .ok (.iconst 0, 1) := dk_3 (dk_at dksX0_worstTwo_0 10 rfl rfl)
theorem dX0_worstTwo_11 : decode cX0_worstTwo 11 = .ok (.istore_n 3, 1) := dk_62 (dk_at dksX0_worstTwo_0 11 rfl rfl)
theorem dX0_worstTwo_12 : decode cX0_worstTwo 12 = .ok (.iload_n 3, 1) := dk_29 (dk_at dksX0_worstTwo_0 12 rfl rfl)
theorem dX0_worstTwo_13 : decode cX0_worstTwo 13 = .ok (.bipush 64, 2) := dk_16 64 (dk_at dksX0_worstTwo_0 13 rfl rfl)
theorem dX0_worstTwo_15 : decode cX0_worstTwo 15 = .ok (.if_icmp .ge 42, 3) := dk_162 0 42 (dk_at dksX0_worstTwo_0 15 rfl rfl)
theorem dX0_worstTwo_18 : decode cX0_worstTwo 18 = .ok (.aload_n 0, 1) := dk_42 (dk_at dksX0_worstTwo_0 18 rfl rfl)
theorem dX0_worstTwo_19 : decode cX0_worstTwo 19 = .ok (.getfield 46, 3) := dk_180 0 46 (dk_at dksX0_worstTwo_0 19 rfl rfl)
theorem dX0_worstTwo_22 : decode cX0_worstTwo 22 = .ok (.iload_n 3, 1) := dk_29 (dk_at dksX0_worstTwo_0 22 rfl rfl)
theorem dX0_worstTwo_23 : decode cX0_worstTwo 23 = .ok (.iaload, 1) := dk_46 (dk_at dksX0_worstTwo_0 23 rfl rfl)
theorem dX0_worstTwo_24 : decode cX0_worstTwo 24 = .ok (.iload_n 2, 1) := dk_28 (dk_at dksX0_worstTwo_1 0 rfl rfl)
theorem dX0_worstTwo_25 : decode cX0_worstTwo 25 = .ok (.if_icmp .gt 6, 3) := dk_163 0 6 (dk_at dksX0_worstTwo_1 1 rfl rfl)
theorem dX0_worstTwo_28 : decode cX0_worstTwo 28 = .ok (.goto 23, 3) := dk_167 0 23 (dk_at dksX0_worstTwo_1 4 rfl rfl)
theorem dX0_worstTwo_31 : decode cX0_worstTwo 31 = .ok (.iload_n 3, 1) := dk_29 (dk_at dksX0_worstTwo_1 7 rfl rfl)
theorem dX0_worstTwo_32 : decode cX0_worstTwo 32 = .ok (.bipush 8, 2) := dk_16 8 (dk_at dksX0_worstTwo_1 8 rfl rfl)
theorem dX0_worstTwo_34 : decode cX0_worstTwo 34 = .ok (.idiv, 1) := dk_108 (dk_at dksX0_worstTwo_1 10 rfl rfl)
theorem dX0_worstTwo_35 : decode cX0_worstTwo 35 = .ok (.bipush 10, 2) := dk_16 10 (dk_at dksX0_worstTwo_1 11 rfl rfl)
theorem dX0_worstTwo_37 : decode cX0_worstTwo 37 = .ok (.imul, 1) := dk_104 (dk_at dksX0_worstTwo_1 13 rfl rfl)
theorem dX0_worstTwo_38 : decode cX0_worstTwo 38 = .ok (.iload_n 3, 1) := dk_29 (dk_at dksX0_worstTwo_1 14 rfl rfl)
theorem dX0_worstTwo_39 : decode cX0_worstTwo 39 = .ok (.bipush 8, 2) := dk_16 8 (dk_at dksX0_worstTwo_1 15 rfl rfl)
theorem dX0_worstTwo_41 : decode cX0_worstTwo 41 = .ok (.irem, 1) := dk_112 (dk_at dksX0_worstTwo_1 17 rfl rfl)
theorem dX0_worstTwo_42 : decode cX0_worstTwo 42 = .ok (.iadd, 1) := dk_96 (dk_at dksX0_worstTwo_1 18 rfl rfl)
theorem dX0_worstTwo_43 : decode cX0_worstTwo 43 = .ok (.istore_n 1, 1) := dk_60 (dk_at dksX0_worstTwo_1 19 rfl rfl)
theorem dX0_worstTwo_44 : decode cX0_worstTwo 44 = .ok (.aload_n 0, 1) := dk_42 (dk_at dksX0_worstTwo_1 20 rfl rfl)
theorem dX0_worstTwo_45 : decode cX0_worstTwo 45 = .ok (.getfield 46, 3) := dk_180 0 46 (dk_at dksX0_worstTwo_1 21 rfl rfl)
theorem dX0_worstTwo_48 : decode cX0_worstTwo 48 = .ok (.iload_n 3, 1) := dk_29 (dk_at dksX0_worstTwo_2 0 rfl rfl)
theorem dX0_worstTwo_49 : decode cX0_worstTwo 49 = .ok (.iaload, 1) := dk_46 (dk_at dksX0_worstTwo_2 1 rfl rfl)
theorem dX0_worstTwo_50 : decode cX0_worstTwo 50 = .ok (.istore_n 2, 1) := dk_61 (dk_at dksX0_worstTwo_2 2 rfl rfl)
theorem dX0_worstTwo_51 : decode cX0_worstTwo 51 = .ok (.iinc 3 1, 3) := dk_132 3 1 (dk_at dksX0_worstTwo_2 3 rfl rfl)
theorem dX0_worstTwo_54 : decode cX0_worstTwo 54 = .ok (.goto (-42), 3) := dk_167 255 214 (dk_at dksX0_worstTwo_2 6 rfl rfl)
theorem dX0_worstTwo_57 : decode cX0_worstTwo 57 = .ok (.iload_n 1, 1) := dk_27 (dk_at dksX0_worstTwo_2 9 rfl rfl)
theorem dX0_worstTwo_58 : decode cX0_worstTwo 58 = .ok (.ireturn, 1) := dk_172 (dk_at dksX0_worstTwo_2 10 rfl rfl)
abbrev cX0_off : ByteArray := prog_1_method_36_code
def yX0_off : MethodName := ⟨RX0, "off", "(III)I"⟩
def dkwX0_off_2 : List UInt8 := [172]
abbrev dktX0_off_2 : List UInt8 := dkwX0_off_2 ++ []
def dkwX0_off_1 : List UInt8 := [153, 0, 11, 42, 27, 182, 1, 25, 156, 0, 6, 18, 174, 172, 42, 28, 182, 1, 34, 42, 29, 182, 1, 3]
abbrev dktX0_off_1 : List UInt8 := dkwX0_off_1 ++ dktX0_off_2
def dkwX0_off_0 : List UInt8 := [27, 184, 0, 97, 153, 0, 29, 28, 3, 16, 60, 184, 0, 82, 153, 0, 19, 42, 29, 182, 0, 156]
abbrev dktX0_off_0 : List UInt8 := dkwX0_off_0 ++ dktX0_off_1
theorem dksX0_off_0 : cX0_off.data.toList.drop 0 = dktX0_off_0 := by decide +kernel
theorem dksX0_off_1 : cX0_off.data.toList.drop 22 = dktX0_off_1 := dk_seg dksX0_off_0 22 rfl rfl
theorem dksX0_off_2 : cX0_off.data.toList.drop 46 = dktX0_off_2 := dk_seg dksX0_off_1 24 rfl rfl
theorem dX0_off_0 : decode cX0_off 0 = .ok (.iload_n 1, 1) := dk_27 (dk_at dksX0_off_0 0 rfl rfl)
theorem dX0_off_1 : decode cX0_off 1 = .ok (.invokestatic 97, 3) := dk_184 0 97 (dk_at dksX0_off_0 1 rfl rfl)
theorem dX0_off_4 : decode cX0_off 4 = .ok (.ifCond .eq 29, 3) := dk_153 0 29 (dk_at dksX0_off_0 4 rfl rfl)
theorem dX0_off_7 : decode cX0_off 7 = .ok (.iload_n 2, 1) := dk_28 (dk_at dksX0_off_0 7 rfl rfl)
theorem dX0_off_8 : decode cX0_off 8 = .ok (.iconst 0, 1) := dk_3 (dk_at dksX0_off_0 8 rfl rfl)
theorem dX0_off_9 : decode cX0_off 9 = .ok (.bipush 60, 2) := dk_16 60 (dk_at dksX0_off_0 9 rfl rfl)
theorem dX0_off_11 : decode cX0_off 11 = .ok (.invokestatic 82, 3) := dk_184 0 82 (dk_at dksX0_off_0 11 rfl rfl)
theorem dX0_off_14 : decode cX0_off 14 = .ok (.ifCond .eq 19, 3) := dk_153 0 19 (dk_at dksX0_off_0 14 rfl rfl)
theorem dX0_off_17 : decode cX0_off 17 = .ok (.aload_n 0, 1) := dk_42 (dk_at dksX0_off_0 17 rfl rfl)
theorem dX0_off_18 : decode cX0_off 18 = .ok (.iload_n 3, 1) := dk_29 (dk_at dksX0_off_0 18 rfl rfl)
theorem dX0_off_19 : decode cX0_off 19 = .ok (.invokevirtual 156, 3) := dk_182 0 156 (dk_at dksX0_off_0 19 rfl rfl)
theorem dX0_off_22 : decode cX0_off 22 = .ok (.ifCond .eq 11, 3) := dk_153 0 11 (dk_at dksX0_off_1 0 rfl rfl)
theorem dX0_off_25 : decode cX0_off 25 = .ok (.aload_n 0, 1) := dk_42 (dk_at dksX0_off_1 3 rfl rfl)
theorem dX0_off_26 : decode cX0_off 26 = .ok (.iload_n 1, 1) := dk_27 (dk_at dksX0_off_1 4 rfl rfl)
theorem dX0_off_27 : decode cX0_off 27 = .ok (.invokevirtual 281, 3) := dk_182 1 25 (dk_at dksX0_off_1 5 rfl rfl)
theorem dX0_off_30 : decode cX0_off 30 = .ok (.ifCond .ge 6, 3) := dk_156 0 6 (dk_at dksX0_off_1 8 rfl rfl)
theorem dX0_off_33 : decode cX0_off 33 = .ok (.ldc 174, 2) := dk_18 174 (dk_at dksX0_off_1 11 rfl rfl)
theorem dX0_off_35 : decode cX0_off 35 = .ok (.ireturn, 1) := dk_172 (dk_at dksX0_off_1 13 rfl rfl)
theorem dX0_off_36 : decode cX0_off 36 = .ok (.aload_n 0, 1) := dk_42 (dk_at dksX0_off_1 14 rfl rfl)
theorem dX0_off_37 : decode cX0_off 37 = .ok (.iload_n 2, 1) := dk_28 (dk_at dksX0_off_1 15 rfl rfl)
theorem dX0_off_38 : decode cX0_off 38 = .ok (.invokevirtual 290, 3) := dk_182 1 34 (dk_at dksX0_off_1 16 rfl rfl)
theorem dX0_off_41 : decode cX0_off 41 = .ok (.aload_n 0, 1) := dk_42 (dk_at dksX0_off_1 19 rfl rfl)
theorem dX0_off_42 : decode cX0_off 42 = .ok (.iload_n 3, 1) := dk_29 (dk_at dksX0_off_1 20 rfl rfl)
theorem dX0_off_43 : decode cX0_off 43 = .ok (.invokevirtual 259, 3) := dk_182 1 3 (dk_at dksX0_off_1 21 rfl rfl)
theorem dX0_off_46 : decode cX0_off 46 = .ok (.ireturn, 1) := dk_172 (dk_at dksX0_off_2 0 rfl rfl)
abbrev cX0_goCounts : ByteArray := prog_1_method_35_code
def yX0_goCounts : MethodName := ⟨RX0, "goCounts", "(I)V"⟩
def dkwX0_goCounts_1 : List UInt8 := [132, 2, 1, 167, 255, 235, 177]
abbrev dktX0_goCounts_1 : List UInt8 := dkwX0_goCounts_1 ++ []
def dkwX0_goCounts_0 : List UInt8 := [42, 182, 1, 9, 3, 61, 28, 27, 162, 0, 22, 28, 42, 180, 0, 247, 162, 0, 14, 42, 28, 182, 1, 12]
abbrev dktX0_goCounts_0 : List UInt8 := dkwX0_goCounts_0 ++ dktX0_goCounts_1
theorem dksX0_goCounts_0 : cX0_goCounts.data.toList.drop 0 = dktX0_goCounts_0 := by decide +kernel
theorem dksX0_goCounts_1 : cX0_goCounts.data.toList.drop 24 = dktX0_goCounts_1 := dk_seg dksX0_goCounts_0 24 rfl rfl
theorem dX0_goCounts_0 : decode cX0_goCounts 0 = .ok (.aload_n 0, 1) := dk_42 (dk_at dksX0_goCounts_0 0 rfl rfl)
theorem dX0_goCounts_1 : decode cX0_goCounts 1 = .ok (.invokevirtual 265, 3) := dk_182 1 9 (dk_at dksX0_goCounts_0 1 rfl rfl)
theorem dX0_goCounts_4 : decode cX0_goCounts 4 = .ok (.iconst 0, 1) := dk_3 (dk_at dksX0_goCounts_0 4 rfl rfl)
theorem dX0_goCounts_5 : decode cX0_goCounts 5 = .ok (.istore_n 2, 1) := dk_61 (dk_at dksX0_goCounts_0 5 rfl rfl)
theorem dX0_goCounts_6 : decode cX0_goCounts 6 = .ok (.iload_n 2, 1) := dk_28 (dk_at dksX0_goCounts_0 6 rfl rfl)
theorem dX0_goCounts_7 : decode cX0_goCounts 7 = .ok (.iload_n 1, 1) := dk_27 (dk_at dksX0_goCounts_0 7 rfl rfl)
theorem dX0_goCounts_8 : decode cX0_goCounts 8 = .ok (.if_icmp .ge 22, 3) := dk_162 0 22 (dk_at dksX0_goCounts_0 8 rfl rfl)
theorem dX0_goCounts_11 : decode cX0_goCounts 11 = .ok (.iload_n 2, 1) := dk_28 (dk_at dksX0_goCounts_0 11 rfl rfl)
theorem dX0_goCounts_12 : decode cX0_goCounts 12 = .ok (.aload_n 0, 1) := dk_42 (dk_at dksX0_goCounts_0 12 rfl rfl)
theorem dX0_goCounts_13 : decode cX0_goCounts 13 = .ok (.getfield 247, 3) := dk_180 0 247 (dk_at dksX0_goCounts_0 13 rfl rfl)
theorem dX0_goCounts_16 : decode cX0_goCounts 16 = .ok (.if_icmp .ge 14, 3) := dk_162 0 14 (dk_at dksX0_goCounts_0 16 rfl rfl)
theorem dX0_goCounts_19 : decode cX0_goCounts 19 = .ok (.aload_n 0, 1) := dk_42 (dk_at dksX0_goCounts_0 19 rfl rfl)
theorem dX0_goCounts_20 : decode cX0_goCounts 20 = .ok (.iload_n 2, 1) := dk_28 (dk_at dksX0_goCounts_0 20 rfl rfl)
theorem dX0_goCounts_21 : decode cX0_goCounts 21 = .ok (.invokevirtual 268, 3) := dk_182 1 12 (dk_at dksX0_goCounts_0 21 rfl rfl)
theorem dX0_goCounts_24 : decode cX0_goCounts 24 = .ok (.iinc 2 1, 3) := dk_132 2 1 (dk_at dksX0_goCounts_1 0 rfl rfl)
theorem dX0_goCounts_27 : decode cX0_goCounts 27 = .ok (.goto (-21), 3) := dk_167 255 235 (dk_at dksX0_goCounts_1 3 rfl rfl)
theorem dX0_goCounts_30 : decode cX0_goCounts 30 = .ok (.return_, 1) := dk_177 (dk_at dksX0_goCounts_1 6 rfl rfl)
abbrev cX0_apart : ByteArray := prog_1_method_37_code
def yX0_apart : MethodName := ⟨RX0, "apart", "(III)I"⟩
def dkwX0_apart_2 : List UInt8 := [182, 1, 34, 29, 154, 0, 10, 42, 182, 1, 19, 167, 0, 7, 42, 182, 1, 37, 172]
abbrev dktX0_apart_2 : List UInt8 := dkwX0_apart_2 ++ []
def dkwX0_apart_1 : List UInt8 := [154, 0, 5, 2, 172, 42, 27, 182, 1, 25, 54, 4, 21, 4, 156, 0, 6, 21, 4, 172, 42, 28]
abbrev dktX0_apart_1 : List UInt8 := dkwX0_apart_1 ++ dktX0_apart_2
def dkwX0_apart_0 : List UInt8 := [27, 184, 0, 97, 153, 0, 22, 28, 3, 16, 60, 184, 0, 82, 153, 0, 12, 29, 3, 4, 184, 0, 82]
abbrev dktX0_apart_0 : List UInt8 := dkwX0_apart_0 ++ dktX0_apart_1
theorem dksX0_apart_0 : cX0_apart.data.toList.drop 0 = dktX0_apart_0 := by decide +kernel
theorem dksX0_apart_1 : cX0_apart.data.toList.drop 23 = dktX0_apart_1 := dk_seg dksX0_apart_0 23 rfl rfl
theorem dksX0_apart_2 : cX0_apart.data.toList.drop 45 = dktX0_apart_2 := dk_seg dksX0_apart_1 22 rfl rfl
theorem dX0_apart_0 : decode cX0_apart 0 = .ok (.iload_n 1, 1) := dk_27 (dk_at dksX0_apart_0 0 rfl rfl)
theorem dX0_apart_1 : decode cX0_apart 1 = .ok (.invokestatic 97, 3) := dk_184 0 97 (dk_at dksX0_apart_0 1 rfl rfl)
theorem dX0_apart_4 : decode cX0_apart 4 = .ok (.ifCond .eq 22, 3) := dk_153 0 22 (dk_at dksX0_apart_0 4 rfl rfl)
theorem dX0_apart_7 : decode cX0_apart 7 = .ok (.iload_n 2, 1) := dk_28 (dk_at dksX0_apart_0 7 rfl rfl)
theorem dX0_apart_8 : decode cX0_apart 8 = .ok (.iconst 0, 1) := dk_3 (dk_at dksX0_apart_0 8 rfl rfl)
theorem dX0_apart_9 : decode cX0_apart 9 = .ok (.bipush 60, 2) := dk_16 60 (dk_at dksX0_apart_0 9 rfl rfl)
theorem dX0_apart_11 : decode cX0_apart 11 = .ok (.invokestatic 82, 3) := dk_184 0 82 (dk_at dksX0_apart_0 11 rfl rfl)
theorem dX0_apart_14 : decode cX0_apart 14 = .ok (.ifCond .eq 12, 3) := dk_153 0 12 (dk_at dksX0_apart_0 14 rfl rfl)
theorem dX0_apart_17 : decode cX0_apart 17 = .ok (.iload_n 3, 1) := dk_29 (dk_at dksX0_apart_0 17 rfl rfl)
theorem dX0_apart_18 : decode cX0_apart 18 = .ok (.iconst 0, 1) := dk_3 (dk_at dksX0_apart_0 18 rfl rfl)
theorem dX0_apart_19 : decode cX0_apart 19 = .ok (.iconst 1, 1) := dk_4 (dk_at dksX0_apart_0 19 rfl rfl)
theorem dX0_apart_20 : decode cX0_apart 20 = .ok (.invokestatic 82, 3) := dk_184 0 82 (dk_at dksX0_apart_0 20 rfl rfl)
theorem dX0_apart_23 : decode cX0_apart 23 = .ok (.ifCond .ne 5, 3) := dk_154 0 5 (dk_at dksX0_apart_1 0 rfl rfl)
theorem dX0_apart_26 : decode cX0_apart 26 = .ok (.iconst (-1), 1) := dk_2 (dk_at dksX0_apart_1 3 rfl rfl)
theorem dX0_apart_27 : decode cX0_apart 27 = .ok (.ireturn, 1) := dk_172 (dk_at dksX0_apart_1 4 rfl rfl)
theorem dX0_apart_28 : decode cX0_apart 28 = .ok (.aload_n 0, 1) := dk_42 (dk_at dksX0_apart_1 5 rfl rfl)
theorem dX0_apart_29 : decode cX0_apart 29 = .ok (.iload_n 1, 1) := dk_27 (dk_at dksX0_apart_1 6 rfl rfl)
theorem dX0_apart_30 : decode cX0_apart 30 = .ok (.invokevirtual 281, 3) := dk_182 1 25 (dk_at dksX0_apart_1 7 rfl rfl)
theorem dX0_apart_33 : decode cX0_apart 33 = .ok (.istore 4, 2) := dk_54 4 (dk_at dksX0_apart_1 10 rfl rfl)
theorem dX0_apart_35 : decode cX0_apart 35 = .ok (.iload 4, 2) := dk_21 4 (dk_at dksX0_apart_1 12 rfl rfl)
theorem dX0_apart_37 : decode cX0_apart 37 = .ok (.ifCond .ge 6, 3) := dk_156 0 6 (dk_at dksX0_apart_1 14 rfl rfl)
theorem dX0_apart_40 : decode cX0_apart 40 = .ok (.iload 4, 2) := dk_21 4 (dk_at dksX0_apart_1 17 rfl rfl)
theorem dX0_apart_42 : decode cX0_apart 42 = .ok (.ireturn, 1) := dk_172 (dk_at dksX0_apart_1 19 rfl rfl)
theorem dX0_apart_43 : decode cX0_apart 43 = .ok (.aload_n 0, 1) := dk_42 (dk_at dksX0_apart_1 20 rfl rfl)
theorem dX0_apart_44 : decode cX0_apart 44 = .ok (.iload_n 2, 1) := dk_28 (dk_at dksX0_apart_1 21 rfl rfl)
theorem dX0_apart_45 : decode cX0_apart 45 = .ok (.invokevirtual 290, 3) := dk_182 1 34 (dk_at dksX0_apart_2 0 rfl rfl)
theorem dX0_apart_48 : decode cX0_apart 48 = .ok (.iload_n 3, 1) := dk_29 (dk_at dksX0_apart_2 3 rfl rfl)
theorem dX0_apart_49 : decode cX0_apart 49 = .ok (.ifCond .ne 10, 3) := dk_154 0 10 (dk_at dksX0_apart_2 4 rfl rfl)
theorem dX0_apart_52 : decode cX0_apart 52 = .ok (.aload_n 0, 1) := dk_42 (dk_at dksX0_apart_2 7 rfl rfl)
theorem dX0_apart_53 : decode cX0_apart 53 = .ok (.invokevirtual 275, 3) := dk_182 1 19 (dk_at dksX0_apart_2 8 rfl rfl)
theorem dX0_apart_56 : decode cX0_apart 56 = .ok (.goto 7, 3) := dk_167 0 7 (dk_at dksX0_apart_2 11 rfl rfl)
theorem dX0_apart_59 : decode cX0_apart 59 = .ok (.aload_n 0, 1) := dk_42 (dk_at dksX0_apart_2 14 rfl rfl)
theorem dX0_apart_60 : decode cX0_apart 60 = .ok (.invokevirtual 293, 3) := dk_182 1 37 (dk_at dksX0_apart_2 15 rfl rfl)
theorem dX0_apart_63 : decode cX0_apart 63 = .ok (.ireturn, 1) := dk_172 (dk_at dksX0_apart_2 18 rfl rfl)
abbrev cX0_firstApart : ByteArray := prog_1_method_29_code
def yX0_firstApart : MethodName := ⟨RX0, "firstApart", "()I"⟩
def dkwX0_firstApart_3 : List UInt8 := [27, 172]
abbrev dktX0_firstApart_3 : List UInt8 := dkwX0_firstApart_3 ++ []
def dkwX0_firstApart_2 : List UInt8 := [21, 4, 96, 60, 42, 29, 21, 4, 182, 1, 6, 61, 132, 4, 1, 167, 255, 214, 132, 3, 1, 167, 255, 195]
abbrev dktX0_firstApart_2 : List UInt8 := dkwX0_firstApart_2 ++ dktX0_firstApart_3
def dkwX0_firstApart_1 : List UInt8 := [180, 0, 79, 162, 0, 39, 42, 29, 21, 4, 182, 1, 6, 28, 163, 0, 6, 167, 0, 19, 16, 10, 29, 104]
abbrev dktX0_firstApart_1 : List UInt8 := dkwX0_firstApart_1 ++ dktX0_firstApart_2
def dkwX0_firstApart_0 : List UInt8 := [16, 254, 60, 2, 61, 3, 62, 29, 42, 180, 0, 79, 162, 0, 59, 29, 4, 96, 54, 4, 21, 4, 42]
abbrev dktX0_firstApart_0 : List UInt8 := dkwX0_firstApart_0 ++ dktX0_firstApart_1
theorem dksX0_firstApart_0 : cX0_firstApart.data.toList.drop 0 = dktX0_firstApart_0 := by decide +kernel
theorem dksX0_firstApart_1 : cX0_firstApart.data.toList.drop 23 = dktX0_firstApart_1 := dk_seg dksX0_firstApart_0 23 rfl rfl
theorem dksX0_firstApart_2 : cX0_firstApart.data.toList.drop 47 = dktX0_firstApart_2 := dk_seg dksX0_firstApart_1 24 rfl rfl
theorem dksX0_firstApart_3 : cX0_firstApart.data.toList.drop 71 = dktX0_firstApart_3 := dk_seg dksX0_firstApart_2 24 rfl rfl
theorem dX0_firstApart_0 : decode cX0_firstApart 0 = .ok (.bipush (-2), 2) := dk_16 254 (dk_at dksX0_firstApart_0 0 rfl rfl)
theorem dX0_firstApart_2 : decode cX0_firstApart 2 = .ok (.istore_n 1, 1) := dk_60 (dk_at dksX0_firstApart_0 2 rfl rfl)
theorem dX0_firstApart_3 : decode cX0_firstApart 3 = .ok (.iconst (-1), 1) := dk_2 (dk_at dksX0_firstApart_0 3 rfl rfl)
theorem dX0_firstApart_4 : decode cX0_firstApart 4 = .ok (.istore_n 2, 1) := dk_61 (dk_at dksX0_firstApart_0 4 rfl rfl)
theorem dX0_firstApart_5 : decode cX0_firstApart 5 = .ok (.iconst 0, 1) := dk_3 (dk_at dksX0_firstApart_0 5 rfl rfl)
theorem dX0_firstApart_6 : decode cX0_firstApart 6 = .ok (.istore_n 3, 1) := dk_62 (dk_at dksX0_firstApart_0 6 rfl rfl)
theorem dX0_firstApart_7 : decode cX0_firstApart 7 = .ok (.iload_n 3, 1) := dk_29 (dk_at dksX0_firstApart_0 7 rfl rfl)
theorem dX0_firstApart_8 : decode cX0_firstApart 8 = .ok (.aload_n 0, 1) := dk_42 (dk_at dksX0_firstApart_0 8 rfl rfl)
theorem dX0_firstApart_9 : decode cX0_firstApart 9 = .ok (.getfield 79, 3) := dk_180 0 79 (dk_at dksX0_firstApart_0 9 rfl rfl)
theorem dX0_firstApart_12 : decode cX0_firstApart 12 = .ok (.if_icmp .ge 59, 3) := dk_162 0 59 (dk_at dksX0_firstApart_0 12 rfl rfl)
theorem dX0_firstApart_15 : decode cX0_firstApart 15 = .ok (.iload_n 3, 1) := dk_29 (dk_at dksX0_firstApart_0 15 rfl rfl)
theorem dX0_firstApart_16 : decode cX0_firstApart 16 = .ok (.iconst 1, 1) := dk_4 (dk_at dksX0_firstApart_0 16 rfl rfl)
theorem dX0_firstApart_17 : decode cX0_firstApart 17 = .ok (.iadd, 1) := dk_96 (dk_at dksX0_firstApart_0 17 rfl rfl)
theorem dX0_firstApart_18 : decode cX0_firstApart 18 = .ok (.istore 4, 2) := dk_54 4 (dk_at dksX0_firstApart_0 18 rfl rfl)
theorem dX0_firstApart_20 : decode cX0_firstApart 20 = .ok (.iload 4, 2) := dk_21 4 (dk_at dksX0_firstApart_0 20 rfl rfl)
theorem dX0_firstApart_22 : decode cX0_firstApart 22 = .ok (.aload_n 0, 1) := dk_42 (dk_at dksX0_firstApart_0 22 rfl rfl)
theorem dX0_firstApart_23 : decode cX0_firstApart 23 = .ok (.getfield 79, 3) := dk_180 0 79 (dk_at dksX0_firstApart_1 0 rfl rfl)
theorem dX0_firstApart_26 : decode cX0_firstApart 26 = .ok (.if_icmp .ge 39, 3) := dk_162 0 39 (dk_at dksX0_firstApart_1 3 rfl rfl)
theorem dX0_firstApart_29 : decode cX0_firstApart 29 = .ok (.aload_n 0, 1) := dk_42 (dk_at dksX0_firstApart_1 6 rfl rfl)
theorem dX0_firstApart_30 : decode cX0_firstApart 30 = .ok (.iload_n 3, 1) := dk_29 (dk_at dksX0_firstApart_1 7 rfl rfl)
theorem dX0_firstApart_31 : decode cX0_firstApart 31 = .ok (.iload 4, 2) := dk_21 4 (dk_at dksX0_firstApart_1 8 rfl rfl)
theorem dX0_firstApart_33 : decode cX0_firstApart 33 = .ok (.invokevirtual 262, 3) := dk_182 1 6 (dk_at dksX0_firstApart_1 10 rfl rfl)
theorem dX0_firstApart_36 : decode cX0_firstApart 36 = .ok (.iload_n 2, 1) := dk_28 (dk_at dksX0_firstApart_1 13 rfl rfl)
theorem dX0_firstApart_37 : decode cX0_firstApart 37 = .ok (.if_icmp .gt 6, 3) := dk_163 0 6 (dk_at dksX0_firstApart_1 14 rfl rfl)
theorem dX0_firstApart_40 : decode cX0_firstApart 40 = .ok (.goto 19, 3) := dk_167 0 19 (dk_at dksX0_firstApart_1 17 rfl rfl)
theorem dX0_firstApart_43 : decode cX0_firstApart 43 = .ok (.bipush 10, 2) := dk_16 10 (dk_at dksX0_firstApart_1 20 rfl rfl)
theorem dX0_firstApart_45 : decode cX0_firstApart 45 = .ok (.iload_n 3, 1) := dk_29 (dk_at dksX0_firstApart_1 22 rfl rfl)
theorem dX0_firstApart_46 : decode cX0_firstApart 46 = .ok (.imul, 1) := dk_104 (dk_at dksX0_firstApart_1 23 rfl rfl)
theorem dX0_firstApart_47 : decode cX0_firstApart 47 = .ok (.iload 4, 2) := dk_21 4 (dk_at dksX0_firstApart_2 0 rfl rfl)
theorem dX0_firstApart_49 : decode cX0_firstApart 49 = .ok (.iadd, 1) := dk_96 (dk_at dksX0_firstApart_2 2 rfl rfl)
theorem dX0_firstApart_50 : decode cX0_firstApart 50 = .ok (.istore_n 1, 1) := dk_60 (dk_at dksX0_firstApart_2 3 rfl rfl)
theorem dX0_firstApart_51 : decode cX0_firstApart 51 = .ok (.aload_n 0, 1) := dk_42 (dk_at dksX0_firstApart_2 4 rfl rfl)
theorem dX0_firstApart_52 : decode cX0_firstApart 52 = .ok (.iload_n 3, 1) := dk_29 (dk_at dksX0_firstApart_2 5 rfl rfl)
theorem dX0_firstApart_53 : decode cX0_firstApart 53 = .ok (.iload 4, 2) := dk_21 4 (dk_at dksX0_firstApart_2 6 rfl rfl)
theorem dX0_firstApart_55 : decode cX0_firstApart 55 = .ok (.invokevirtual 262, 3) := dk_182 1 6 (dk_at dksX0_firstApart_2 8 rfl rfl)
theorem dX0_firstApart_58 : decode cX0_firstApart 58 = .ok (.istore_n 2, 1) := dk_61 (dk_at dksX0_firstApart_2 11 rfl rfl)
theorem dX0_firstApart_59 : decode cX0_firstApart 59 = .ok (.iinc 4 1, 3) := dk_132 4 1 (dk_at dksX0_firstApart_2 12 rfl rfl)
theorem dX0_firstApart_62 : decode cX0_firstApart 62 = .ok (.goto (-42), 3) := dk_167 255 214 (dk_at dksX0_firstApart_2 15 rfl rfl)
theorem dX0_firstApart_65 : decode cX0_firstApart 65 = .ok (.iinc 3 1, 3) := dk_132 3 1 (dk_at dksX0_firstApart_2 18 rfl rfl)
theorem dX0_firstApart_68 : decode cX0_firstApart 68 = .ok (.goto (-61), 3) := dk_167 255 195 (dk_at dksX0_firstApart_2 21 rfl rfl)
theorem dX0_firstApart_71 : decode cX0_firstApart 71 = .ok (.iload_n 1, 1) := dk_27 (dk_at dksX0_firstApart_3 0 rfl rfl)
theorem dX0_firstApart_72 : decode cX0_firstApart 72 = .ok (.ireturn, 1) := dk_172 (dk_at dksX0_firstApart_3 1 rfl rfl)
abbrev cX0_gone : ByteArray := prog_1_method_41_code
def yX0_gone : MethodName := ⟨RX0, "gone", "(II)I"⟩
def dkwX0_gone_2 : List UInt8 := [180, 0, 11, 28, 50, 180, 0, 124, 182, 1, 46, 172]
abbrev dktX0_gone_2 : List UInt8 := dkwX0_gone_2 ++ []
def dkwX0_gone_1 : List UInt8 := [27, 182, 1, 25, 62, 29, 156, 0, 5, 29, 172, 28, 156, 0, 10, 42, 182, 1, 49, 167, 0, 16, 42, 42]
abbrev dktX0_gone_1 : List UInt8 := dkwX0_gone_1 ++ dktX0_gone_2
def dkwX0_gone_0 : List UInt8 := [27, 184, 0, 97, 153, 0, 17, 28, 2, 42, 180, 0, 79, 4, 100, 184, 0, 82, 154, 0, 5, 2, 172, 42]
abbrev dktX0_gone_0 : List UInt8 := dkwX0_gone_0 ++ dktX0_gone_1
theorem dksX0_gone_0 : cX0_gone.data.toList.drop 0 = dktX0_gone_0 := by decide +kernel
theorem dksX0_gone_1 : cX0_gone.data.toList.drop 24 = dktX0_gone_1 := dk_seg dksX0_gone_0 24 rfl rfl
theorem dksX0_gone_2 : cX0_gone.data.toList.drop 48 = dktX0_gone_2 := dk_seg dksX0_gone_1 24 rfl rfl
theorem dX0_gone_0 : decode cX0_gone 0 = .ok (.iload_n 1, 1) := dk_27 (dk_at dksX0_gone_0 0 rfl rfl)
theorem dX0_gone_1 : decode cX0_gone 1 = .ok (.invokestatic 97, 3) := dk_184 0 97 (dk_at dksX0_gone_0 1 rfl rfl)
theorem dX0_gone_4 : decode cX0_gone 4 = .ok (.ifCond .eq 17, 3) := dk_153 0 17 (dk_at dksX0_gone_0 4 rfl rfl)
theorem dX0_gone_7 : decode cX0_gone 7 = .ok (.iload_n 2, 1) := dk_28 (dk_at dksX0_gone_0 7 rfl rfl)
theorem dX0_gone_8 : decode cX0_gone 8 = .ok (.iconst (-1), 1) := dk_2 (dk_at dksX0_gone_0 8 rfl rfl)
theorem dX0_gone_9 : decode cX0_gone 9 = .ok (.aload_n 0, 1) := dk_42 (dk_at dksX0_gone_0 9 rfl rfl)
theorem dX0_gone_10 : decode cX0_gone 10 = .ok (.getfield 79, 3) := dk_180 0 79 (dk_at dksX0_gone_0 10 rfl rfl)
theorem dX0_gone_13 : decode cX0_gone 13 = .ok (.iconst 1, 1) := dk_4 (dk_at dksX0_gone_0 13 rfl rfl)
theorem dX0_gone_14 : decode cX0_gone 14 = .ok (.isub, 1) := dk_100 (dk_at dksX0_gone_0 14 rfl rfl)
theorem dX0_gone_15 : decode cX0_gone 15 = .ok (.invokestatic 82, 3) := dk_184 0 82 (dk_at dksX0_gone_0 15 rfl rfl)
theorem dX0_gone_18 : decode cX0_gone 18 = .ok (.ifCond .ne 5, 3) := dk_154 0 5 (dk_at dksX0_gone_0 18 rfl rfl)
theorem dX0_gone_21 : decode cX0_gone 21 = .ok (.iconst (-1), 1) := dk_2 (dk_at dksX0_gone_0 21 rfl rfl)
theorem dX0_gone_22 : decode cX0_gone 22 = .ok (.ireturn, 1) := dk_172 (dk_at dksX0_gone_0 22 rfl rfl)
theorem dX0_gone_23 : decode cX0_gone 23 = .ok (.aload_n 0, 1) := dk_42 (dk_at dksX0_gone_0 23 rfl rfl)
theorem dX0_gone_24 : decode cX0_gone 24 = .ok (.iload_n 1, 1) := dk_27 (dk_at dksX0_gone_1 0 rfl rfl)
theorem dX0_gone_25 : decode cX0_gone 25 = .ok (.invokevirtual 281, 3) := dk_182 1 25 (dk_at dksX0_gone_1 1 rfl rfl)
theorem dX0_gone_28 : decode cX0_gone 28 = .ok (.istore_n 3, 1) := dk_62 (dk_at dksX0_gone_1 4 rfl rfl)
theorem dX0_gone_29 : decode cX0_gone 29 = .ok (.iload_n 3, 1) := dk_29 (dk_at dksX0_gone_1 5 rfl rfl)
theorem dX0_gone_30 : decode cX0_gone 30 = .ok (.ifCond .ge 5, 3) := dk_156 0 5 (dk_at dksX0_gone_1 6 rfl rfl)
theorem dX0_gone_33 : decode cX0_gone 33 = .ok (.iload_n 3, 1) := dk_29 (dk_at dksX0_gone_1 9 rfl rfl)
theorem dX0_gone_34 : decode cX0_gone 34 = .ok (.ireturn, 1) := dk_172 (dk_at dksX0_gone_1 10 rfl rfl)
theorem dX0_gone_35 : decode cX0_gone 35 = .ok (.iload_n 2, 1) := dk_28 (dk_at dksX0_gone_1 11 rfl rfl)
theorem dX0_gone_36 : decode cX0_gone 36 = .ok (.ifCond .ge 10, 3) := dk_156 0 10 (dk_at dksX0_gone_1 12 rfl rfl)
theorem dX0_gone_39 : decode cX0_gone 39 = .ok (.aload_n 0, 1) := dk_42 (dk_at dksX0_gone_1 15 rfl rfl)
theorem dX0_gone_40 : decode cX0_gone 40 = .ok (.invokevirtual 305, 3) := dk_182 1 49 (dk_at dksX0_gone_1 16 rfl rfl)
theorem dX0_gone_43 : decode cX0_gone 43 = .ok (.goto 16, 3) := dk_167 0 16 (dk_at dksX0_gone_1 19 rfl rfl)
theorem dX0_gone_46 : decode cX0_gone 46 = .ok (.aload_n 0, 1) := dk_42 (dk_at dksX0_gone_1 22 rfl rfl)
theorem dX0_gone_47 : decode cX0_gone 47 = .ok (.aload_n 0, 1) := dk_42 (dk_at dksX0_gone_1 23 rfl rfl)
theorem dX0_gone_48 : decode cX0_gone 48 = .ok (.getfield 11, 3) := dk_180 0 11 (dk_at dksX0_gone_2 0 rfl rfl)
theorem dX0_gone_51 : decode cX0_gone 51 = .ok (.iload_n 2, 1) := dk_28 (dk_at dksX0_gone_2 3 rfl rfl)
theorem dX0_gone_52 : decode cX0_gone 52 = .ok (.aaload, 1) := dk_50 (dk_at dksX0_gone_2 4 rfl rfl)
theorem dX0_gone_53 : decode cX0_gone 53 = .ok (.getfield 124, 3) := dk_180 0 124 (dk_at dksX0_gone_2 5 rfl rfl)
theorem dX0_gone_56 : decode cX0_gone 56 = .ok (.invokevirtual 302, 3) := dk_182 1 46 (dk_at dksX0_gone_2 8 rfl rfl)
theorem dX0_gone_59 : decode cX0_gone 59 = .ok (.ireturn, 1) := dk_172 (dk_at dksX0_gone_2 11 rfl rfl)
abbrev cX0_allGone : ByteArray := prog_1_method_40_code
def yX0_allGone : MethodName := ⟨RX0, "allGone", "()I"⟩
def dkwX0_allGone_1 : List UInt8 := [182, 1, 46, 155, 0, 9, 27, 4, 28, 120, 128, 60, 132, 2, 1, 167, 255, 223, 27, 172]
abbrev dktX0_allGone_1 : List UInt8 := dkwX0_allGone_1 ++ []
def dkwX0_allGone_0 : List UInt8 := [3, 60, 3, 61, 28, 42, 180, 0, 79, 162, 0, 31, 42, 42, 180, 0, 11, 28, 50, 180, 0, 124]
abbrev dktX0_allGone_0 : List UInt8 := dkwX0_allGone_0 ++ dktX0_allGone_1
theorem dksX0_allGone_0 : cX0_allGone.data.toList.drop 0 = dktX0_allGone_0 := by decide +kernel
theorem dksX0_allGone_1 : cX0_allGone.data.toList.drop 22 = dktX0_allGone_1 := dk_seg dksX0_allGone_0 22 rfl rfl
theorem dX0_allGone_0 : decode cX0_allGone 0 = .ok (.iconst 0, 1) := dk_3 (dk_at dksX0_allGone_0 0 rfl rfl)
theorem dX0_allGone_1 : decode cX0_allGone 1 = .ok (.istore_n 1, 1) := dk_60 (dk_at dksX0_allGone_0 1 rfl rfl)
theorem dX0_allGone_2 : decode cX0_allGone 2 = .ok (.iconst 0, 1) := dk_3 (dk_at dksX0_allGone_0 2 rfl rfl)
theorem dX0_allGone_3 : decode cX0_allGone 3 = .ok (.istore_n 2, 1) := dk_61 (dk_at dksX0_allGone_0 3 rfl rfl)
theorem dX0_allGone_4 : decode cX0_allGone 4 = .ok (.iload_n 2, 1) := dk_28 (dk_at dksX0_allGone_0 4 rfl rfl)
theorem dX0_allGone_5 : decode cX0_allGone 5 = .ok (.aload_n 0, 1) := dk_42 (dk_at dksX0_allGone_0 5 rfl rfl)
theorem dX0_allGone_6 : decode cX0_allGone 6 = .ok (.getfield 79, 3) := dk_180 0 79 (dk_at dksX0_allGone_0 6 rfl rfl)
theorem dX0_allGone_9 : decode cX0_allGone 9 = .ok (.if_icmp .ge 31, 3) := dk_162 0 31 (dk_at dksX0_allGone_0 9 rfl rfl)
theorem dX0_allGone_12 : decode cX0_allGone 12 = .ok (.aload_n 0, 1) := dk_42 (dk_at dksX0_allGone_0 12 rfl rfl)
theorem dX0_allGone_13 : decode cX0_allGone 13 = .ok (.aload_n 0, 1) := dk_42 (dk_at dksX0_allGone_0 13 rfl rfl)
theorem dX0_allGone_14 : decode cX0_allGone 14 = .ok (.getfield 11, 3) := dk_180 0 11 (dk_at dksX0_allGone_0 14 rfl rfl)
theorem dX0_allGone_17 : decode cX0_allGone 17 = .ok (.iload_n 2, 1) := dk_28 (dk_at dksX0_allGone_0 17 rfl rfl)
theorem dX0_allGone_18 : decode cX0_allGone 18 = .ok (.aaload, 1) := dk_50 (dk_at dksX0_allGone_0 18 rfl rfl)
theorem dX0_allGone_19 : decode cX0_allGone 19 = .ok (.getfield 124, 3) := dk_180 0 124 (dk_at dksX0_allGone_0 19 rfl rfl)
theorem dX0_allGone_22 : decode cX0_allGone 22 = .ok (.invokevirtual 302, 3) := dk_182 1 46 (dk_at dksX0_allGone_1 0 rfl rfl)
theorem dX0_allGone_25 : decode cX0_allGone 25 = .ok (.ifCond .lt 9, 3) := dk_155 0 9 (dk_at dksX0_allGone_1 3 rfl rfl)
theorem dX0_allGone_28 : decode cX0_allGone 28 = .ok (.iload_n 1, 1) := dk_27 (dk_at dksX0_allGone_1 6 rfl rfl)
theorem dX0_allGone_29 : decode cX0_allGone 29 = .ok (.iconst 1, 1) := dk_4 (dk_at dksX0_allGone_1 7 rfl rfl)
theorem dX0_allGone_30 : decode cX0_allGone 30 = .ok (.iload_n 2, 1) := dk_28 (dk_at dksX0_allGone_1 8 rfl rfl)
theorem dX0_allGone_31 : decode cX0_allGone 31 = .ok (.ishl, 1) := dk_120 (dk_at dksX0_allGone_1 9 rfl rfl)
theorem dX0_allGone_32 : decode cX0_allGone 32 = .ok (.ior, 1) := dk_128 (dk_at dksX0_allGone_1 10 rfl rfl)
theorem dX0_allGone_33 : decode cX0_allGone 33 = .ok (.istore_n 1, 1) := dk_60 (dk_at dksX0_allGone_1 11 rfl rfl)
theorem dX0_allGone_34 : decode cX0_allGone 34 = .ok (.iinc 2 1, 3) := dk_132 2 1 (dk_at dksX0_allGone_1 12 rfl rfl)
theorem dX0_allGone_37 : decode cX0_allGone 37 = .ok (.goto (-33), 3) := dk_167 255 223 (dk_at dksX0_allGone_1 15 rfl rfl)
theorem dX0_allGone_40 : decode cX0_allGone 40 = .ok (.iload_n 1, 1) := dk_27 (dk_at dksX0_allGone_1 18 rfl rfl)
theorem dX0_allGone_41 : decode cX0_allGone 41 = .ok (.ireturn, 1) := dk_172 (dk_at dksX0_allGone_1 19 rfl rfl)
abbrev cX0_goneAt : ByteArray := prog_1_method_39_code
def yX0_goneAt : MethodName := ⟨RX0, "goneAt", "(I)I"⟩
def dkwX0_goneAt_4 : List UInt8 := [172]
abbrev dktX0_goneAt_4 : List UInt8 := dkwX0_goneAt_4 ++ []
def dkwX0_goneAt_3 : List UInt8 := [167, 0, 16, 132, 3, 1, 29, 42, 180, 0, 19, 161, 0, 5, 3, 61, 132, 5, 1, 167, 255, 184, 21, 4]
abbrev dktX0_goneAt_3 : List UInt8 := dkwX0_goneAt_3 ++ dktX0_goneAt_4
def dkwX0_goneAt_2 : List UInt8 := [180, 1, 40, 28, 184, 0, 240, 181, 1, 40, 21, 4, 156, 0, 28, 28, 27, 164, 0, 23, 21, 5, 54, 4]
abbrev dktX0_goneAt_2 : List UInt8 := dkwX0_goneAt_2 ++ dktX0_goneAt_3
def dkwX0_goneAt_1 : List UInt8 := [162, 0, 69, 42, 180, 0, 39, 21, 5, 46, 184, 1, 43, 153, 0, 37, 3, 62, 132, 2, 1, 42, 42]
abbrev dktX0_goneAt_1 : List UInt8 := dkwX0_goneAt_1 ++ dktX0_goneAt_2
def dkwX0_goneAt_0 : List UInt8 := [3, 61, 3, 62, 16, 254, 54, 4, 42, 3, 181, 1, 40, 3, 54, 5, 21, 5, 42, 180, 0, 247]
abbrev dktX0_goneAt_0 : List UInt8 := dkwX0_goneAt_0 ++ dktX0_goneAt_1
theorem dksX0_goneAt_0 : cX0_goneAt.data.toList.drop 0 = dktX0_goneAt_0 := by decide +kernel
theorem dksX0_goneAt_1 : cX0_goneAt.data.toList.drop 22 = dktX0_goneAt_1 := dk_seg dksX0_goneAt_0 22 rfl rfl
theorem dksX0_goneAt_2 : cX0_goneAt.data.toList.drop 45 = dktX0_goneAt_2 := dk_seg dksX0_goneAt_1 23 rfl rfl
theorem dksX0_goneAt_3 : cX0_goneAt.data.toList.drop 69 = dktX0_goneAt_3 := dk_seg dksX0_goneAt_2 24 rfl rfl
theorem dksX0_goneAt_4 : cX0_goneAt.data.toList.drop 93 = dktX0_goneAt_4 := dk_seg dksX0_goneAt_3 24 rfl rfl
theorem dX0_goneAt_0 : decode cX0_goneAt 0 = .ok (.iconst 0, 1) := dk_3 (dk_at dksX0_goneAt_0 0 rfl rfl)
theorem dX0_goneAt_1 : decode cX0_goneAt 1 = .ok (.istore_n 2, 1) := dk_61 (dk_at dksX0_goneAt_0 1 rfl rfl)
theorem dX0_goneAt_2 : decode cX0_goneAt 2 = .ok (.iconst 0, 1) := dk_3 (dk_at dksX0_goneAt_0 2 rfl rfl)
theorem dX0_goneAt_3 : decode cX0_goneAt 3 = .ok (.istore_n 3, 1) := dk_62 (dk_at dksX0_goneAt_0 3 rfl rfl)
theorem dX0_goneAt_4 : decode cX0_goneAt 4 = .ok (.bipush (-2), 2) := dk_16 254 (dk_at dksX0_goneAt_0 4 rfl rfl)
theorem dX0_goneAt_6 : decode cX0_goneAt 6 = .ok (.istore 4, 2) := dk_54 4 (dk_at dksX0_goneAt_0 6 rfl rfl)
theorem dX0_goneAt_8 : decode cX0_goneAt 8 = .ok (.aload_n 0, 1) := dk_42 (dk_at dksX0_goneAt_0 8 rfl rfl)
theorem dX0_goneAt_9 : decode cX0_goneAt 9 = .ok (.iconst 0, 1) := dk_3 (dk_at dksX0_goneAt_0 9 rfl rfl)
theorem dX0_goneAt_10 : decode cX0_goneAt 10 = .ok (.putfield 296, 3) := dk_181 1 40 (dk_at dksX0_goneAt_0 10 rfl rfl)
theorem dX0_goneAt_13 : decode cX0_goneAt 13 = .ok (.iconst 0, 1) := dk_3 (dk_at dksX0_goneAt_0 13 rfl rfl)
theorem dX0_goneAt_14 : decode cX0_goneAt 14 = .ok (.istore 5, 2) := dk_54 5 (dk_at dksX0_goneAt_0 14 rfl rfl)
theorem dX0_goneAt_16 : decode cX0_goneAt 16 = .ok (.iload 5, 2) := dk_21 5 (dk_at dksX0_goneAt_0 16 rfl rfl)
theorem dX0_goneAt_18 : decode cX0_goneAt 18 = .ok (.aload_n 0, 1) := dk_42 (dk_at dksX0_goneAt_0 18 rfl rfl)
theorem dX0_goneAt_19 : decode cX0_goneAt 19 = .ok (.getfield 247, 3) := dk_180 0 247 (dk_at dksX0_goneAt_0 19 rfl rfl)
theorem dX0_goneAt_22 : decode cX0_goneAt 22 = .ok (.if_icmp .ge 69, 3) := dk_162 0 69 (dk_at dksX0_goneAt_1 0 rfl rfl)
theorem dX0_goneAt_25 : decode cX0_goneAt 25 = .ok (.aload_n 0, 1) := dk_42 (dk_at dksX0_goneAt_1 3 rfl rfl)
theorem dX0_goneAt_26 : decode cX0_goneAt 26 = .ok (.getfield 39, 3) := dk_180 0 39 (dk_at dksX0_goneAt_1 4 rfl rfl)
theorem dX0_goneAt_29 : decode cX0_goneAt 29 = .ok (.iload 5, 2) := dk_21 5 (dk_at dksX0_goneAt_1 7 rfl rfl)
theorem dX0_goneAt_31 : decode cX0_goneAt 31 = .ok (.iaload, 1) := dk_46 (dk_at dksX0_goneAt_1 9 rfl rfl)
theorem dX0_goneAt_32 : decode cX0_goneAt 32 = .ok (.invokestatic 299, 3) := dk_184 1 43 (dk_at dksX0_goneAt_1 10 rfl rfl)
theorem dX0_goneAt_35 : decode cX0_goneAt 35 = .ok (.ifCond .eq 37, 3) := dk_153 0 37 (dk_at dksX0_goneAt_1 13 rfl rfl)
theorem dX0_goneAt_38 : decode cX0_goneAt 38 = .ok (.iconst 0, 1) := dk_3 (dk_at dksX0_goneAt_1 16 rfl rfl)
theorem dX0_goneAt_39 : decode cX0_goneAt 39 = .ok (.istore_n 3, 1) := dk_62 (dk_at dksX0_goneAt_1 17 rfl rfl)
theorem dX0_goneAt_40 : decode cX0_goneAt 40 = .ok (.iinc 2 1, 3) := dk_132 2 1 (dk_at dksX0_goneAt_1 18 rfl rfl)
theorem dX0_goneAt_43 : decode cX0_goneAt 43 = .ok (.aload_n 0, 1) := dk_42 (dk_at dksX0_goneAt_1 21 rfl rfl)
theorem dX0_goneAt_44 : decode cX0_goneAt 44 = .ok (.aload_n 0, 1) := dk_42 (dk_at dksX0_goneAt_1 22 rfl rfl)
theorem dX0_goneAt_45 : decode cX0_goneAt 45 = .ok (.getfield 296, 3) := dk_180 1 40 (dk_at dksX0_goneAt_2 0 rfl rfl)
theorem dX0_goneAt_48 : decode cX0_goneAt 48 = .ok (.iload_n 2, 1) := dk_28 (dk_at dksX0_goneAt_2 3 rfl rfl)
theorem dX0_goneAt_49 : decode cX0_goneAt 49 = .ok (.invokestatic 240, 3) := dk_184 0 240 (dk_at dksX0_goneAt_2 4 rfl rfl)
theorem dX0_goneAt_52 : decode cX0_goneAt 52 = .ok (.putfield 296, 3) := dk_181 1 40 (dk_at dksX0_goneAt_2 7 rfl rfl)
theorem dX0_goneAt_55 : decode cX0_goneAt 55 = .ok (.iload 4, 2) := dk_21 4 (dk_at dksX0_goneAt_2 10 rfl rfl)
theorem dX0_goneAt_57 : decode cX0_goneAt 57 = .ok (.ifCond .ge 28, 3) := dk_156 0 28 (dk_at dksX0_goneAt_2 12 rfl rfl)
theorem dX0_goneAt_60 : decode cX0_goneAt 60 = .ok (.iload_n 2, 1) := dk_28 (dk_at dksX0_goneAt_2 15 rfl rfl)
theorem dX0_goneAt_61 : decode cX0_goneAt 61 = .ok (.iload_n 1, 1) := dk_27 (dk_at dksX0_goneAt_2 16 rfl rfl)
theorem dX0_goneAt_62 : decode cX0_goneAt 62 = .ok (.if_icmp .le 23, 3) := dk_164 0 23 (dk_at dksX0_goneAt_2 17 rfl rfl)
theorem dX0_goneAt_65 : decode cX0_goneAt 65 = .ok (.iload 5, 2) := dk_21 5 (dk_at dksX0_goneAt_2 20 rfl rfl)
theorem dX0_goneAt_67 : decode cX0_goneAt 67 = .ok (.istore 4, 2) := dk_54 4 (dk_at dksX0_goneAt_2 22 rfl rfl)
theorem dX0_goneAt_69 : decode cX0_goneAt 69 = .ok (.goto 16, 3) := dk_167 0 16 (dk_at dksX0_goneAt_3 0 rfl rfl)
theorem dX0_goneAt_72 : decode cX0_goneAt 72 = .ok (.iinc 3 1, 3) := dk_132 3 1 (dk_at dksX0_goneAt_3 3 rfl rfl)
theorem dX0_goneAt_75 : decode cX0_goneAt 75 = .ok (.iload_n 3, 1) := dk_29 (dk_at dksX0_goneAt_3 6 rfl rfl)
theorem dX0_goneAt_76 : decode cX0_goneAt 76 = .ok (.aload_n 0, 1) := dk_42 (dk_at dksX0_goneAt_3 7 rfl rfl)
theorem dX0_goneAt_77 : decode cX0_goneAt 77 = .ok (.getfield 19, 3) := dk_180 0 19 (dk_at dksX0_goneAt_3 8 rfl rfl)
theorem dX0_goneAt_80 : decode cX0_goneAt 80 = .ok (.if_icmp .lt 5, 3) := dk_161 0 5 (dk_at dksX0_goneAt_3 11 rfl rfl)
theorem dX0_goneAt_83 : decode cX0_goneAt 83 = .ok (.iconst 0, 1) := dk_3 (dk_at dksX0_goneAt_3 14 rfl rfl)
theorem dX0_goneAt_84 : decode cX0_goneAt 84 = .ok (.istore_n 2, 1) := dk_61 (dk_at dksX0_goneAt_3 15 rfl rfl)
theorem dX0_goneAt_85 : decode cX0_goneAt 85 = .ok (.iinc 5 1, 3) := dk_132 5 1 (dk_at dksX0_goneAt_3 16 rfl rfl)
theorem dX0_goneAt_88 : decode cX0_goneAt 88 = .ok (.goto (-72), 3) := dk_167 255 184 (dk_at dksX0_goneAt_3 19 rfl rfl)
theorem dX0_goneAt_91 : decode cX0_goneAt 91 = .ok (.iload 4, 2) := dk_21 4 (dk_at dksX0_goneAt_3 22 rfl rfl)
theorem dX0_goneAt_93 : decode cX0_goneAt 93 = .ok (.ireturn, 1) := dk_172 (dk_at dksX0_goneAt_4 0 rfl rfl)
abbrev cX0_isBelow : ByteArray := prog_1_method_38_code
def yX0_isBelow : MethodName := ⟨RX0, "isBelow", "(I)Z"⟩
def dkwX0_isBelow_0 : List UInt8 := [26, 4, 159, 0, 8, 26, 5, 160, 0, 7, 4, 167, 0, 4, 3, 172]
abbrev dktX0_isBelow_0 : List UInt8 := dkwX0_isBelow_0 ++ []
theorem dksX0_isBelow_0 : cX0_isBelow.data.toList.drop 0 = dktX0_isBelow_0 := by decide +kernel
theorem dX0_isBelow_0 : decode cX0_isBelow 0 = .ok (.iload_n 0, 1) := dk_26 (dk_at dksX0_isBelow_0 0 rfl rfl)
theorem dX0_isBelow_1 : decode cX0_isBelow 1 = .ok (.iconst 1, 1) := dk_4 (dk_at dksX0_isBelow_0 1 rfl rfl)
theorem dX0_isBelow_2 : decode cX0_isBelow 2 = .ok (.if_icmp .eq 8, 3) := dk_159 0 8 (dk_at dksX0_isBelow_0 2 rfl rfl)
theorem dX0_isBelow_5 : decode cX0_isBelow 5 = .ok (.iload_n 0, 1) := dk_26 (dk_at dksX0_isBelow_0 5 rfl rfl)
theorem dX0_isBelow_6 : decode cX0_isBelow 6 = .ok (.iconst 2, 1) := dk_5 (dk_at dksX0_isBelow_0 6 rfl rfl)
theorem dX0_isBelow_7 : decode cX0_isBelow 7 = .ok (.if_icmp .ne 7, 3) := dk_160 0 7 (dk_at dksX0_isBelow_0 7 rfl rfl)
theorem dX0_isBelow_10 : decode cX0_isBelow 10 = .ok (.iconst 1, 1) := dk_4 (dk_at dksX0_isBelow_0 10 rfl rfl)
theorem dX0_isBelow_11 : decode cX0_isBelow 11 = .ok (.goto 4, 3) := dk_167 0 4 (dk_at dksX0_isBelow_0 11 rfl rfl)
theorem dX0_isBelow_14 : decode cX0_isBelow 14 = .ok (.iconst 0, 1) := dk_3 (dk_at dksX0_isBelow_0 14 rfl rfl)
theorem dX0_isBelow_15 : decode cX0_isBelow 15 = .ok (.ireturn, 1) := dk_172 (dk_at dksX0_isBelow_0 15 rfl rfl)
abbrev cX0_least : ByteArray := prog_1_method_42_code
def yX0_least : MethodName := ⟨RX0, "least", "(II)I"⟩
def dkwX0_least_1 : List UInt8 := [156, 0, 5, 29, 172, 42, 3, 182, 1, 46, 87, 4, 42, 180, 1, 40, 184, 0, 240, 172]
abbrev dktX0_least_1 : List UInt8 := dkwX0_least_1 ++ []
def dkwX0_least_0 : List UInt8 := [27, 184, 0, 97, 153, 0, 11, 42, 28, 182, 0, 156, 154, 0, 5, 2, 172, 42, 27, 182, 1, 25, 62, 29]
abbrev dktX0_least_0 : List UInt8 := dkwX0_least_0 ++ dktX0_least_1
theorem dksX0_least_0 : cX0_least.data.toList.drop 0 = dktX0_least_0 := by decide +kernel
theorem dksX0_least_1 : cX0_least.data.toList.drop 24 = dktX0_least_1 := dk_seg dksX0_least_0 24 rfl rfl
theorem dX0_least_0 : decode cX0_least 0 = .ok (.iload_n 1, 1) := dk_27 (dk_at dksX0_least_0 0 rfl rfl)
theorem dX0_least_1 : decode cX0_least 1 = .ok (.invokestatic 97, 3) := dk_184 0 97 (dk_at dksX0_least_0 1 rfl rfl)
theorem dX0_least_4 : decode cX0_least 4 = .ok (.ifCond .eq 11, 3) := dk_153 0 11 (dk_at dksX0_least_0 4 rfl rfl)
theorem dX0_least_7 : decode cX0_least 7 = .ok (.aload_n 0, 1) := dk_42 (dk_at dksX0_least_0 7 rfl rfl)
theorem dX0_least_8 : decode cX0_least 8 = .ok (.iload_n 2, 1) := dk_28 (dk_at dksX0_least_0 8 rfl rfl)
theorem dX0_least_9 : decode cX0_least 9 = .ok (.invokevirtual 156, 3) := dk_182 0 156 (dk_at dksX0_least_0 9 rfl rfl)
theorem dX0_least_12 : decode cX0_least 12 = .ok (.ifCond .ne 5, 3) := dk_154 0 5 (dk_at dksX0_least_0 12 rfl rfl)
theorem dX0_least_15 : decode cX0_least 15 = .ok (.iconst (-1), 1) := dk_2 (dk_at dksX0_least_0 15 rfl rfl)
theorem dX0_least_16 : decode cX0_least 16 = .ok (.ireturn, 1) := dk_172 (dk_at dksX0_least_0 16 rfl rfl)
theorem dX0_least_17 : decode cX0_least 17 = .ok (.aload_n 0, 1) := dk_42 (dk_at dksX0_least_0 17 rfl rfl)
theorem dX0_least_18 : decode cX0_least 18 = .ok (.iload_n 1, 1) := dk_27 (dk_at dksX0_least_0 18 rfl rfl)
theorem dX0_least_19 : decode cX0_least 19 = .ok (.invokevirtual 281, 3) := dk_182 1 25 (dk_at dksX0_least_0 19 rfl rfl)
theorem dX0_least_22 : decode cX0_least 22 = .ok (.istore_n 3, 1) := dk_62 (dk_at dksX0_least_0 22 rfl rfl)
theorem dX0_least_23 : decode cX0_least 23 = .ok (.iload_n 3, 1) := dk_29 (dk_at dksX0_least_0 23 rfl rfl)
theorem dX0_least_24 : decode cX0_least 24 = .ok (.ifCond .ge 5, 3) := dk_156 0 5 (dk_at dksX0_least_1 0 rfl rfl)
theorem dX0_least_27 : decode cX0_least 27 = .ok (.iload_n 3, 1) := dk_29 (dk_at dksX0_least_1 3 rfl rfl)
theorem dX0_least_28 : decode cX0_least 28 = .ok (.ireturn, 1) := dk_172 (dk_at dksX0_least_1 4 rfl rfl)
theorem dX0_least_29 : decode cX0_least 29 = .ok (.aload_n 0, 1) := dk_42 (dk_at dksX0_least_1 5 rfl rfl)
theorem dX0_least_30 : decode cX0_least 30 = .ok (.iconst 0, 1) := dk_3 (dk_at dksX0_least_1 6 rfl rfl)
theorem dX0_least_31 : decode cX0_least 31 = .ok (.invokevirtual 302, 3) := dk_182 1 46 (dk_at dksX0_least_1 7 rfl rfl)
theorem dX0_least_34 : decode cX0_least 34 = .ok (.pop, 1) := dk_87 (dk_at dksX0_least_1 10 rfl rfl)
theorem dX0_least_35 : decode cX0_least 35 = .ok (.iconst 1, 1) := dk_4 (dk_at dksX0_least_1 11 rfl rfl)
theorem dX0_least_36 : decode cX0_least 36 = .ok (.aload_n 0, 1) := dk_42 (dk_at dksX0_least_1 12 rfl rfl)
theorem dX0_least_37 : decode cX0_least 37 = .ok (.getfield 296, 3) := dk_180 1 40 (dk_at dksX0_least_1 13 rfl rfl)
theorem dX0_least_40 : decode cX0_least 40 = .ok (.invokestatic 240, 3) := dk_184 0 240 (dk_at dksX0_least_1 16 rfl rfl)
theorem dX0_least_43 : decode cX0_least 43 = .ok (.ireturn, 1) := dk_172 (dk_at dksX0_least_1 19 rfl rfl)
abbrev cX0_gasps : ByteArray := prog_1_method_47_code
def yX0_gasps : MethodName := ⟨RX0, "gasps", "(II)I"⟩
def dkwX0_gasps_1 : List UInt8 := [29, 167, 0, 9, 42, 3, 28, 182, 1, 74, 172]
abbrev dktX0_gasps_1 : List UInt8 := dkwX0_gasps_1 ++ []
def dkwX0_gasps_0 : List UInt8 := [27, 184, 0, 97, 153, 0, 8, 28, 2, 162, 0, 5, 2, 172, 42, 27, 182, 1, 25, 62, 29, 156, 0, 7]
abbrev dktX0_gasps_0 : List UInt8 := dkwX0_gasps_0 ++ dktX0_gasps_1
theorem dksX0_gasps_0 : cX0_gasps.data.toList.drop 0 = dktX0_gasps_0 := by decide +kernel
theorem dksX0_gasps_1 : cX0_gasps.data.toList.drop 24 = dktX0_gasps_1 := dk_seg dksX0_gasps_0 24 rfl rfl
theorem dX0_gasps_0 : decode cX0_gasps 0 = .ok (.iload_n 1, 1) := dk_27 (dk_at dksX0_gasps_0 0 rfl rfl)
theorem dX0_gasps_1 : decode cX0_gasps 1 = .ok (.invokestatic 97, 3) := dk_184 0 97 (dk_at dksX0_gasps_0 1 rfl rfl)
theorem dX0_gasps_4 : decode cX0_gasps 4 = .ok (.ifCond .eq 8, 3) := dk_153 0 8 (dk_at dksX0_gasps_0 4 rfl rfl)
theorem dX0_gasps_7 : decode cX0_gasps 7 = .ok (.iload_n 2, 1) := dk_28 (dk_at dksX0_gasps_0 7 rfl rfl)
theorem dX0_gasps_8 : decode cX0_gasps 8 = .ok (.iconst (-1), 1) := dk_2 (dk_at dksX0_gasps_0 8 rfl rfl)
theorem dX0_gasps_9 : decode cX0_gasps 9 = .ok (.if_icmp .ge 5, 3) := dk_162 0 5 (dk_at dksX0_gasps_0 9 rfl rfl)
theorem dX0_gasps_12 : decode cX0_gasps 12 = .ok (.iconst (-1), 1) := dk_2 (dk_at dksX0_gasps_0 12 rfl rfl)
theorem dX0_gasps_13 : decode cX0_gasps 13 = .ok (.ireturn, 1) := dk_172 (dk_at dksX0_gasps_0 13 rfl rfl)
theorem dX0_gasps_14 : decode cX0_gasps 14 = .ok (.aload_n 0, 1) := dk_42 (dk_at dksX0_gasps_0 14 rfl rfl)
theorem dX0_gasps_15 : decode cX0_gasps 15 = .ok (.iload_n 1, 1) := dk_27 (dk_at dksX0_gasps_0 15 rfl rfl)
theorem dX0_gasps_16 : decode cX0_gasps 16 = .ok (.invokevirtual 281, 3) := dk_182 1 25 (dk_at dksX0_gasps_0 16 rfl rfl)
theorem dX0_gasps_19 : decode cX0_gasps 19 = .ok (.istore_n 3, 1) := dk_62 (dk_at dksX0_gasps_0 19 rfl rfl)
theorem dX0_gasps_20 : decode cX0_gasps 20 = .ok (.iload_n 3, 1) := dk_29 (dk_at dksX0_gasps_0 20 rfl rfl)
theorem dX0_gasps_21 : decode cX0_gasps 21 = .ok (.ifCond .ge 7, 3) := dk_156 0 7 (dk_at dksX0_gasps_0 21 rfl rfl)
theorem dX0_gasps_24 : decode cX0_gasps 24 = .ok (.iload_n 3, 1) := dk_29 (dk_at dksX0_gasps_1 0 rfl rfl)
theorem dX0_gasps_25 : decode cX0_gasps 25 = .ok (.goto 9, 3) := dk_167 0 9 (dk_at dksX0_gasps_1 1 rfl rfl)
theorem dX0_gasps_28 : decode cX0_gasps 28 = .ok (.aload_n 0, 1) := dk_42 (dk_at dksX0_gasps_1 4 rfl rfl)
theorem dX0_gasps_29 : decode cX0_gasps 29 = .ok (.iconst 0, 1) := dk_3 (dk_at dksX0_gasps_1 5 rfl rfl)
theorem dX0_gasps_30 : decode cX0_gasps 30 = .ok (.iload_n 2, 1) := dk_28 (dk_at dksX0_gasps_1 6 rfl rfl)
theorem dX0_gasps_31 : decode cX0_gasps 31 = .ok (.invokevirtual 330, 3) := dk_182 1 74 (dk_at dksX0_gasps_1 7 rfl rfl)
theorem dX0_gasps_34 : decode cX0_gasps 34 = .ok (.ireturn, 1) := dk_172 (dk_at dksX0_gasps_1 10 rfl rfl)
abbrev cX0_fewest : ByteArray := prog_1_method_45_code
def yX0_fewest : MethodName := ⟨RX0, "fewest", "(ZI)I"⟩
def dkwX0_fewest_3 : List UInt8 := [16, 254, 172]
abbrev dktX0_fewest_3 : List UInt8 := dkwX0_fewest_3 ++ []
def dkwX0_fewest_2 : List UInt8 := [162, 0, 14, 42, 180, 1, 56, 28, 184, 1, 66, 167, 0, 5, 16, 254, 172, 132, 3, 1, 167, 255, 209]
abbrev dktX0_fewest_2 : List UInt8 := dkwX0_fewest_2 ++ dktX0_fewest_3
def dkwX0_fewest_1 : List UInt8 := [163, 0, 47, 42, 3, 29, 27, 182, 1, 62, 154, 0, 6, 167, 0, 28, 28, 156, 0, 5, 29, 172, 28, 29]
abbrev dktX0_fewest_1 : List UInt8 := dkwX0_fewest_1 ++ dktX0_fewest_2
def dkwX0_fewest_0 : List UInt8 := [42, 180, 0, 247, 16, 16, 164, 0, 6, 16, 251, 172, 42, 3, 181, 1, 56, 3, 62, 29, 16, 10]
abbrev dktX0_fewest_0 : List UInt8 := dkwX0_fewest_0 ++ dktX0_fewest_1
theorem dksX0_fewest_0 : cX0_fewest.data.toList.drop 0 = dktX0_fewest_0 := by decide +kernel
theorem dksX0_fewest_1 : cX0_fewest.data.toList.drop 22 = dktX0_fewest_1 := dk_seg dksX0_fewest_0 22 rfl rfl
theorem dksX0_fewest_2 : cX0_fewest.data.toList.drop 46 = dktX0_fewest_2 := dk_seg dksX0_fewest_1 24 rfl rfl
theorem dksX0_fewest_3 : cX0_fewest.data.toList.drop 69 = dktX0_fewest_3 := dk_seg dksX0_fewest_2 23 rfl rfl
theorem dX0_fewest_0 : decode cX0_fewest 0 = .ok (.aload_n 0, 1) := dk_42 (dk_at dksX0_fewest_0 0 rfl rfl)
theorem dX0_fewest_1 : decode cX0_fewest 1 = .ok (.getfield 247, 3) := dk_180 0 247 (dk_at dksX0_fewest_0 1 rfl rfl)
theorem dX0_fewest_4 : decode cX0_fewest 4 = .ok (.bipush 16, 2) := dk_16 16 (dk_at dksX0_fewest_0 4 rfl rfl)
theorem dX0_fewest_6 : decode cX0_fewest 6 = .ok (.if_icmp .le 6, 3) := dk_164 0 6 (dk_at dksX0_fewest_0 6 rfl rfl)
theorem dX0_fewest_9 : decode cX0_fewest 9 = .ok (.bipush (-5), 2) := dk_16 251 (dk_at dksX0_fewest_0 9 rfl rfl)
theorem dX0_fewest_11 : decode cX0_fewest 11 = .ok (.ireturn, 1) := dk_172 (dk_at dksX0_fewest_0 11 rfl rfl)
theorem dX0_fewest_12 : decode cX0_fewest 12 = .ok (.aload_n 0, 1) := dk_42 (dk_at dksX0_fewest_0 12 rfl rfl)
theorem dX0_fewest_13 : decode cX0_fewest 13 = .ok (.iconst 0, 1) := dk_3 (dk_at dksX0_fewest_0 13 rfl rfl)
theorem dX0_fewest_14 : decode cX0_fewest 14 = .ok (.putfield 312, 3) := dk_181 1 56 (dk_at dksX0_fewest_0 14 rfl rfl)
theorem dX0_fewest_17 : decode cX0_fewest 17 = .ok (.iconst 0, 1) := dk_3 (dk_at dksX0_fewest_0 17 rfl rfl)
theorem dX0_fewest_18 : decode cX0_fewest 18 = .ok (.istore_n 3, 1) := dk_62 (dk_at dksX0_fewest_0 18 rfl rfl)
theorem dX0_fewest_19 : decode cX0_fewest 19 = .ok (.iload_n 3, 1) := dk_29 (dk_at dksX0_fewest_0 19 rfl rfl)
theorem dX0_fewest_20 : decode cX0_fewest 20 = .ok (.bipush 10, 2) := dk_16 10 (dk_at dksX0_fewest_0 20 rfl rfl)
theorem dX0_fewest_22 : decode cX0_fewest 22 = .ok (.if_icmp .gt 47, 3) := dk_163 0 47 (dk_at dksX0_fewest_1 0 rfl rfl)
theorem dX0_fewest_25 : decode cX0_fewest 25 = .ok (.aload_n 0, 1) := dk_42 (dk_at dksX0_fewest_1 3 rfl rfl)
theorem dX0_fewest_26 : decode cX0_fewest 26 = .ok (.iconst 0, 1) := dk_3 (dk_at dksX0_fewest_1 4 rfl rfl)
theorem dX0_fewest_27 : decode cX0_fewest 27 = .ok (.iload_n 3, 1) := dk_29 (dk_at dksX0_fewest_1 5 rfl rfl)
theorem dX0_fewest_28 : decode cX0_fewest 28 = .ok (.iload_n 1, 1) := dk_27 (dk_at dksX0_fewest_1 6 rfl rfl)
theorem dX0_fewest_29 : decode cX0_fewest 29 = .ok (.invokevirtual 318, 3) := dk_182 1 62 (dk_at dksX0_fewest_1 7 rfl rfl)
theorem dX0_fewest_32 : decode cX0_fewest 32 = .ok (.ifCond .ne 6, 3) := dk_154 0 6 (dk_at dksX0_fewest_1 10 rfl rfl)
theorem dX0_fewest_35 : decode cX0_fewest 35 = .ok (.goto 28, 3) := dk_167 0 28 (dk_at dksX0_fewest_1 13 rfl rfl)
theorem dX0_fewest_38 : decode cX0_fewest 38 = .ok (.iload_n 2, 1) := dk_28 (dk_at dksX0_fewest_1 16 rfl rfl)
theorem dX0_fewest_39 : decode cX0_fewest 39 = .ok (.ifCond .ge 5, 3) := dk_156 0 5 (dk_at dksX0_fewest_1 17 rfl rfl)
theorem dX0_fewest_42 : decode cX0_fewest 42 = .ok (.iload_n 3, 1) := dk_29 (dk_at dksX0_fewest_1 20 rfl rfl)
theorem dX0_fewest_43 : decode cX0_fewest 43 = .ok (.ireturn, 1) := dk_172 (dk_at dksX0_fewest_1 21 rfl rfl)
theorem dX0_fewest_44 : decode cX0_fewest 44 = .ok (.iload_n 2, 1) := dk_28 (dk_at dksX0_fewest_1 22 rfl rfl)
theorem dX0_fewest_45 : decode cX0_fewest 45 = .ok (.iload_n 3, 1) := dk_29 (dk_at dksX0_fewest_1 23 rfl rfl)
theorem dX0_fewest_46 : decode cX0_fewest 46 = .ok (.if_icmp .ge 14, 3) := dk_162 0 14 (dk_at dksX0_fewest_2 0 rfl rfl)
theorem dX0_fewest_49 : decode cX0_fewest 49 = .ok (.aload_n 0, 1) := dk_42 (dk_at dksX0_fewest_2 3 rfl rfl)
theorem dX0_fewest_50 : decode cX0_fewest 50 = .ok (.getfield 312, 3) := dk_180 1 56 (dk_at dksX0_fewest_2 4 rfl rfl)
theorem dX0_fewest_53 : decode cX0_fewest 53 = .ok (.iload_n 2, 1) := dk_28 (dk_at dksX0_fewest_2 7 rfl rfl)
theorem dX0_fewest_54 : decode cX0_fewest 54 = .ok (.invokestatic 322, 3) := dk_184 1 66 (dk_at dksX0_fewest_2 8 rfl rfl)
theorem dX0_fewest_57 : decode cX0_fewest 57 = .ok (.goto 5, 3) := dk_167 0 5 (dk_at dksX0_fewest_2 11 rfl rfl)
theorem dX0_fewest_60 : decode cX0_fewest 60 = .ok (.bipush (-2), 2) := dk_16 254 (dk_at dksX0_fewest_2 14 rfl rfl)
theorem dX0_fewest_62 : decode cX0_fewest 62 = .ok (.ireturn, 1) := dk_172 (dk_at dksX0_fewest_2 16 rfl rfl)
theorem dX0_fewest_63 : decode cX0_fewest 63 = .ok (.iinc 3 1, 3) := dk_132 3 1 (dk_at dksX0_fewest_2 17 rfl rfl)
theorem dX0_fewest_66 : decode cX0_fewest 66 = .ok (.goto (-47), 3) := dk_167 255 209 (dk_at dksX0_fewest_2 20 rfl rfl)
theorem dX0_fewest_69 : decode cX0_fewest 69 = .ok (.bipush (-2), 2) := dk_16 254 (dk_at dksX0_fewest_3 0 rfl rfl)
theorem dX0_fewest_71 : decode cX0_fewest 71 = .ok (.ireturn, 1) := dk_172 (dk_at dksX0_fewest_3 2 rfl rfl)
abbrev cX0_choose : ByteArray := prog_1_method_44_code
def yX0_choose : MethodName := ⟨RX0, "choose", "(IIZ)Z"⟩
def dkwX0_choose_5 : List UInt8 := [172, 42, 89, 180, 1, 56, 4, 21, 5, 120, 2, 130, 126, 181, 1, 56, 132, 5, 1, 167, 255, 143, 3, 172]
abbrev dktX0_choose_5 : List UInt8 := dkwX0_choose_5 ++ []
def dkwX0_choose_4 : List UInt8 := [28, 4, 100, 29, 182, 1, 62, 54, 6, 42, 180, 0, 39, 21, 5, 21, 4, 79, 21, 6, 153, 0, 5, 4]
abbrev dktX0_choose_4 : List UInt8 := dkwX0_choose_4 ++ dktX0_choose_5
def dkwX0_choose_3 : List UInt8 := [7, 167, 0, 4, 3, 79, 42, 89, 180, 1, 56, 4, 21, 5, 120, 128, 181, 1, 56, 42, 21, 5, 4, 96]
abbrev dktX0_choose_3 : List UInt8 := dkwX0_choose_3 ++ dktX0_choose_4
def dkwX0_choose_2 : List UInt8 := [180, 1, 56, 21, 5, 184, 1, 59, 153, 0, 6, 167, 0, 77, 42, 180, 0, 39, 21, 5, 29, 153, 0, 7]
abbrev dktX0_choose_2 : List UInt8 := dkwX0_choose_2 ++ dktX0_choose_3
def dkwX0_choose_1 : List UInt8 := [21, 5, 42, 180, 0, 247, 162, 0, 110, 42, 180, 0, 39, 21, 5, 46, 21, 4, 160, 0, 92, 42]
abbrev dktX0_choose_1 : List UInt8 := dkwX0_choose_1 ++ dktX0_choose_2
def dkwX0_choose_0 : List UInt8 := [28, 154, 0, 9, 42, 29, 182, 1, 52, 172, 29, 153, 0, 7, 3, 167, 0, 4, 4, 54, 4, 27, 54, 5]
abbrev dktX0_choose_0 : List UInt8 := dkwX0_choose_0 ++ dktX0_choose_1
theorem dksX0_choose_0 : cX0_choose.data.toList.drop 0 = dktX0_choose_0 := by decide +kernel
theorem dksX0_choose_1 : cX0_choose.data.toList.drop 24 = dktX0_choose_1 := dk_seg dksX0_choose_0 24 rfl rfl
theorem dksX0_choose_2 : cX0_choose.data.toList.drop 46 = dktX0_choose_2 := dk_seg dksX0_choose_1 22 rfl rfl
theorem dksX0_choose_3 : cX0_choose.data.toList.drop 70 = dktX0_choose_3 := dk_seg dksX0_choose_2 24 rfl rfl
theorem dksX0_choose_4 : cX0_choose.data.toList.drop 94 = dktX0_choose_4 := dk_seg dksX0_choose_3 24 rfl rfl
theorem dksX0_choose_5 : cX0_choose.data.toList.drop 118 = dktX0_choose_5 := dk_seg dksX0_choose_4 24 rfl rfl
theorem dX0_choose_0 : decode cX0_choose 0 = .ok (.iload_n 2, 1) := dk_28 (dk_at dksX0_choose_0 0 rfl rfl)
theorem dX0_choose_1 : decode cX0_choose 1 = .ok (.ifCond .ne 9, 3) := dk_154 0 9 (dk_at dksX0_choose_0 1 rfl rfl)
theorem dX0_choose_4 : decode cX0_choose 4 = .ok (.aload_n 0, 1) := dk_42 (dk_at dksX0_choose_0 4 rfl rfl)
theorem dX0_choose_5 : decode cX0_choose 5 = .ok (.iload_n 3, 1) := dk_29 (dk_at dksX0_choose_0 5 rfl rfl)
theorem dX0_choose_6 : decode cX0_choose 6 = .ok (.invokevirtual 308, 3) := dk_182 1 52 (dk_at dksX0_choose_0 6 rfl rfl)
theorem dX0_choose_9 : decode cX0_choose 9 = .ok (.ireturn, 1) := dk_172 (dk_at dksX0_choose_0 9 rfl rfl)
theorem dX0_choose_10 : decode cX0_choose 10 = .ok (.iload_n 3, 1) := dk_29 (dk_at dksX0_choose_0 10 rfl rfl)
theorem dX0_choose_11 : decode cX0_choose 11 = .ok (.ifCond .eq 7, 3) := dk_153 0 7 (dk_at dksX0_choose_0 11 rfl rfl)
theorem dX0_choose_14 : decode cX0_choose 14 = .ok (.iconst 0, 1) := dk_3 (dk_at dksX0_choose_0 14 rfl rfl)
theorem dX0_choose_15 : decode cX0_choose 15 = .ok (.goto 4, 3) := dk_167 0 4 (dk_at dksX0_choose_0 15 rfl rfl)
theorem dX0_choose_18 : decode cX0_choose 18 = .ok (.iconst 1, 1) := dk_4 (dk_at dksX0_choose_0 18 rfl rfl)
theorem dX0_choose_19 : decode cX0_choose 19 = .ok (.istore 4, 2) := dk_54 4 (dk_at dksX0_choose_0 19 rfl rfl)
theorem dX0_choose_21 : decode cX0_choose 21 = .ok (.iload_n 1, 1) := dk_27 (dk_at dksX0_choose_0 21 rfl rfl)
theorem dX0_choose_22 : decode cX0_choose 22 = .ok (.istore 5, 2) := dk_54 5 (dk_at dksX0_choose_0 22 rfl rfl)
theorem dX0_choose_24 : decode cX0_choose 24 = .ok (.iload 5, 2) := dk_21 5 (dk_at dksX0_choose_1 0 rfl rfl)
theorem dX0_choose_26 : decode cX0_choose 26 = .ok (.aload_n 0, 1) := dk_42 (dk_at dksX0_choose_1 2 rfl rfl)
theorem dX0_choose_27 : decode cX0_choose 27 = .ok (.getfield 247, 3) := dk_180 0 247 (dk_at dksX0_choose_1 3 rfl rfl)
theorem dX0_choose_30 : decode cX0_choose 30 = .ok (.if_icmp .ge 110, 3) := dk_162 0 110 (dk_at dksX0_choose_1 6 rfl rfl)
theorem dX0_choose_33 : decode cX0_choose 33 = .ok (.aload_n 0, 1) := dk_42 (dk_at dksX0_choose_1 9 rfl rfl)
theorem dX0_choose_34 : decode cX0_choose 34 = .ok (.getfield 39, 3) := dk_180 0 39 (dk_at dksX0_choose_1 10 rfl rfl)
theorem dX0_choose_37 : decode cX0_choose 37 = .ok (.iload 5, 2) := dk_21 5 (dk_at dksX0_choose_1 13 rfl rfl)
theorem dX0_choose_39 : decode cX0_choose 39 = .ok (.iaload, 1) := dk_46 (dk_at dksX0_choose_1 15 rfl rfl)
theorem dX0_choose_40 : decode cX0_choose 40 = .ok (.iload 4, 2) := dk_21 4 (dk_at dksX0_choose_1 16 rfl rfl)
theorem dX0_choose_42 : decode cX0_choose 42 = .ok (.if_icmp .ne 92, 3) := dk_160 0 92 (dk_at dksX0_choose_1 18 rfl rfl)
theorem dX0_choose_45 : decode cX0_choose 45 = .ok (.aload_n 0, 1) := dk_42 (dk_at dksX0_choose_1 21 rfl rfl)
theorem dX0_choose_46 : decode cX0_choose 46 = .ok (.getfield 312, 3) := dk_180 1 56 (dk_at dksX0_choose_2 0 rfl rfl)
theorem dX0_choose_49 : decode cX0_choose 49 = .ok (.iload 5, 2) := dk_21 5 (dk_at dksX0_choose_2 3 rfl rfl)
theorem dX0_choose_51 : decode cX0_choose 51 = .ok (.invokestatic 315, 3) := dk_184 1 59 (dk_at dksX0_choose_2 5 rfl rfl)
theorem dX0_choose_54 : decode cX0_choose 54 = .ok (.ifCond .eq 6, 3) := dk_153 0 6 (dk_at dksX0_choose_2 8 rfl rfl)
theorem dX0_choose_57 : decode cX0_choose 57 = .ok (.goto 77, 3) := dk_167 0 77 (dk_at dksX0_choose_2 11 rfl rfl)
theorem dX0_choose_60 : decode cX0_choose 60 = .ok (.aload_n 0, 1) := dk_42 (dk_at dksX0_choose_2 14 rfl rfl)
theorem dX0_choose_61 : decode cX0_choose 61 = .ok (.getfield 39, 3) := dk_180 0 39 (dk_at dksX0_choose_2 15 rfl rfl)
theorem dX0_choose_64 : decode cX0_choose 64 = .ok (.iload 5, 2) := dk_21 5 (dk_at dksX0_choose_2 18 rfl rfl)
theorem dX0_choose_66 : decode cX0_choose 66 = .ok (.iload_n 3, 1) := dk_29 (dk_at dksX0_choose_2 20 rfl rfl)
theorem dX0_choose_67 : decode cX0_choose 67 = .ok (.ifCond .eq 7, 3) := dk_153 0 7 (dk_at dksX0_choose_2 21 rfl rfl)
theorem dX0_choose_70 : decode cX0_choose 70 = .ok (.iconst 4, 1) := dk_7 (dk_at dksX0_choose_3 0 rfl rfl)
theorem dX0_choose_71 : decode cX0_choose 71 = .ok (.goto 4, 3) := dk_167 0 4 (dk_at dksX0_choose_3 1 rfl rfl)
theorem dX0_choose_74 : decode cX0_choose 74 = .ok (.iconst 0, 1) := dk_3 (dk_at dksX0_choose_3 4 rfl rfl)
theorem dX0_choose_75 : decode cX0_choose 75 = .ok (.iastore, 1) := dk_79 (dk_at dksX0_choose_3 5 rfl rfl)
theorem dX0_choose_76 : decode cX0_choose 76 = .ok (.aload_n 0, 1) := dk_42 (dk_at dksX0_choose_3 6 rfl rfl)
theorem dX0_choose_77 : decode cX0_choose 77 = .ok (.dup, 1) := dk_89 (dk_at dksX0_choose_3 7 rfl rfl)
theorem dX0_choose_78 : decode cX0_choose 78 = .ok (.getfield 312, 3) := dk_180 1 56 (dk_at dksX0_choose_3 8 rfl rfl)
theorem dX0_choose_81 : decode cX0_choose 81 = .ok (.iconst 1, 1) := dk_4 (dk_at dksX0_choose_3 11 rfl rfl)
theorem dX0_choose_82 : decode cX0_choose 82 = .ok (.iload 5, 2) := dk_21 5 (dk_at dksX0_choose_3 12 rfl rfl)
theorem dX0_choose_84 : decode cX0_choose 84 = .ok (.ishl, 1) := dk_120 (dk_at dksX0_choose_3 14 rfl rfl)
theorem dX0_choose_85 : decode cX0_choose 85 = .ok (.ior, 1) := dk_128 (dk_at dksX0_choose_3 15 rfl rfl)
theorem dX0_choose_86 : decode cX0_choose 86 = .ok (.putfield 312, 3) := dk_181 1 56 (dk_at dksX0_choose_3 16 rfl rfl)
theorem dX0_choose_89 : decode cX0_choose 89 = .ok (.aload_n 0, 1) := dk_42 (dk_at dksX0_choose_3 19 rfl rfl)
theorem dX0_choose_90 : decode cX0_choose 90 = .ok (.iload 5, 2) := dk_21 5 (dk_at dksX0_choose_3 20 rfl rfl)
theorem dX0_choose_92 : decode cX0_choose 92 = .ok (.iconst 1, 1) := dk_4 (dk_at dksX0_choose_3 22 rfl rfl)
theorem dX0_choose_93 : decode cX0_choose 93 = .ok (.iadd, 1) := dk_96 (dk_at dksX0_choose_3 23 rfl rfl)
theorem dX0_choose_94 : decode cX0_choose 94 = .ok (.iload_n 2, 1) := dk_28 (dk_at dksX0_choose_4 0 rfl rfl)
theorem dX0_choose_95 : decode cX0_choose 95 = .ok (.iconst 1, 1) := dk_4 (dk_at dksX0_choose_4 1 rfl rfl)
theorem dX0_choose_96 : decode cX0_choose 96 = .ok (.isub, 1) := dk_100 (dk_at dksX0_choose_4 2 rfl rfl)
theorem dX0_choose_97 : decode cX0_choose 97 = .ok (.iload_n 3, 1) := dk_29 (dk_at dksX0_choose_4 3 rfl rfl)
theorem dX0_choose_98 : decode cX0_choose 98 = .ok (.invokevirtual 318, 3) := dk_182 1 62 (dk_at dksX0_choose_4 4 rfl rfl)
theorem dX0_choose_101 : decode cX0_choose 101 = .ok (.istore 6, 2) := dk_54 6 (dk_at dksX0_choose_4 7 rfl rfl)
theorem dX0_choose_103 : decode cX0_choose 103 = .ok (.aload_n 0, 1) := dk_42 (dk_at dksX0_choose_4 9 rfl rfl)
theorem dX0_choose_104 : decode cX0_choose 104 = .ok (.getfield 39, 3) := dk_180 0 39 (dk_at dksX0_choose_4 10 rfl rfl)
theorem dX0_choose_107 : decode cX0_choose 107 = .ok (.iload 5, 2) := dk_21 5 (dk_at dksX0_choose_4 13 rfl rfl)
theorem dX0_choose_109 : decode cX0_choose 109 = .ok (.iload 4, 2) := dk_21 4 (dk_at dksX0_choose_4 15 rfl rfl)
theorem dX0_choose_111 : decode cX0_choose 111 = .ok (.iastore, 1) := dk_79 (dk_at dksX0_choose_4 17 rfl rfl)
theorem dX0_choose_112 : decode cX0_choose 112 = .ok (.iload 6, 2) := dk_21 6 (dk_at dksX0_choose_4 18 rfl rfl)
theorem dX0_choose_114 : decode cX0_choose 114 = .ok (.ifCond .eq 5, 3) := dk_153 0 5 (dk_at dksX0_choose_4 20 rfl rfl)
theorem dX0_choose_117 : decode cX0_choose 117 = .ok (.iconst 1, 1) := dk_4 (dk_at dksX0_choose_4 23 rfl rfl)
theorem dX0_choose_118 : decode cX0_choose 118 = .ok (.ireturn, 1) := dk_172 (dk_at dksX0_choose_5 0 rfl rfl)
theorem dX0_choose_119 : decode cX0_choose 119 = .ok (.aload_n 0, 1) := dk_42 (dk_at dksX0_choose_5 1 rfl rfl)
theorem dX0_choose_120 : decode cX0_choose 120 = .ok (.dup, 1) := dk_89 (dk_at dksX0_choose_5 2 rfl rfl)
theorem dX0_choose_121 : decode cX0_choose 121 = .ok (.getfield 312, 3) := dk_180 1 56 (dk_at dksX0_choose_5 3 rfl rfl)
theorem dX0_choose_124 : decode cX0_choose 124 = .ok (.iconst 1, 1) := dk_4 (dk_at dksX0_choose_5 6 rfl rfl)
theorem dX0_choose_125 : decode cX0_choose 125 = .ok (.iload 5, 2) := dk_21 5 (dk_at dksX0_choose_5 7 rfl rfl)
theorem dX0_choose_127 : decode cX0_choose 127 = .ok (.ishl, 1) := dk_120 (dk_at dksX0_choose_5 9 rfl rfl)
theorem dX0_choose_128 : decode cX0_choose 128 = .ok (.iconst (-1), 1) := dk_2 (dk_at dksX0_choose_5 10 rfl rfl)
theorem dX0_choose_129 : decode cX0_choose 129 = .ok (.ixor, 1) := dk_130 (dk_at dksX0_choose_5 11 rfl rfl)
theorem dX0_choose_130 : decode cX0_choose 130 = .ok (.iand, 1) := dk_126 (dk_at dksX0_choose_5 12 rfl rfl)
theorem dX0_choose_131 : decode cX0_choose 131 = .ok (.putfield 312, 3) := dk_181 1 56 (dk_at dksX0_choose_5 13 rfl rfl)
theorem dX0_choose_134 : decode cX0_choose 134 = .ok (.iinc 5 1, 3) := dk_132 5 1 (dk_at dksX0_choose_5 16 rfl rfl)
theorem dX0_choose_137 : decode cX0_choose 137 = .ok (.goto (-113), 3) := dk_167 255 143 (dk_at dksX0_choose_5 19 rfl rfl)
theorem dX0_choose_140 : decode cX0_choose 140 = .ok (.iconst 0, 1) := dk_3 (dk_at dksX0_choose_5 22 rfl rfl)
theorem dX0_choose_141 : decode cX0_choose 141 = .ok (.ireturn, 1) := dk_172 (dk_at dksX0_choose_5 23 rfl rfl)
abbrev cX0_isEnough : ByteArray := prog_1_method_43_code
def yX0_isEnough : MethodName := ⟨RX0, "isEnough", "(Z)Z"⟩
def dkwX0_isEnough_1 : List UInt8 := [182, 1, 49, 154, 0, 7, 4, 167, 0, 4, 3, 172]
abbrev dktX0_isEnough_1 : List UInt8 := dkwX0_isEnough_1 ++ []
def dkwX0_isEnough_0 : List UInt8 := [27, 153, 0, 20, 42, 182, 1, 28, 16, 254, 160, 0, 7, 4, 167, 0, 19, 3, 167, 0, 15, 42]
abbrev dktX0_isEnough_0 : List UInt8 := dkwX0_isEnough_0 ++ dktX0_isEnough_1
theorem dksX0_isEnough_0 : cX0_isEnough.data.toList.drop 0 = dktX0_isEnough_0 := by decide +kernel
theorem dksX0_isEnough_1 : cX0_isEnough.data.toList.drop 22 = dktX0_isEnough_1 := dk_seg dksX0_isEnough_0 22 rfl rfl
theorem dX0_isEnough_0 : decode cX0_isEnough 0 = .ok (.iload_n 1, 1) := dk_27 (dk_at dksX0_isEnough_0 0 rfl rfl)
theorem dX0_isEnough_1 : decode cX0_isEnough 1 = .ok (.ifCond .eq 20, 3) := dk_153 0 20 (dk_at dksX0_isEnough_0 1 rfl rfl)
theorem dX0_isEnough_4 : decode cX0_isEnough 4 = .ok (.aload_n 0, 1) := dk_42 (dk_at dksX0_isEnough_0 4 rfl rfl)
theorem dX0_isEnough_5 : decode cX0_isEnough 5 = .ok (.invokevirtual 284, 3) := dk_182 1 28 (dk_at dksX0_isEnough_0 5 rfl rfl)
theorem dX0_isEnough_8 : decode cX0_isEnough 8 = .ok (.bipush (-2), 2) := dk_16 254 (dk_at dksX0_isEnough_0 8 rfl rfl)
theorem dX0_isEnough_10 : decode cX0_isEnough 10 = .ok (.if_icmp .ne 7, 3) := dk_160 0 7 (dk_at dksX0_isEnough_0 10 rfl rfl)
theorem dX0_isEnough_13 : decode cX0_isEnough 13 = .ok (.iconst 1, 1) := dk_4 (dk_at dksX0_isEnough_0 13 rfl rfl)
theorem dX0_isEnough_14 : decode cX0_isEnough 14 = .ok (.goto 19, 3) := dk_167 0 19 (dk_at dksX0_isEnough_0 14 rfl rfl)
theorem dX0_isEnough_17 : decode cX0_isEnough 17 = .ok (.iconst 0, 1) := dk_3 (dk_at dksX0_isEnough_0 17 rfl rfl)
theorem dX0_isEnough_18 : decode cX0_isEnough 18 = .ok (.goto 15, 3) := dk_167 0 15 (dk_at dksX0_isEnough_0 18 rfl rfl)
theorem dX0_isEnough_21 : decode cX0_isEnough 21 = .ok (.aload_n 0, 1) := dk_42 (dk_at dksX0_isEnough_0 21 rfl rfl)
theorem dX0_isEnough_22 : decode cX0_isEnough 22 = .ok (.invokevirtual 305, 3) := dk_182 1 49 (dk_at dksX0_isEnough_1 0 rfl rfl)
theorem dX0_isEnough_25 : decode cX0_isEnough 25 = .ok (.ifCond .ne 7, 3) := dk_154 0 7 (dk_at dksX0_isEnough_1 3 rfl rfl)
theorem dX0_isEnough_28 : decode cX0_isEnough 28 = .ok (.iconst 1, 1) := dk_4 (dk_at dksX0_isEnough_1 6 rfl rfl)
theorem dX0_isEnough_29 : decode cX0_isEnough 29 = .ok (.goto 4, 3) := dk_167 0 4 (dk_at dksX0_isEnough_1 7 rfl rfl)
theorem dX0_isEnough_32 : decode cX0_isEnough 32 = .ok (.iconst 0, 1) := dk_3 (dk_at dksX0_isEnough_1 10 rfl rfl)
theorem dX0_isEnough_33 : decode cX0_isEnough 33 = .ok (.ireturn, 1) := dk_172 (dk_at dksX0_isEnough_1 11 rfl rfl)
abbrev cX0_has : ByteArray := prog_1_method_3_code
def yX0_has : MethodName := ⟨RX0, "has", "(II)Z"⟩
def dkwX0_has_0 : List UInt8 := [26, 27, 122, 4, 126, 4, 160, 0, 7, 4, 167, 0, 4, 3, 172]
abbrev dktX0_has_0 : List UInt8 := dkwX0_has_0 ++ []
theorem dksX0_has_0 : cX0_has.data.toList.drop 0 = dktX0_has_0 := by decide +kernel
theorem dX0_has_0 : decode cX0_has 0 = .ok (.iload_n 0, 1) := dk_26 (dk_at dksX0_has_0 0 rfl rfl)
theorem dX0_has_1 : decode cX0_has 1 = .ok (.iload_n 1, 1) := dk_27 (dk_at dksX0_has_0 1 rfl rfl)
theorem dX0_has_2 : decode cX0_has 2 = .ok (.ishr, 1) := dk_122 (dk_at dksX0_has_0 2 rfl rfl)
theorem dX0_has_3 : decode cX0_has 3 = .ok (.iconst 1, 1) := dk_4 (dk_at dksX0_has_0 3 rfl rfl)
theorem dX0_has_4 : decode cX0_has 4 = .ok (.iand, 1) := dk_126 (dk_at dksX0_has_0 4 rfl rfl)
theorem dX0_has_5 : decode cX0_has 5 = .ok (.iconst 1, 1) := dk_4 (dk_at dksX0_has_0 5 rfl rfl)
theorem dX0_has_6 : decode cX0_has 6 = .ok (.if_icmp .ne 7, 3) := dk_160 0 7 (dk_at dksX0_has_0 6 rfl rfl)
theorem dX0_has_9 : decode cX0_has 9 = .ok (.iconst 1, 1) := dk_4 (dk_at dksX0_has_0 9 rfl rfl)
theorem dX0_has_10 : decode cX0_has 10 = .ok (.goto 4, 3) := dk_167 0 4 (dk_at dksX0_has_0 10 rfl rfl)
theorem dX0_has_13 : decode cX0_has 13 = .ok (.iconst 0, 1) := dk_3 (dk_at dksX0_has_0 13 rfl rfl)
theorem dX0_has_14 : decode cX0_has 14 = .ok (.ireturn, 1) := dk_172 (dk_at dksX0_has_0 14 rfl rfl)
abbrev cX0_bitAt : ByteArray := prog_1_method_46_code
def yX0_bitAt : MethodName := ⟨RX0, "bitAt", "(II)I"⟩
def dkwX0_bitAt_1 : List UInt8 := [184, 1, 69, 172]
abbrev dktX0_bitAt_1 : List UInt8 := dkwX0_bitAt_1 ++ []
def dkwX0_bitAt_0 : List UInt8 := [26, 61, 3, 62, 29, 27, 162, 0, 15, 28, 28, 4, 100, 126, 61, 132, 3, 1, 167, 255, 242, 28]
abbrev dktX0_bitAt_0 : List UInt8 := dkwX0_bitAt_0 ++ dktX0_bitAt_1
theorem dksX0_bitAt_0 : cX0_bitAt.data.toList.drop 0 = dktX0_bitAt_0 := by decide +kernel
theorem dksX0_bitAt_1 : cX0_bitAt.data.toList.drop 22 = dktX0_bitAt_1 := dk_seg dksX0_bitAt_0 22 rfl rfl
theorem dX0_bitAt_0 : decode cX0_bitAt 0 = .ok (.iload_n 0, 1) := dk_26 (dk_at dksX0_bitAt_0 0 rfl rfl)
theorem dX0_bitAt_1 : decode cX0_bitAt 1 = .ok (.istore_n 2, 1) := dk_61 (dk_at dksX0_bitAt_0 1 rfl rfl)
theorem dX0_bitAt_2 : decode cX0_bitAt 2 = .ok (.iconst 0, 1) := dk_3 (dk_at dksX0_bitAt_0 2 rfl rfl)
theorem dX0_bitAt_3 : decode cX0_bitAt 3 = .ok (.istore_n 3, 1) := dk_62 (dk_at dksX0_bitAt_0 3 rfl rfl)
theorem dX0_bitAt_4 : decode cX0_bitAt 4 = .ok (.iload_n 3, 1) := dk_29 (dk_at dksX0_bitAt_0 4 rfl rfl)
theorem dX0_bitAt_5 : decode cX0_bitAt 5 = .ok (.iload_n 1, 1) := dk_27 (dk_at dksX0_bitAt_0 5 rfl rfl)
theorem dX0_bitAt_6 : decode cX0_bitAt 6 = .ok (.if_icmp .ge 15, 3) := dk_162 0 15 (dk_at dksX0_bitAt_0 6 rfl rfl)
theorem dX0_bitAt_9 : decode cX0_bitAt 9 = .ok (.iload_n 2, 1) := dk_28 (dk_at dksX0_bitAt_0 9 rfl rfl)
theorem dX0_bitAt_10 : decode cX0_bitAt 10 = .ok (.iload_n 2, 1) := dk_28 (dk_at dksX0_bitAt_0 10 rfl rfl)
theorem dX0_bitAt_11 : decode cX0_bitAt 11 = .ok (.iconst 1, 1) := dk_4 (dk_at dksX0_bitAt_0 11 rfl rfl)
theorem dX0_bitAt_12 : decode cX0_bitAt 12 = .ok (.isub, 1) := dk_100 (dk_at dksX0_bitAt_0 12 rfl rfl)
theorem dX0_bitAt_13 : decode cX0_bitAt 13 = .ok (.iand, 1) := dk_126 (dk_at dksX0_bitAt_0 13 rfl rfl)
theorem dX0_bitAt_14 : decode cX0_bitAt 14 = .ok (.istore_n 2, 1) := dk_61 (dk_at dksX0_bitAt_0 14 rfl rfl)
theorem dX0_bitAt_15 : decode cX0_bitAt 15 = .ok (.iinc 3 1, 3) := dk_132 3 1 (dk_at dksX0_bitAt_0 15 rfl rfl)
theorem dX0_bitAt_18 : decode cX0_bitAt 18 = .ok (.goto (-14), 3) := dk_167 255 242 (dk_at dksX0_bitAt_0 18 rfl rfl)
theorem dX0_bitAt_21 : decode cX0_bitAt 21 = .ok (.iload_n 2, 1) := dk_28 (dk_at dksX0_bitAt_0 21 rfl rfl)
theorem dX0_bitAt_22 : decode cX0_bitAt 22 = .ok (.invokestatic 325, 3) := dk_184 1 69 (dk_at dksX0_bitAt_1 0 rfl rfl)
theorem dX0_bitAt_25 : decode cX0_bitAt 25 = .ok (.ireturn, 1) := dk_172 (dk_at dksX0_bitAt_1 3 rfl rfl)
abbrev cX0_looks : ByteArray := prog_1_method_48_code
def yX0_looks : MethodName := ⟨RX0, "looks", "(II)I"⟩
def dkwX0_looks_1 : List UInt8 := [29, 167, 0, 9, 42, 4, 28, 182, 1, 74, 172]
abbrev dktX0_looks_1 : List UInt8 := dkwX0_looks_1 ++ []
def dkwX0_looks_0 : List UInt8 := [27, 184, 0, 97, 153, 0, 8, 28, 2, 162, 0, 5, 2, 172, 42, 27, 182, 1, 25, 62, 29, 156, 0, 7]
abbrev dktX0_looks_0 : List UInt8 := dkwX0_looks_0 ++ dktX0_looks_1
theorem dksX0_looks_0 : cX0_looks.data.toList.drop 0 = dktX0_looks_0 := by decide +kernel
theorem dksX0_looks_1 : cX0_looks.data.toList.drop 24 = dktX0_looks_1 := dk_seg dksX0_looks_0 24 rfl rfl
theorem dX0_looks_0 : decode cX0_looks 0 = .ok (.iload_n 1, 1) := dk_27 (dk_at dksX0_looks_0 0 rfl rfl)
theorem dX0_looks_1 : decode cX0_looks 1 = .ok (.invokestatic 97, 3) := dk_184 0 97 (dk_at dksX0_looks_0 1 rfl rfl)
theorem dX0_looks_4 : decode cX0_looks 4 = .ok (.ifCond .eq 8, 3) := dk_153 0 8 (dk_at dksX0_looks_0 4 rfl rfl)
theorem dX0_looks_7 : decode cX0_looks 7 = .ok (.iload_n 2, 1) := dk_28 (dk_at dksX0_looks_0 7 rfl rfl)
theorem dX0_looks_8 : decode cX0_looks 8 = .ok (.iconst (-1), 1) := dk_2 (dk_at dksX0_looks_0 8 rfl rfl)
theorem dX0_looks_9 : decode cX0_looks 9 = .ok (.if_icmp .ge 5, 3) := dk_162 0 5 (dk_at dksX0_looks_0 9 rfl rfl)
theorem dX0_looks_12 : decode cX0_looks 12 = .ok (.iconst (-1), 1) := dk_2 (dk_at dksX0_looks_0 12 rfl rfl)
theorem dX0_looks_13 : decode cX0_looks 13 = .ok (.ireturn, 1) := dk_172 (dk_at dksX0_looks_0 13 rfl rfl)
theorem dX0_looks_14 : decode cX0_looks 14 = .ok (.aload_n 0, 1) := dk_42 (dk_at dksX0_looks_0 14 rfl rfl)
theorem dX0_looks_15 : decode cX0_looks 15 = .ok (.iload_n 1, 1) := dk_27 (dk_at dksX0_looks_0 15 rfl rfl)
theorem dX0_looks_16 : decode cX0_looks 16 = .ok (.invokevirtual 281, 3) := dk_182 1 25 (dk_at dksX0_looks_0 16 rfl rfl)
theorem dX0_looks_19 : decode cX0_looks 19 = .ok (.istore_n 3, 1) := dk_62 (dk_at dksX0_looks_0 19 rfl rfl)
theorem dX0_looks_20 : decode cX0_looks 20 = .ok (.iload_n 3, 1) := dk_29 (dk_at dksX0_looks_0 20 rfl rfl)
theorem dX0_looks_21 : decode cX0_looks 21 = .ok (.ifCond .ge 7, 3) := dk_156 0 7 (dk_at dksX0_looks_0 21 rfl rfl)
theorem dX0_looks_24 : decode cX0_looks 24 = .ok (.iload_n 3, 1) := dk_29 (dk_at dksX0_looks_1 0 rfl rfl)
theorem dX0_looks_25 : decode cX0_looks 25 = .ok (.goto 9, 3) := dk_167 0 9 (dk_at dksX0_looks_1 1 rfl rfl)
theorem dX0_looks_28 : decode cX0_looks 28 = .ok (.aload_n 0, 1) := dk_42 (dk_at dksX0_looks_1 4 rfl rfl)
theorem dX0_looks_29 : decode cX0_looks 29 = .ok (.iconst 1, 1) := dk_4 (dk_at dksX0_looks_1 5 rfl rfl)
theorem dX0_looks_30 : decode cX0_looks 30 = .ok (.iload_n 2, 1) := dk_28 (dk_at dksX0_looks_1 6 rfl rfl)
theorem dX0_looks_31 : decode cX0_looks 31 = .ok (.invokevirtual 330, 3) := dk_182 1 74 (dk_at dksX0_looks_1 7 rfl rfl)
theorem dX0_looks_34 : decode cX0_looks 34 = .ok (.ireturn, 1) := dk_172 (dk_at dksX0_looks_1 10 rfl rfl)
abbrev cX0_whose : ByteArray := prog_1_method_49_code
def yX0_whose : MethodName := ⟨RX0, "whose", "(II)I"⟩
def dkwX0_whose_4 : List UInt8 := [167, 255, 209, 42, 21, 4, 181, 0, 130, 28, 154, 0, 8, 21, 5, 167, 0, 5, 21, 6, 172]
abbrev dktX0_whose_4 : List UInt8 := dkwX0_whose_4 ++ []
def dkwX0_whose_3 : List UInt8 := [155, 0, 13, 21, 8, 21, 6, 161, 0, 6, 167, 0, 11, 21, 7, 54, 5, 21, 8, 54, 6, 132, 7, 1]
abbrev dktX0_whose_3 : List UInt8 := dkwX0_whose_3 ++ dktX0_whose_4
def dkwX0_whose_2 : List UInt8 := [21, 7, 42, 180, 0, 79, 162, 0, 44, 42, 21, 7, 181, 0, 130, 42, 182, 1, 22, 54, 8, 21, 5]
abbrev dktX0_whose_2 : List UInt8 := dkwX0_whose_2 ++ dktX0_whose_3
def dkwX0_whose_1 : List UInt8 := [29, 156, 0, 5, 29, 172, 42, 180, 0, 130, 54, 4, 16, 254, 54, 5, 16, 254, 54, 6, 3, 54, 7]
abbrev dktX0_whose_1 : List UInt8 := dkwX0_whose_1 ++ dktX0_whose_2
def dkwX0_whose_0 : List UInt8 := [27, 184, 0, 97, 153, 0, 12, 28, 3, 4, 184, 0, 82, 154, 0, 5, 2, 172, 42, 27, 182, 1, 25, 62]
abbrev dktX0_whose_0 : List UInt8 := dkwX0_whose_0 ++ dktX0_whose_1
theorem dksX0_whose_0 : cX0_whose.data.toList.drop 0 = dktX0_whose_0 := by decide +kernel
theorem dksX0_whose_1 : cX0_whose.data.toList.drop 24 = dktX0_whose_1 := dk_seg dksX0_whose_0 24 rfl rfl
theorem dksX0_whose_2 : cX0_whose.data.toList.drop 47 = dktX0_whose_2 := dk_seg dksX0_whose_1 23 rfl rfl
theorem dksX0_whose_3 : cX0_whose.data.toList.drop 70 = dktX0_whose_3 := dk_seg dksX0_whose_2 23 rfl rfl
theorem dksX0_whose_4 : cX0_whose.data.toList.drop 94 = dktX0_whose_4 := dk_seg dksX0_whose_3 24 rfl rfl
theorem dX0_whose_0 : decode cX0_whose 0 = .ok (.iload_n 1, 1) := dk_27 (dk_at dksX0_whose_0 0 rfl rfl)
theorem dX0_whose_1 : decode cX0_whose 1 = .ok (.invokestatic 97, 3) := dk_184 0 97 (dk_at dksX0_whose_0 1 rfl rfl)
theorem dX0_whose_4 : decode cX0_whose 4 = .ok (.ifCond .eq 12, 3) := dk_153 0 12 (dk_at dksX0_whose_0 4 rfl rfl)
theorem dX0_whose_7 : decode cX0_whose 7 = .ok (.iload_n 2, 1) := dk_28 (dk_at dksX0_whose_0 7 rfl rfl)
theorem dX0_whose_8 : decode cX0_whose 8 = .ok (.iconst 0, 1) := dk_3 (dk_at dksX0_whose_0 8 rfl rfl)
theorem dX0_whose_9 : decode cX0_whose 9 = .ok (.iconst 1, 1) := dk_4 (dk_at dksX0_whose_0 9 rfl rfl)
theorem dX0_whose_10 : decode cX0_whose 10 = .ok (.invokestatic 82, 3) := dk_184 0 82 (dk_at dksX0_whose_0 10 rfl rfl)
theorem dX0_whose_13 : decode cX0_whose 13 = .ok (.ifCond .ne 5, 3) := dk_154 0 5 (dk_at dksX0_whose_0 13 rfl rfl)
theorem dX0_whose_16 : decode cX0_whose 16 = .ok (.iconst (-1), 1) := dk_2 (dk_at dksX0_whose_0 16 rfl rfl)
theorem dX0_whose_17 : decode cX0_whose 17 = .ok (.ireturn, 1) := dk_172 (dk_at dksX0_whose_0 17 rfl rfl)
theorem dX0_whose_18 : decode cX0_whose 18 = .ok (.aload_n 0, 1) := dk_42 (dk_at dksX0_whose_0 18 rfl rfl)
theorem dX0_whose_19 : decode cX0_whose 19 = .ok (.iload_n 1, 1) := dk_27 (dk_at dksX0_whose_0 19 rfl rfl)
theorem dX0_whose_20 : decode cX0_whose 20 = .ok (.invokevirtual 281, 3) := dk_182 1 25 (dk_at dksX0_whose_0 20 rfl rfl)
theorem dX0_whose_23 : decode cX0_whose 23 = .ok (.istore_n 3, 1) := dk_62 (dk_at dksX0_whose_0 23 rfl rfl)
theorem dX0_whose_24 : decode cX0_whose 24 = .ok (.iload_n 3, 1) := dk_29 (dk_at dksX0_whose_1 0 rfl rfl)
theorem dX0_whose_25 : decode cX0_whose 25 = .ok (.ifCond .ge 5, 3) := dk_156 0 5 (dk_at dksX0_whose_1 1 rfl rfl)
theorem dX0_whose_28 : decode cX0_whose 28 = .ok (.iload_n 3, 1) := dk_29 (dk_at dksX0_whose_1 4 rfl rfl)
theorem dX0_whose_29 : decode cX0_whose 29 = .ok (.ireturn, 1) := dk_172 (dk_at dksX0_whose_1 5 rfl rfl)
theorem dX0_whose_30 : decode cX0_whose 30 = .ok (.aload_n 0, 1) := dk_42 (dk_at dksX0_whose_1 6 rfl rfl)
theorem dX0_whose_31 : decode cX0_whose 31 = .ok (.getfield 130, 3) := dk_180 0 130 (dk_at dksX0_whose_1 7 rfl rfl)
theorem dX0_whose_34 : decode cX0_whose 34 = .ok (.istore 4, 2) := dk_54 4 (dk_at dksX0_whose_1 10 rfl rfl)
theorem dX0_whose_36 : decode cX0_whose 36 = .ok (.bipush (-2), 2) := dk_16 254 (dk_at dksX0_whose_1 12 rfl rfl)
theorem dX0_whose_38 : decode cX0_whose 38 = .ok (.istore 5, 2) := dk_54 5 (dk_at dksX0_whose_1 14 rfl rfl)
theorem dX0_whose_40 : decode cX0_whose 40 = .ok (.bipush (-2), 2) := dk_16 254 (dk_at dksX0_whose_1 16 rfl rfl)
theorem dX0_whose_42 : decode cX0_whose 42 = .ok (.istore 6, 2) := dk_54 6 (dk_at dksX0_whose_1 18 rfl rfl)
theorem dX0_whose_44 : decode cX0_whose 44 = .ok (.iconst 0, 1) := dk_3 (dk_at dksX0_whose_1 20 rfl rfl)
theorem dX0_whose_45 : decode cX0_whose 45 = .ok (.istore 7, 2) := dk_54 7 (dk_at dksX0_whose_1 21 rfl rfl)
theorem dX0_whose_47 : decode cX0_whose 47 = .ok (.iload 7, 2) := dk_21 7 (dk_at dksX0_whose_2 0 rfl rfl)
theorem dX0_whose_49 : decode cX0_whose 49 = .ok (.aload_n 0, 1) := dk_42 (dk_at dksX0_whose_2 2 rfl rfl)
theorem dX0_whose_50 : decode cX0_whose 50 = .ok (.getfield 79, 3) := dk_180 0 79 (dk_at dksX0_whose_2 3 rfl rfl)
theorem dX0_whose_53 : decode cX0_whose 53 = .ok (.if_icmp .ge 44, 3) := dk_162 0 44 (dk_at dksX0_whose_2 6 rfl rfl)
theorem dX0_whose_56 : decode cX0_whose 56 = .ok (.aload_n 0, 1) := dk_42 (dk_at dksX0_whose_2 9 rfl rfl)
theorem dX0_whose_57 : decode cX0_whose 57 = .ok (.iload 7, 2) := dk_21 7 (dk_at dksX0_whose_2 10 rfl rfl)
theorem dX0_whose_59 : decode cX0_whose 59 = .ok (.putfield 130, 3) := dk_181 0 130 (dk_at dksX0_whose_2 12 rfl rfl)
theorem dX0_whose_62 : decode cX0_whose 62 = .ok (.aload_n 0, 1) := dk_42 (dk_at dksX0_whose_2 15 rfl rfl)
theorem dX0_whose_63 : decode cX0_whose 63 = .ok (.invokevirtual 278, 3) := dk_182 1 22 (dk_at dksX0_whose_2 16 rfl rfl)
theorem dX0_whose_66 : decode cX0_whose 66 = .ok (.istore 8, 2) := dk_54 8 (dk_at dksX0_whose_2 19 rfl rfl)
theorem dX0_whose_68 : decode cX0_whose 68 = .ok (.iload 5, 2) := dk_21 5 (dk_at dksX0_whose_2 21 rfl rfl)
theorem dX0_whose_70 : decode cX0_whose 70 = .ok (.ifCond .lt 13, 3) := dk_155 0 13 (dk_at dksX0_whose_3 0 rfl rfl)
theorem dX0_whose_73 : decode cX0_whose 73 = .ok (.iload 8, 2) := dk_21 8 (dk_at dksX0_whose_3 3 rfl rfl)
theorem dX0_whose_75 : decode cX0_whose 75 = .ok (.iload 6, 2) := dk_21 6 (dk_at dksX0_whose_3 5 rfl rfl)
theorem dX0_whose_77 : decode cX0_whose 77 = .ok (.if_icmp .lt 6, 3) := dk_161 0 6 (dk_at dksX0_whose_3 7 rfl rfl)
theorem dX0_whose_80 : decode cX0_whose 80 = .ok (.goto 11, 3) := dk_167 0 11 (dk_at dksX0_whose_3 10 rfl rfl)
theorem dX0_whose_83 : decode cX0_whose 83 = .ok (.iload 7, 2) := dk_21 7 (dk_at dksX0_whose_3 13 rfl rfl)
theorem dX0_whose_85 : decode cX0_whose 85 = .ok (.istore 5, 2) := dk_54 5 (dk_at dksX0_whose_3 15 rfl rfl)
theorem dX0_whose_87 : decode cX0_whose 87 = .ok (.iload 8, 2) := dk_21 8 (dk_at dksX0_whose_3 17 rfl rfl)
theorem dX0_whose_89 : decode cX0_whose 89 = .ok (.istore 6, 2) := dk_54 6 (dk_at dksX0_whose_3 19 rfl rfl)
theorem dX0_whose_91 : decode cX0_whose 91 = .ok (.iinc 7 1, 3) := dk_132 7 1 (dk_at dksX0_whose_3 21 rfl rfl)
theorem dX0_whose_94 : decode cX0_whose 94 = .ok (.goto (-47), 3) := dk_167 255 209 (dk_at dksX0_whose_4 0 rfl rfl)
theorem dX0_whose_97 : decode cX0_whose 97 = .ok (.aload_n 0, 1) := dk_42 (dk_at dksX0_whose_4 3 rfl rfl)
theorem dX0_whose_98 : decode cX0_whose 98 = .ok (.iload 4, 2) := dk_21 4 (dk_at dksX0_whose_4 4 rfl rfl)
theorem dX0_whose_100 : decode cX0_whose 100 = .ok (.putfield 130, 3) := dk_181 0 130 (dk_at dksX0_whose_4 6 rfl rfl)
theorem dX0_whose_103 : decode cX0_whose 103 = .ok (.iload_n 2, 1) := dk_28 (dk_at dksX0_whose_4 9 rfl rfl)
theorem dX0_whose_104 : decode cX0_whose 104 = .ok (.ifCond .ne 8, 3) := dk_154 0 8 (dk_at dksX0_whose_4 10 rfl rfl)
theorem dX0_whose_107 : decode cX0_whose 107 = .ok (.iload 5, 2) := dk_21 5 (dk_at dksX0_whose_4 13 rfl rfl)
theorem dX0_whose_109 : decode cX0_whose 109 = .ok (.goto 5, 3) := dk_167 0 5 (dk_at dksX0_whose_4 15 rfl rfl)
theorem dX0_whose_112 : decode cX0_whose 112 = .ok (.iload 6, 2) := dk_21 6 (dk_at dksX0_whose_4 18 rfl rfl)
theorem dX0_whose_114 : decode cX0_whose 114 = .ok (.ireturn, 1) := dk_172 (dk_at dksX0_whose_4 20 rfl rfl)
abbrev cX0_first : ByteArray := prog_1_method_50_code
def yX0_first : MethodName := ⟨RX0, "first", "(II)I"⟩
def dkwX0_first_5 : List UInt8 := [167, 255, 180, 28, 154, 0, 8, 21, 4, 167, 0, 5, 21, 5, 172]
abbrev dktX0_first_5 : List UInt8 := dkwX0_first_5 ++ []
def dkwX0_first_4 : List UInt8 := [155, 0, 13, 21, 8, 21, 5, 161, 0, 6, 167, 0, 11, 21, 6, 54, 4, 21, 8, 54, 5, 132, 6, 1]
abbrev dktX0_first_4 : List UInt8 := dkwX0_first_4 ++ dktX0_first_5
def dkwX0_first_3 : List UInt8 := [181, 0, 106, 42, 182, 1, 22, 54, 8, 42, 180, 0, 11, 21, 6, 50, 21, 7, 181, 0, 106, 21, 4]
abbrev dktX0_first_3 : List UInt8 := dkwX0_first_3 ++ dktX0_first_4
def dkwX0_first_2 : List UInt8 := [162, 0, 73, 42, 180, 0, 11, 21, 6, 50, 180, 0, 106, 54, 7, 42, 180, 0, 11, 21, 6, 50, 3]
abbrev dktX0_first_2 : List UInt8 := dkwX0_first_2 ++ dktX0_first_3
def dkwX0_first_1 : List UInt8 := [29, 156, 0, 5, 29, 172, 16, 254, 54, 4, 16, 254, 54, 5, 3, 54, 6, 21, 6, 42, 180, 0, 79]
abbrev dktX0_first_1 : List UInt8 := dkwX0_first_1 ++ dktX0_first_2
def dkwX0_first_0 : List UInt8 := [27, 184, 0, 97, 153, 0, 12, 28, 3, 4, 184, 0, 82, 154, 0, 5, 2, 172, 42, 27, 182, 1, 25, 62]
abbrev dktX0_first_0 : List UInt8 := dkwX0_first_0 ++ dktX0_first_1
theorem dksX0_first_0 : cX0_first.data.toList.drop 0 = dktX0_first_0 := by decide +kernel
theorem dksX0_first_1 : cX0_first.data.toList.drop 24 = dktX0_first_1 := dk_seg dksX0_first_0 24 rfl rfl
theorem dksX0_first_2 : cX0_first.data.toList.drop 47 = dktX0_first_2 := dk_seg dksX0_first_1 23 rfl rfl
theorem dksX0_first_3 : cX0_first.data.toList.drop 70 = dktX0_first_3 := dk_seg dksX0_first_2 23 rfl rfl
theorem dksX0_first_4 : cX0_first.data.toList.drop 93 = dktX0_first_4 := dk_seg dksX0_first_3 23 rfl rfl
theorem dksX0_first_5 : cX0_first.data.toList.drop 117 = dktX0_first_5 := dk_seg dksX0_first_4 24 rfl rfl
theorem dX0_first_0 : decode cX0_first 0 = .ok (.iload_n 1, 1) := dk_27 (dk_at dksX0_first_0 0 rfl rfl)
theorem dX0_first_1 : decode cX0_first 1 = .ok (.invokestatic 97, 3) := dk_184 0 97 (dk_at dksX0_first_0 1 rfl rfl)
theorem dX0_first_4 : decode cX0_first 4 = .ok (.ifCond .eq 12, 3) := dk_153 0 12 (dk_at dksX0_first_0 4 rfl rfl)
theorem dX0_first_7 : decode cX0_first 7 = .ok (.iload_n 2, 1) := dk_28 (dk_at dksX0_first_0 7 rfl rfl)
theorem dX0_first_8 : decode cX0_first 8 = .ok (.iconst 0, 1) := dk_3 (dk_at dksX0_first_0 8 rfl rfl)
theorem dX0_first_9 : decode cX0_first 9 = .ok (.iconst 1, 1) := dk_4 (dk_at dksX0_first_0 9 rfl rfl)
theorem dX0_first_10 : decode cX0_first 10 = .ok (.invokestatic 82, 3) := dk_184 0 82 (dk_at dksX0_first_0 10 rfl rfl)
theorem dX0_first_13 : decode cX0_first 13 = .ok (.ifCond .ne 5, 3) := dk_154 0 5 (dk_at dksX0_first_0 13 rfl rfl)
theorem dX0_first_16 : decode cX0_first 16 = .ok (.iconst (-1), 1) := dk_2 (dk_at dksX0_first_0 16 rfl rfl)
theorem dX0_first_17 : decode cX0_first 17 = .ok (.ireturn, 1) := dk_172 (dk_at dksX0_first_0 17 rfl rfl)
theorem dX0_first_18 : decode cX0_first 18 = .ok (.aload_n 0, 1) := dk_42 (dk_at dksX0_first_0 18 rfl rfl)
theorem dX0_first_19 : decode cX0_first 19 = .ok (.iload_n 1, 1) := dk_27 (dk_at dksX0_first_0 19 rfl rfl)
theorem dX0_first_20 : decode cX0_first 20 = .ok (.invokevirtual 281, 3) := dk_182 1 25 (dk_at dksX0_first_0 20 rfl rfl)
theorem dX0_first_23 : decode cX0_first 23 = .ok (.istore_n 3, 1) := dk_62 (dk_at dksX0_first_0 23 rfl rfl)
theorem dX0_first_24 : decode cX0_first 24 = .ok (.iload_n 3, 1) := dk_29 (dk_at dksX0_first_1 0 rfl rfl)
theorem dX0_first_25 : decode cX0_first 25 = .ok (.ifCond .ge 5, 3) := dk_156 0 5 (dk_at dksX0_first_1 1 rfl rfl)
theorem dX0_first_28 : decode cX0_first 28 = .ok (.iload_n 3, 1) := dk_29 (dk_at dksX0_first_1 4 rfl rfl)
theorem dX0_first_29 : decode cX0_first 29 = .ok (.ireturn, 1) := dk_172 (dk_at dksX0_first_1 5 rfl rfl)
theorem dX0_first_30 : decode cX0_first 30 = .ok (.bipush (-2), 2) := dk_16 254 (dk_at dksX0_first_1 6 rfl rfl)
theorem dX0_first_32 : decode cX0_first 32 = .ok (.istore 4, 2) := dk_54 4 (dk_at dksX0_first_1 8 rfl rfl)
theorem dX0_first_34 : decode cX0_first 34 = .ok (.bipush (-2), 2) := dk_16 254 (dk_at dksX0_first_1 10 rfl rfl)
theorem dX0_first_36 : decode cX0_first 36 = .ok (.istore 5, 2) := dk_54 5 (dk_at dksX0_first_1 12 rfl rfl)
theorem dX0_first_38 : decode cX0_first 38 = .ok (.iconst 0, 1) := dk_3 (dk_at dksX0_first_1 14 rfl rfl)
theorem dX0_first_39 : decode cX0_first 39 = .ok (.istore 6, 2) := dk_54 6 (dk_at dksX0_first_1 15 rfl rfl)
theorem dX0_first_41 : decode cX0_first 41 = .ok (.iload 6, 2) := dk_21 6 (dk_at dksX0_first_1 17 rfl rfl)
theorem dX0_first_43 : decode cX0_first 43 = .ok (.aload_n 0, 1) := dk_42 (dk_at dksX0_first_1 19 rfl rfl)
theorem dX0_first_44 : decode cX0_first 44 = .ok (.getfield 79, 3) := dk_180 0 79 (dk_at dksX0_first_1 20 rfl rfl)
theorem dX0_first_47 : decode cX0_first 47 = .ok (.if_icmp .ge 73, 3) := dk_162 0 73 (dk_at dksX0_first_2 0 rfl rfl)
theorem dX0_first_50 : decode cX0_first 50 = .ok (.aload_n 0, 1) := dk_42 (dk_at dksX0_first_2 3 rfl rfl)
theorem dX0_first_51 : decode cX0_first 51 = .ok (.getfield 11, 3) := dk_180 0 11 (dk_at dksX0_first_2 4 rfl rfl)
theorem dX0_first_54 : decode cX0_first 54 = .ok (.iload 6, 2) := dk_21 6 (dk_at dksX0_first_2 7 rfl rfl)
theorem dX0_first_56 : decode cX0_first 56 = .ok (.aaload, 1) := dk_50 (dk_at dksX0_first_2 9 rfl rfl)
theorem dX0_first_57 : decode cX0_first 57 = .ok (.getfield 106, 3) := dk_180 0 106 (dk_at dksX0_first_2 10 rfl rfl)
theorem dX0_first_60 : decode cX0_first 60 = .ok (.istore 7, 2) := dk_54 7 (dk_at dksX0_first_2 13 rfl rfl)
theorem dX0_first_62 : decode cX0_first 62 = .ok (.aload_n 0, 1) := dk_42 (dk_at dksX0_first_2 15 rfl rfl)
theorem dX0_first_63 : decode cX0_first 63 = .ok (.getfield 11, 3) := dk_180 0 11 (dk_at dksX0_first_2 16 rfl rfl)
theorem dX0_first_66 : decode cX0_first 66 = .ok (.iload 6, 2) := dk_21 6 (dk_at dksX0_first_2 19 rfl rfl)
theorem dX0_first_68 : decode cX0_first 68 = .ok (.aaload, 1) := dk_50 (dk_at dksX0_first_2 21 rfl rfl)
theorem dX0_first_69 : decode cX0_first 69 = .ok (.iconst 0, 1) := dk_3 (dk_at dksX0_first_2 22 rfl rfl)
theorem dX0_first_70 : decode cX0_first 70 = .ok (.putfield 106, 3) := dk_181 0 106 (dk_at dksX0_first_3 0 rfl rfl)
theorem dX0_first_73 : decode cX0_first 73 = .ok (.aload_n 0, 1) := dk_42 (dk_at dksX0_first_3 3 rfl rfl)
theorem dX0_first_74 : decode cX0_first 74 = .ok (.invokevirtual 278, 3) := dk_182 1 22 (dk_at dksX0_first_3 4 rfl rfl)
theorem dX0_first_77 : decode cX0_first 77 = .ok (.istore 8, 2) := dk_54 8 (dk_at dksX0_first_3 7 rfl rfl)
theorem dX0_first_79 : decode cX0_first 79 = .ok (.aload_n 0, 1) := dk_42 (dk_at dksX0_first_3 9 rfl rfl)
theorem dX0_first_80 : decode cX0_first 80 = .ok (.getfield 11, 3) := dk_180 0 11 (dk_at dksX0_first_3 10 rfl rfl)
theorem dX0_first_83 : decode cX0_first 83 = .ok (.iload 6, 2) := dk_21 6 (dk_at dksX0_first_3 13 rfl rfl)
theorem dX0_first_85 : decode cX0_first 85 = .ok (.aaload, 1) := dk_50 (dk_at dksX0_first_3 15 rfl rfl)
theorem dX0_first_86 : decode cX0_first 86 = .ok (.iload 7, 2) := dk_21 7 (dk_at dksX0_first_3 16 rfl rfl)
theorem dX0_first_88 : decode cX0_first 88 = .ok (.putfield 106, 3) := dk_181 0 106 (dk_at dksX0_first_3 18 rfl rfl)
theorem dX0_first_91 : decode cX0_first 91 = .ok (.iload 4, 2) := dk_21 4 (dk_at dksX0_first_3 21 rfl rfl)
theorem dX0_first_93 : decode cX0_first 93 = .ok (.ifCond .lt 13, 3) := dk_155 0 13 (dk_at dksX0_first_4 0 rfl rfl)
theorem dX0_first_96 : decode cX0_first 96 = .ok (.iload 8, 2) := dk_21 8 (dk_at dksX0_first_4 3 rfl rfl)
theorem dX0_first_98 : decode cX0_first 98 = .ok (.iload 5, 2) := dk_21 5 (dk_at dksX0_first_4 5 rfl rfl)
theorem dX0_first_100 : decode cX0_first 100 = .ok (.if_icmp .lt 6, 3) := dk_161 0 6 (dk_at dksX0_first_4 7 rfl rfl)
theorem dX0_first_103 : decode cX0_first 103 = .ok (.goto 11, 3) := dk_167 0 11 (dk_at dksX0_first_4 10 rfl rfl)
theorem dX0_first_106 : decode cX0_first 106 = .ok (.iload 6, 2) := dk_21 6 (dk_at dksX0_first_4 13 rfl rfl)
theorem dX0_first_108 : decode cX0_first 108 = .ok (.istore 4, 2) := dk_54 4 (dk_at dksX0_first_4 15 rfl rfl)
theorem dX0_first_110 : decode cX0_first 110 = .ok (.iload 8, 2) := dk_21 8 (dk_at dksX0_first_4 17 rfl rfl)
theorem dX0_first_112 : decode cX0_first 112 = .ok (.istore 5, 2) := dk_54 5 (dk_at dksX0_first_4 19 rfl rfl)
theorem dX0_first_114 : decode cX0_first 114 = .ok (.iinc 6 1, 3) := dk_132 6 1 (dk_at dksX0_first_4 21 rfl rfl)
theorem dX0_first_117 : decode cX0_first 117 = .ok (.goto (-76), 3) := dk_167 255 180 (dk_at dksX0_first_5 0 rfl rfl)
theorem dX0_first_120 : decode cX0_first 120 = .ok (.iload_n 2, 1) := dk_28 (dk_at dksX0_first_5 3 rfl rfl)
theorem dX0_first_121 : decode cX0_first 121 = .ok (.ifCond .ne 8, 3) := dk_154 0 8 (dk_at dksX0_first_5 4 rfl rfl)
theorem dX0_first_124 : decode cX0_first 124 = .ok (.iload 4, 2) := dk_21 4 (dk_at dksX0_first_5 7 rfl rfl)
theorem dX0_first_126 : decode cX0_first 126 = .ok (.goto 5, 3) := dk_167 0 5 (dk_at dksX0_first_5 9 rfl rfl)
theorem dX0_first_129 : decode cX0_first 129 = .ok (.iload 5, 2) := dk_21 5 (dk_at dksX0_first_5 12 rfl rfl)
theorem dX0_first_131 : decode cX0_first 131 = .ok (.ireturn, 1) := dk_172 (dk_at dksX0_first_5 14 rfl rfl)
abbrev cX0_slip : ByteArray := prog_1_method_51_code
def yX0_slip : MethodName := ⟨RX0, "slip", "(III)I"⟩
def dkwX0_slip_4 : List UInt8 := [21, 5, 172]
abbrev dktX0_slip_4 : List UInt8 := dkwX0_slip_4 ++ []
def dkwX0_slip_3 : List UInt8 := [16, 100, 112, 181, 0, 49, 42, 29, 181, 1, 0, 42, 182, 1, 22, 54, 5, 42, 16, 254, 181, 0, 49]
abbrev dktX0_slip_3 : List UInt8 := dkwX0_slip_3 ++ dktX0_slip_4
def dkwX0_slip_2 : List UInt8 := [182, 1, 25, 54, 4, 21, 4, 156, 0, 6, 21, 4, 172, 42, 28, 16, 100, 108, 181, 0, 253, 42, 28]
abbrev dktX0_slip_2 : List UInt8 := dkwX0_slip_2 ++ dktX0_slip_3
def dkwX0_slip_1 : List UInt8 := [16, 100, 112, 16, 60, 162, 0, 14, 29, 16, 157, 16, 99, 184, 0, 82, 154, 0, 5, 2, 172, 42, 27]
abbrev dktX0_slip_1 : List UInt8 := dkwX0_slip_1 ++ dktX0_slip_2
def dkwX0_slip_0 : List UInt8 := [27, 184, 0, 97, 153, 0, 38, 28, 155, 0, 34, 42, 28, 16, 100, 108, 182, 0, 156, 153, 0, 23, 28]
abbrev dktX0_slip_0 : List UInt8 := dkwX0_slip_0 ++ dktX0_slip_1
theorem dksX0_slip_0 : cX0_slip.data.toList.drop 0 = dktX0_slip_0 := by decide +kernel
theorem dksX0_slip_1 : cX0_slip.data.toList.drop 23 = dktX0_slip_1 := dk_seg dksX0_slip_0 23 rfl rfl
theorem dksX0_slip_2 : cX0_slip.data.toList.drop 46 = dktX0_slip_2 := dk_seg dksX0_slip_1 23 rfl rfl
theorem dksX0_slip_3 : cX0_slip.data.toList.drop 69 = dktX0_slip_3 := dk_seg dksX0_slip_2 23 rfl rfl
theorem dksX0_slip_4 : cX0_slip.data.toList.drop 92 = dktX0_slip_4 := dk_seg dksX0_slip_3 23 rfl rfl
theorem dX0_slip_0 : decode cX0_slip 0 = .ok (.iload_n 1, 1) := dk_27 (dk_at dksX0_slip_0 0 rfl rfl)
theorem dX0_slip_1 : decode cX0_slip 1 = .ok (.invokestatic 97, 3) := dk_184 0 97 (dk_at dksX0_slip_0 1 rfl rfl)
theorem dX0_slip_4 : decode cX0_slip 4 = .ok (.ifCond .eq 38, 3) := dk_153 0 38 (dk_at dksX0_slip_0 4 rfl rfl)
theorem dX0_slip_7 : decode cX0_slip 7 = .ok (.iload_n 2, 1) := dk_28 (dk_at dksX0_slip_0 7 rfl rfl)
theorem dX0_slip_8 : decode cX0_slip 8 = .ok (.ifCond .lt 34, 3) := dk_155 0 34 (dk_at dksX0_slip_0 8 rfl rfl)
theorem dX0_slip_11 : decode cX0_slip 11 = .ok (.aload_n 0, 1) := dk_42 (dk_at dksX0_slip_0 11 rfl rfl)
theorem dX0_slip_12 : decode cX0_slip 12 = .ok (.iload_n 2, 1) := dk_28 (dk_at dksX0_slip_0 12 rfl rfl)
theorem dX0_slip_13 : decode cX0_slip 13 = .ok (.bipush 100, 2) := dk_16 100 (dk_at dksX0_slip_0 13 rfl rfl)
theorem dX0_slip_15 : decode cX0_slip 15 = .ok (.idiv, 1) := dk_108 (dk_at dksX0_slip_0 15 rfl rfl)
theorem dX0_slip_16 : decode cX0_slip 16 = .ok (.invokevirtual 156, 3) := dk_182 0 156 (dk_at dksX0_slip_0 16 rfl rfl)
theorem dX0_slip_19 : decode cX0_slip 19 = .ok (.ifCond .eq 23, 3) := dk_153 0 23 (dk_at dksX0_slip_0 19 rfl rfl)
theorem dX0_slip_22 : decode cX0_slip 22 = .ok (.iload_n 2, 1) := dk_28 (dk_at dksX0_slip_0 22 rfl rfl)
theorem dX0_slip_23 : decode cX0_slip 23 = .ok (.bipush 100, 2) := dk_16 100 (dk_at dksX0_slip_1 0 rfl rfl)
theorem dX0_slip_25 : decode cX0_slip 25 = .ok (.irem, 1) := dk_112 (dk_at dksX0_slip_1 2 rfl rfl)
theorem dX0_slip_26 : decode cX0_slip 26 = .ok (.bipush 60, 2) := dk_16 60 (dk_at dksX0_slip_1 3 rfl rfl)
theorem dX0_slip_28 : decode cX0_slip 28 = .ok (.if_icmp .ge 14, 3) := dk_162 0 14 (dk_at dksX0_slip_1 5 rfl rfl)
theorem dX0_slip_31 : decode cX0_slip 31 = .ok (.iload_n 3, 1) := dk_29 (dk_at dksX0_slip_1 8 rfl rfl)
theorem dX0_slip_32 : decode cX0_slip 32 = .ok (.bipush (-99), 2) := dk_16 157 (dk_at dksX0_slip_1 9 rfl rfl)
theorem dX0_slip_34 : decode cX0_slip 34 = .ok (.bipush 99, 2) := dk_16 99 (dk_at dksX0_slip_1 11 rfl rfl)
theorem dX0_slip_36 : decode cX0_slip 36 = .ok (.invokestatic 82, 3) := dk_184 0 82 (dk_at dksX0_slip_1 13 rfl rfl)
theorem dX0_slip_39 : decode cX0_slip 39 = .ok (.ifCond .ne 5, 3) := dk_154 0 5 (dk_at dksX0_slip_1 16 rfl rfl)
theorem dX0_slip_42 : decode cX0_slip 42 = .ok (.iconst (-1), 1) := dk_2 (dk_at dksX0_slip_1 19 rfl rfl)
theorem dX0_slip_43 : decode cX0_slip 43 = .ok (.ireturn, 1) := dk_172 (dk_at dksX0_slip_1 20 rfl rfl)
theorem dX0_slip_44 : decode cX0_slip 44 = .ok (.aload_n 0, 1) := dk_42 (dk_at dksX0_slip_1 21 rfl rfl)
theorem dX0_slip_45 : decode cX0_slip 45 = .ok (.iload_n 1, 1) := dk_27 (dk_at dksX0_slip_1 22 rfl rfl)
theorem dX0_slip_46 : decode cX0_slip 46 = .ok (.invokevirtual 281, 3) := dk_182 1 25 (dk_at dksX0_slip_2 0 rfl rfl)
theorem dX0_slip_49 : decode cX0_slip 49 = .ok (.istore 4, 2) := dk_54 4 (dk_at dksX0_slip_2 3 rfl rfl)
theorem dX0_slip_51 : decode cX0_slip 51 = .ok (.iload 4, 2) := dk_21 4 (dk_at dksX0_slip_2 5 rfl rfl)
theorem dX0_slip_53 : decode cX0_slip 53 = .ok (.ifCond .ge 6, 3) := dk_156 0 6 (dk_at dksX0_slip_2 7 rfl rfl)
theorem dX0_slip_56 : decode cX0_slip 56 = .ok (.iload 4, 2) := dk_21 4 (dk_at dksX0_slip_2 10 rfl rfl)
theorem dX0_slip_58 : decode cX0_slip 58 = .ok (.ireturn, 1) := dk_172 (dk_at dksX0_slip_2 12 rfl rfl)
theorem dX0_slip_59 : decode cX0_slip 59 = .ok (.aload_n 0, 1) := dk_42 (dk_at dksX0_slip_2 13 rfl rfl)
theorem dX0_slip_60 : decode cX0_slip 60 = .ok (.iload_n 2, 1) := dk_28 (dk_at dksX0_slip_2 14 rfl rfl)
theorem dX0_slip_61 : decode cX0_slip 61 = .ok (.bipush 100, 2) := dk_16 100 (dk_at dksX0_slip_2 15 rfl rfl)
theorem dX0_slip_63 : decode cX0_slip 63 = .ok (.idiv, 1) := dk_108 (dk_at dksX0_slip_2 17 rfl rfl)
theorem dX0_slip_64 : decode cX0_slip 64 = .ok (.putfield 253, 3) := dk_181 0 253 (dk_at dksX0_slip_2 18 rfl rfl)
theorem dX0_slip_67 : decode cX0_slip 67 = .ok (.aload_n 0, 1) := dk_42 (dk_at dksX0_slip_2 21 rfl rfl)
theorem dX0_slip_68 : decode cX0_slip 68 = .ok (.iload_n 2, 1) := dk_28 (dk_at dksX0_slip_2 22 rfl rfl)
theorem dX0_slip_69 : decode cX0_slip 69 = .ok (.bipush 100, 2) := dk_16 100 (dk_at dksX0_slip_3 0 rfl rfl)
theorem dX0_slip_71 : decode cX0_slip 71 = .ok (.irem, 1) := dk_112 (dk_at dksX0_slip_3 2 rfl rfl)
theorem dX0_slip_72 : decode cX0_slip 72 = .ok (.putfield 49, 3) := dk_181 0 49 (dk_at dksX0_slip_3 3 rfl rfl)
theorem dX0_slip_75 : decode cX0_slip 75 = .ok (.aload_n 0, 1) := dk_42 (dk_at dksX0_slip_3 6 rfl rfl)
theorem dX0_slip_76 : decode cX0_slip 76 = .ok (.iload_n 3, 1) := dk_29 (dk_at dksX0_slip_3 7 rfl rfl)
theorem dX0_slip_77 : decode cX0_slip 77 = .ok (.putfield 256, 3) := dk_181 1 0 (dk_at dksX0_slip_3 8 rfl rfl)
theorem dX0_slip_80 : decode cX0_slip 80 = .ok (.aload_n 0, 1) := dk_42 (dk_at dksX0_slip_3 11 rfl rfl)
theorem dX0_slip_81 : decode cX0_slip 81 = .ok (.invokevirtual 278, 3) := dk_182 1 22 (dk_at dksX0_slip_3 12 rfl rfl)
theorem dX0_slip_84 : decode cX0_slip 84 = .ok (.istore 5, 2) := dk_54 5 (dk_at dksX0_slip_3 15 rfl rfl)
theorem dX0_slip_86 : decode cX0_slip 86 = .ok (.aload_n 0, 1) := dk_42 (dk_at dksX0_slip_3 17 rfl rfl)
theorem dX0_slip_87 : decode cX0_slip 87 = .ok (.bipush (-2), 2) := dk_16 254 (dk_at dksX0_slip_3 18 rfl rfl)
theorem dX0_slip_89 : decode cX0_slip 89 = .ok (.putfield 49, 3) := dk_181 0 49 (dk_at dksX0_slip_3 20 rfl rfl)
theorem dX0_slip_92 : decode cX0_slip 92 = .ok (.iload 5, 2) := dk_21 5 (dk_at dksX0_slip_4 0 rfl rfl)
theorem dX0_slip_94 : decode cX0_slip 94 = .ok (.ireturn, 1) := dk_172 (dk_at dksX0_slip_4 2 rfl rfl)
abbrev cX0_line : ByteArray := prog_1_method_54_code
def yX0_line : MethodName := ⟨RX0, "line", "(II)I"⟩
def dkwX0_line_3 : List UInt8 := [16, 254, 172]
abbrev dktX0_line_3 : List UInt8 := dkwX0_line_3 ++ []
def dkwX0_line_2 : List UInt8 := [180, 1, 78, 167, 0, 22, 28, 42, 180, 0, 79, 162, 0, 12, 42, 180, 0, 55, 28, 46, 167, 0, 5]
abbrev dktX0_line_2 : List UInt8 := dkwX0_line_2 ++ dktX0_line_3
def dkwX0_line_1 : List UInt8 := [164, 0, 6, 16, 251, 172, 42, 2, 181, 1, 78, 42, 27, 3, 3, 182, 1, 84, 28, 156, 0, 10, 42]
abbrev dktX0_line_1 : List UInt8 := dkwX0_line_1 ++ dktX0_line_2
def dkwX0_line_0 : List UInt8 := [27, 3, 16, 9, 184, 0, 82, 153, 0, 8, 28, 2, 162, 0, 5, 2, 172, 42, 180, 0, 79, 16, 6]
abbrev dktX0_line_0 : List UInt8 := dkwX0_line_0 ++ dktX0_line_1
theorem dksX0_line_0 : cX0_line.data.toList.drop 0 = dktX0_line_0 := by decide +kernel
theorem dksX0_line_1 : cX0_line.data.toList.drop 23 = dktX0_line_1 := dk_seg dksX0_line_0 23 rfl rfl
theorem dksX0_line_2 : cX0_line.data.toList.drop 46 = dktX0_line_2 := dk_seg dksX0_line_1 23 rfl rfl
theorem dksX0_line_3 : cX0_line.data.toList.drop 69 = dktX0_line_3 := dk_seg dksX0_line_2 23 rfl rfl
theorem dX0_line_0 : decode cX0_line 0 = .ok (.iload_n 1, 1) := dk_27 (dk_at dksX0_line_0 0 rfl rfl)
theorem dX0_line_1 : decode cX0_line 1 = .ok (.iconst 0, 1) := dk_3 (dk_at dksX0_line_0 1 rfl rfl)
theorem dX0_line_2 : decode cX0_line 2 = .ok (.bipush 9, 2) := dk_16 9 (dk_at dksX0_line_0 2 rfl rfl)
theorem dX0_line_4 : decode cX0_line 4 = .ok (.invokestatic 82, 3) := dk_184 0 82 (dk_at dksX0_line_0 4 rfl rfl)
theorem dX0_line_7 : decode cX0_line 7 = .ok (.ifCond .eq 8, 3) := dk_153 0 8 (dk_at dksX0_line_0 7 rfl rfl)
theorem dX0_line_10 : decode cX0_line 10 = .ok (.iload_n 2, 1) := dk_28 (dk_at dksX0_line_0 10 rfl rfl)
theorem dX0_line_11 : decode cX0_line 11 = .ok (.iconst (-1), 1) := dk_2 (dk_at dksX0_line_0 11 rfl rfl)
theorem dX0_line_12 : decode cX0_line 12 = .ok (.if_icmp .ge 5, 3) := dk_162 0 5 (dk_at dksX0_line_0 12 rfl rfl)
theorem dX0_line_15 : decode cX0_line 15 = .ok (.iconst (-1), 1) := dk_2 (dk_at dksX0_line_0 15 rfl rfl)
theorem dX0_line_16 : decode cX0_line 16 = .ok (.ireturn, 1) := dk_172 (dk_at dksX0_line_0 16 rfl rfl)
theorem dX0_line_17 : decode cX0_line 17 = .ok (.aload_n 0, 1) := dk_42 (dk_at dksX0_line_0 17 rfl rfl)
theorem dX0_line_18 : decode cX0_line 18 = .ok (.getfield 79, 3) := dk_180 0 79 (dk_at dksX0_line_0 18 rfl rfl)
theorem dX0_line_21 : decode cX0_line 21 = .ok (.bipush 6, 2) := dk_16 6 (dk_at dksX0_line_0 21 rfl rfl)
theorem dX0_line_23 : decode cX0_line 23 = .ok (.if_icmp .le 6, 3) := dk_164 0 6 (dk_at dksX0_line_1 0 rfl rfl)
theorem dX0_line_26 : decode cX0_line 26 = .ok (.bipush (-5), 2) := dk_16 251 (dk_at dksX0_line_1 3 rfl rfl)
theorem dX0_line_28 : decode cX0_line 28 = .ok (.ireturn, 1) := dk_172 (dk_at dksX0_line_1 5 rfl rfl)
theorem dX0_line_29 : decode cX0_line 29 = .ok (.aload_n 0, 1) := dk_42 (dk_at dksX0_line_1 6 rfl rfl)
theorem dX0_line_30 : decode cX0_line 30 = .ok (.iconst (-1), 1) := dk_2 (dk_at dksX0_line_1 7 rfl rfl)
theorem dX0_line_31 : decode cX0_line 31 = .ok (.putfield 334, 3) := dk_181 1 78 (dk_at dksX0_line_1 8 rfl rfl)
theorem dX0_line_34 : decode cX0_line 34 = .ok (.aload_n 0, 1) := dk_42 (dk_at dksX0_line_1 11 rfl rfl)
theorem dX0_line_35 : decode cX0_line 35 = .ok (.iload_n 1, 1) := dk_27 (dk_at dksX0_line_1 12 rfl rfl)
theorem dX0_line_36 : decode cX0_line 36 = .ok (.iconst 0, 1) := dk_3 (dk_at dksX0_line_1 13 rfl rfl)
theorem dX0_line_37 : decode cX0_line 37 = .ok (.iconst 0, 1) := dk_3 (dk_at dksX0_line_1 14 rfl rfl)
theorem dX0_line_38 : decode cX0_line 38 = .ok (.invokevirtual 340, 3) := dk_182 1 84 (dk_at dksX0_line_1 15 rfl rfl)
theorem dX0_line_41 : decode cX0_line 41 = .ok (.iload_n 2, 1) := dk_28 (dk_at dksX0_line_1 18 rfl rfl)
theorem dX0_line_42 : decode cX0_line 42 = .ok (.ifCond .ge 10, 3) := dk_156 0 10 (dk_at dksX0_line_1 19 rfl rfl)
theorem dX0_line_45 : decode cX0_line 45 = .ok (.aload_n 0, 1) := dk_42 (dk_at dksX0_line_1 22 rfl rfl)
theorem dX0_line_46 : decode cX0_line 46 = .ok (.getfield 334, 3) := dk_180 1 78 (dk_at dksX0_line_2 0 rfl rfl)
theorem dX0_line_49 : decode cX0_line 49 = .ok (.goto 22, 3) := dk_167 0 22 (dk_at dksX0_line_2 3 rfl rfl)
theorem dX0_line_52 : decode cX0_line 52 = .ok (.iload_n 2, 1) := dk_28 (dk_at dksX0_line_2 6 rfl rfl)
theorem dX0_line_53 : decode cX0_line 53 = .ok (.aload_n 0, 1) := dk_42 (dk_at dksX0_line_2 7 rfl rfl)
theorem dX0_line_54 : decode cX0_line 54 = .ok (.getfield 79, 3) := dk_180 0 79 (dk_at dksX0_line_2 8 rfl rfl)
theorem dX0_line_57 : decode cX0_line 57 = .ok (.if_icmp .ge 12, 3) := dk_162 0 12 (dk_at dksX0_line_2 11 rfl rfl)
theorem dX0_line_60 : decode cX0_line 60 = .ok (.aload_n 0, 1) := dk_42 (dk_at dksX0_line_2 14 rfl rfl)
theorem dX0_line_61 : decode cX0_line 61 = .ok (.getfield 55, 3) := dk_180 0 55 (dk_at dksX0_line_2 15 rfl rfl)
theorem dX0_line_64 : decode cX0_line 64 = .ok (.iload_n 2, 1) := dk_28 (dk_at dksX0_line_2 18 rfl rfl)
theorem dX0_line_65 : decode cX0_line 65 = .ok (.iaload, 1) := dk_46 (dk_at dksX0_line_2 19 rfl rfl)
theorem dX0_line_66 : decode cX0_line 66 = .ok (.goto 5, 3) := dk_167 0 5 (dk_at dksX0_line_2 20 rfl rfl)
theorem dX0_line_69 : decode cX0_line 69 = .ok (.bipush (-2), 2) := dk_16 254 (dk_at dksX0_line_3 0 rfl rfl)
theorem dX0_line_71 : decode cX0_line 71 = .ok (.ireturn, 1) := dk_172 (dk_at dksX0_line_3 2 rfl rfl)
abbrev cX0_goOrders : ByteArray := prog_1_method_53_code
def yX0_goOrders : MethodName := ⟨RX0, "goOrders", "(III)V"⟩
def dkwX0_goOrders_2 : List UInt8 := [27, 28, 4, 96, 29, 4, 21, 4, 120, 128, 182, 1, 84, 132, 4, 1, 167, 255, 210, 177]
abbrev dktX0_goOrders_2 : List UInt8 := dkwX0_goOrders_2 ++ []
def dkwX0_goOrders_1 : List UInt8 := [162, 0, 43, 29, 21, 4, 184, 1, 59, 153, 0, 6, 167, 0, 25, 42, 180, 0, 52, 28, 21, 4, 79, 42]
abbrev dktX0_goOrders_1 : List UInt8 := dkwX0_goOrders_1 ++ dktX0_goOrders_2
def dkwX0_goOrders_0 : List UInt8 := [28, 42, 180, 0, 79, 160, 0, 9, 42, 27, 182, 1, 81, 177, 3, 54, 4, 21, 4, 42, 180, 0, 79]
abbrev dktX0_goOrders_0 : List UInt8 := dkwX0_goOrders_0 ++ dktX0_goOrders_1
theorem dksX0_goOrders_0 : cX0_goOrders.data.toList.drop 0 = dktX0_goOrders_0 := by decide +kernel
theorem dksX0_goOrders_1 : cX0_goOrders.data.toList.drop 23 = dktX0_goOrders_1 := dk_seg dksX0_goOrders_0 23 rfl rfl
theorem dksX0_goOrders_2 : cX0_goOrders.data.toList.drop 47 = dktX0_goOrders_2 := dk_seg dksX0_goOrders_1 24 rfl rfl
theorem dX0_goOrders_0 : decode cX0_goOrders 0 = .ok (.iload_n 2, 1) := dk_28 (dk_at dksX0_goOrders_0 0 rfl rfl)
theorem dX0_goOrders_1 : decode cX0_goOrders 1 = .ok (.aload_n 0, 1) := dk_42 (dk_at dksX0_goOrders_0 1 rfl rfl)
theorem dX0_goOrders_2 : decode cX0_goOrders 2 = .ok (.getfield 79, 3) := dk_180 0 79 (dk_at dksX0_goOrders_0 2 rfl rfl)
theorem dX0_goOrders_5 : decode cX0_goOrders 5 = .ok (.if_icmp .ne 9, 3) := dk_160 0 9 (dk_at dksX0_goOrders_0 5 rfl rfl)
theorem dX0_goOrders_8 : decode cX0_goOrders 8 = .ok (.aload_n 0, 1) := dk_42 (dk_at dksX0_goOrders_0 8 rfl rfl)
theorem dX0_goOrders_9 : decode cX0_goOrders 9 = .ok (.iload_n 1, 1) := dk_27 (dk_at dksX0_goOrders_0 9 rfl rfl)
theorem dX0_goOrders_10 : decode cX0_goOrders 10 = .ok (.invokevirtual 337, 3) := dk_182 1 81 (dk_at dksX0_goOrders_0 10 rfl rfl)
theorem dX0_goOrders_13 : decode cX0_goOrders 13 = .ok (.return_, 1) := dk_177 (dk_at dksX0_goOrders_0 13 rfl rfl)
theorem dX0_goOrders_14 : decode cX0_goOrders 14 = .ok (.iconst 0, 1) := dk_3 (dk_at dksX0_goOrders_0 14 rfl rfl)
theorem dX0_goOrders_15 : decode cX0_goOrders 15 = .ok (.istore 4, 2) := dk_54 4 (dk_at dksX0_goOrders_0 15 rfl rfl)
theorem dX0_goOrders_17 : decode cX0_goOrders 17 = .ok (.iload 4, 2) := dk_21 4 (dk_at dksX0_goOrders_0 17 rfl rfl)
theorem dX0_goOrders_19 : decode cX0_goOrders 19 = .ok (.aload_n 0, 1) := dk_42 (dk_at dksX0_goOrders_0 19 rfl rfl)
theorem dX0_goOrders_20 : decode cX0_goOrders 20 = .ok (.getfield 79, 3) := dk_180 0 79 (dk_at dksX0_goOrders_0 20 rfl rfl)
theorem dX0_goOrders_23 : decode cX0_goOrders 23 = .ok (.if_icmp .ge 43, 3) := dk_162 0 43 (dk_at dksX0_goOrders_1 0 rfl rfl)
theorem dX0_goOrders_26 : decode cX0_goOrders 26 = .ok (.iload_n 3, 1) := dk_29 (dk_at dksX0_goOrders_1 3 rfl rfl)
theorem dX0_goOrders_27 : decode cX0_goOrders 27 = .ok (.iload 4, 2) := dk_21 4 (dk_at dksX0_goOrders_1 4 rfl rfl)
theorem dX0_goOrders_29 : decode cX0_goOrders 29 = .ok (.invokestatic 315, 3) := dk_184 1 59 (dk_at dksX0_goOrders_1 6 rfl rfl)
theorem dX0_goOrders_32 : decode cX0_goOrders 32 = .ok (.ifCond .eq 6, 3) := dk_153 0 6 (dk_at dksX0_goOrders_1 9 rfl rfl)
theorem dX0_goOrders_35 : decode cX0_goOrders 35 = .ok (.goto 25, 3) := dk_167 0 25 (dk_at dksX0_goOrders_1 12 rfl rfl)
theorem dX0_goOrders_38 : decode cX0_goOrders 38 = .ok (.aload_n 0, 1) := dk_42 (dk_at dksX0_goOrders_1 15 rfl rfl)
theorem dX0_goOrders_39 : decode cX0_goOrders 39 = .ok (.getfield 52, 3) := dk_180 0 52 (dk_at dksX0_goOrders_1 16 rfl rfl)
theorem dX0_goOrders_42 : decode cX0_goOrders 42 = .ok (.iload_n 2, 1) := dk_28 (dk_at dksX0_goOrders_1 19 rfl rfl)
theorem dX0_goOrders_43 : decode cX0_goOrders 43 = .ok (.iload 4, 2) := dk_21 4 (dk_at dksX0_goOrders_1 20 rfl rfl)
theorem dX0_goOrders_45 : decode cX0_goOrders 45 = .ok (.iastore, 1) := dk_79 (dk_at dksX0_goOrders_1 22 rfl rfl)
theorem dX0_goOrders_46 : decode cX0_goOrders 46 = .ok (.aload_n 0, 1) := dk_42 (dk_at dksX0_goOrders_1 23 rfl rfl)
theorem dX0_goOrders_47 : decode cX0_goOrders 47 = .ok (.iload_n 1, 1) := dk_27 (dk_at dksX0_goOrders_2 0 rfl rfl)
theorem dX0_goOrders_48 : decode cX0_goOrders 48 = .ok (.iload_n 2, 1) := dk_28 (dk_at dksX0_goOrders_2 1 rfl rfl)
theorem dX0_goOrders_49 : decode cX0_goOrders 49 = .ok (.iconst 1, 1) := dk_4 (dk_at dksX0_goOrders_2 2 rfl rfl)
theorem dX0_goOrders_50 : decode cX0_goOrders 50 = .ok (.iadd, 1) := dk_96 (dk_at dksX0_goOrders_2 3 rfl rfl)
theorem dX0_goOrders_51 : decode cX0_goOrders 51 = .ok (.iload_n 3, 1) := dk_29 (dk_at dksX0_goOrders_2 4 rfl rfl)
theorem dX0_goOrders_52 : decode cX0_goOrders 52 = .ok (.iconst 1, 1) := dk_4 (dk_at dksX0_goOrders_2 5 rfl rfl)
theorem dX0_goOrders_53 : decode cX0_goOrders 53 = .ok (.iload 4, 2) := dk_21 4 (dk_at dksX0_goOrders_2 6 rfl rfl)
theorem dX0_goOrders_55 : decode cX0_goOrders 55 = .ok (.ishl, 1) := dk_120 (dk_at dksX0_goOrders_2 8 rfl rfl)
theorem dX0_goOrders_56 : decode cX0_goOrders 56 = .ok (.ior, 1) := dk_128 (dk_at dksX0_goOrders_2 9 rfl rfl)
theorem dX0_goOrders_57 : decode cX0_goOrders 57 = .ok (.invokevirtual 340, 3) := dk_182 1 84 (dk_at dksX0_goOrders_2 10 rfl rfl)
theorem dX0_goOrders_60 : decode cX0_goOrders 60 = .ok (.iinc 4 1, 3) := dk_132 4 1 (dk_at dksX0_goOrders_2 13 rfl rfl)
theorem dX0_goOrders_63 : decode cX0_goOrders 63 = .ok (.goto (-46), 3) := dk_167 255 210 (dk_at dksX0_goOrders_2 16 rfl rfl)
theorem dX0_goOrders_66 : decode cX0_goOrders 66 = .ok (.return_, 1) := dk_177 (dk_at dksX0_goOrders_2 19 rfl rfl)
abbrev cX0_meetsOrder : ByteArray := prog_1_method_52_code
def yX0_meetsOrder : MethodName := ⟨RX0, "meetsOrder", "(I)V"⟩
def dkwX0_meetsOrder_5 : List UInt8 := [21, 4, 42, 180, 0, 52, 21, 4, 46, 79, 132, 4, 1, 167, 255, 230, 177]
abbrev dktX0_meetsOrder_5 : List UInt8 := dkwX0_meetsOrder_5 ++ []
def dkwX0_meetsOrder_4 : List UInt8 := [42, 29, 28, 100, 181, 1, 78, 3, 54, 4, 21, 4, 42, 180, 0, 79, 162, 0, 23, 42, 180, 0, 55]
abbrev dktX0_meetsOrder_4 : List UInt8 := dkwX0_meetsOrder_4 ++ dktX0_meetsOrder_5
def dkwX0_meetsOrder_3 : List UInt8 := [132, 4, 1, 167, 255, 188, 42, 180, 1, 78, 155, 0, 14, 29, 28, 100, 42, 180, 1, 78, 161, 0, 4, 177]
abbrev dktX0_meetsOrder_3 : List UInt8 := dkwX0_meetsOrder_3 ++ dktX0_meetsOrder_4
def dkwX0_meetsOrder_2 : List UInt8 := [28, 21, 5, 184, 0, 237, 61, 21, 4, 154, 0, 8, 21, 5, 167, 0, 9, 29, 21, 5, 184, 0, 240, 62]
abbrev dktX0_meetsOrder_2 : List UInt8 := dkwX0_meetsOrder_2 ++ dktX0_meetsOrder_3
def dkwX0_meetsOrder_1 : List UInt8 := [21, 4, 46, 50, 180, 0, 121, 27, 21, 4, 104, 100, 54, 5, 21, 4, 154, 0, 8, 21, 5, 167, 0, 9]
abbrev dktX0_meetsOrder_1 : List UInt8 := dkwX0_meetsOrder_1 ++ dktX0_meetsOrder_2
def dkwX0_meetsOrder_0 : List UInt8 := [3, 61, 3, 62, 3, 54, 4, 21, 4, 42, 180, 0, 79, 162, 0, 65, 42, 180, 0, 11, 42, 180, 0, 52]
abbrev dktX0_meetsOrder_0 : List UInt8 := dkwX0_meetsOrder_0 ++ dktX0_meetsOrder_1
theorem dksX0_meetsOrder_0 : cX0_meetsOrder.data.toList.drop 0 = dktX0_meetsOrder_0 := by decide +kernel
theorem dksX0_meetsOrder_1 : cX0_meetsOrder.data.toList.drop 24 = dktX0_meetsOrder_1 := dk_seg dksX0_meetsOrder_0 24 rfl rfl
theorem dksX0_meetsOrder_2 : cX0_meetsOrder.data.toList.drop 48 = dktX0_meetsOrder_2 := dk_seg dksX0_meetsOrder_1 24 rfl rfl
theorem dksX0_meetsOrder_3 : cX0_meetsOrder.data.toList.drop 72 = dktX0_meetsOrder_3 := dk_seg dksX0_meetsOrder_2 24 rfl rfl
theorem dksX0_meetsOrder_4 : cX0_meetsOrder.data.toList.drop 96 = dktX0_meetsOrder_4 := dk_seg dksX0_meetsOrder_3 24 rfl rfl
theorem dksX0_meetsOrder_5 : cX0_meetsOrder.data.toList.drop 119 = dktX0_meetsOrder_5 := dk_seg dksX0_meetsOrder_4 23 rfl rfl
theorem dX0_meetsOrder_0 : decode cX0_meetsOrder 0 = .ok (.iconst 0, 1) := dk_3 (dk_at dksX0_meetsOrder_0 0 rfl rfl)
theorem dX0_meetsOrder_1 : decode cX0_meetsOrder 1 = .ok (.istore_n 2, 1) := dk_61 (dk_at dksX0_meetsOrder_0 1 rfl rfl)
theorem dX0_meetsOrder_2 : decode cX0_meetsOrder 2 = .ok (.iconst 0, 1) := dk_3 (dk_at dksX0_meetsOrder_0 2 rfl rfl)
theorem dX0_meetsOrder_3 : decode cX0_meetsOrder 3 = .ok (.istore_n 3, 1) := dk_62 (dk_at dksX0_meetsOrder_0 3 rfl rfl)
theorem dX0_meetsOrder_4 : decode cX0_meetsOrder 4 = .ok (.iconst 0, 1) := dk_3 (dk_at dksX0_meetsOrder_0 4 rfl rfl)
theorem dX0_meetsOrder_5 : decode cX0_meetsOrder 5 = .ok (.istore 4, 2) := dk_54 4 (dk_at dksX0_meetsOrder_0 5 rfl rfl)
theorem dX0_meetsOrder_7 : decode cX0_meetsOrder 7 = .ok (.iload 4, 2) := dk_21 4 (dk_at dksX0_meetsOrder_0 7 rfl rfl)
theorem dX0_meetsOrder_9 : decode cX0_meetsOrder 9 = .ok (.aload_n 0, 1) := dk_42 (dk_at dksX0_meetsOrder_0 9 rfl rfl)
theorem dX0_meetsOrder_10 : decode cX0_meetsOrder 10 = .ok (.getfield 79, 3) := dk_180 0 79 (dk_at dksX0_meetsOrder_0 10 rfl rfl)
theorem dX0_meetsOrder_13 : decode cX0_meetsOrder 13 = .ok (.if_icmp .ge 65, 3) := dk_162 0 65 (dk_at dksX0_meetsOrder_0 13 rfl rfl)
theorem dX0_meetsOrder_16 : decode cX0_meetsOrder 16 = .ok (.aload_n 0, 1) := dk_42 (dk_at dksX0_meetsOrder_0 16 rfl rfl)
theorem dX0_meetsOrder_17 : decode cX0_meetsOrder 17 = .ok (.getfield 11, 3) := dk_180 0 11 (dk_at dksX0_meetsOrder_0 17 rfl rfl)
theorem dX0_meetsOrder_20 : decode cX0_meetsOrder 20 = .ok (.aload_n 0, 1) := dk_42 (dk_at dksX0_meetsOrder_0 20 rfl rfl)
theorem dX0_meetsOrder_21 : decode cX0_meetsOrder 21 = .ok (.getfield 52, 3) := dk_180 0 52 (dk_at dksX0_meetsOrder_0 21 rfl rfl)
theorem dX0_meetsOrder_24 : decode cX0_meetsOrder 24 = .ok (.iload 4, 2) := dk_21 4 (dk_at dksX0_meetsOrder_1 0 rfl rfl)
theorem dX0_meetsOrder_26 : decode cX0_meetsOrder 26 = .ok (.iaload, 1) := dk_46 (dk_at dksX0_meetsOrder_1 2 rfl rfl)
theorem dX0_meetsOrder_27 : decode cX0_meetsOrder 27 = .ok (.aaload, 1) := dk_50 (dk_at dksX0_meetsOrder_1 3 rfl rfl)
theorem dX0_meetsOrder_28 : decode cX0_meetsOrder 28 = .ok (.getfield 121, 3) := dk_180 0 121 (dk_at dksX0_meetsOrder_1 4 rfl rfl)
theorem dX0_meetsOrder_31 : decode cX0_meetsOrder 31 = .ok (.iload_n 1, 1) := dk_27 (dk_at dksX0_meetsOrder_1 7 rfl rfl)
theorem dX0_meetsOrder_32 : decode cX0_meetsOrder 32 = .ok (.iload 4, 2) := dk_21 4 (dk_at dksX0_meetsOrder_1 8 rfl rfl)
theorem dX0_meetsOrder_34 : decode cX0_meetsOrder 34 = .ok (.imul, 1) := dk_104 (dk_at dksX0_meetsOrder_1 10 rfl rfl)
theorem dX0_meetsOrder_35 : decode cX0_meetsOrder 35 = .ok (.isub, 1) := dk_100 (dk_at dksX0_meetsOrder_1 11 rfl rfl)
theorem dX0_meetsOrder_36 : decode cX0_meetsOrder 36 = .ok (.istore 5, 2) := dk_54 5 (dk_at dksX0_meetsOrder_1 12 rfl rfl)
theorem dX0_meetsOrder_38 : decode cX0_meetsOrder 38 = .ok (.iload 4, 2) := dk_21 4 (dk_at dksX0_meetsOrder_1 14 rfl rfl)
theorem dX0_meetsOrder_40 : decode cX0_meetsOrder 40 = .ok (.ifCond .ne 8, 3) := dk_154 0 8 (dk_at dksX0_meetsOrder_1 16 rfl rfl)
theorem dX0_meetsOrder_43 : decode cX0_meetsOrder 43 = .ok (.iload 5, 2) := dk_21 5 (dk_at dksX0_meetsOrder_1 19 rfl rfl)
theorem dX0_meetsOrder_45 : decode cX0_meetsOrder 45 = .ok (.goto 9, 3) := dk_167 0 9 (dk_at dksX0_meetsOrder_1 21 rfl rfl)
theorem dX0_meetsOrder_48 : decode cX0_meetsOrder 48 = .ok (.iload_n 2, 1) := dk_28 (dk_at dksX0_meetsOrder_2 0 rfl rfl)
theorem dX0_meetsOrder_49 : decode cX0_meetsOrder 49 = .ok (.iload 5, 2) := dk_21 5 (dk_at dksX0_meetsOrder_2 1 rfl rfl)
theorem dX0_meetsOrder_51 : decode cX0_meetsOrder 51 = .ok (.invokestatic 237, 3) := dk_184 0 237 (dk_at dksX0_meetsOrder_2 3 rfl rfl)
theorem dX0_meetsOrder_54 : decode cX0_meetsOrder 54 = .ok (.istore_n 2, 1) := dk_61 (dk_at dksX0_meetsOrder_2 6 rfl rfl)
theorem dX0_meetsOrder_55 : decode cX0_meetsOrder 55 = .ok (.iload 4, 2) := dk_21 4 (dk_at dksX0_meetsOrder_2 7 rfl rfl)
theorem dX0_meetsOrder_57 : decode cX0_meetsOrder 57 = .ok (.ifCond .ne 8, 3) := dk_154 0 8 (dk_at dksX0_meetsOrder_2 9 rfl rfl)
theorem dX0_meetsOrder_60 : decode cX0_meetsOrder 60 = .ok (.iload 5, 2) := dk_21 5 (dk_at dksX0_meetsOrder_2 12 rfl rfl)
theorem dX0_meetsOrder_62 : decode cX0_meetsOrder 62 = .ok (.goto 9, 3) := dk_167 0 9 (dk_at dksX0_meetsOrder_2 14 rfl rfl)
theorem dX0_meetsOrder_65 : decode cX0_meetsOrder 65 = .ok (.iload_n 3, 1) := dk_29 (dk_at dksX0_meetsOrder_2 17 rfl rfl)
theorem dX0_meetsOrder_66 : decode cX0_meetsOrder 66 = .ok (.iload 5, 2) := dk_21 5 (dk_at dksX0_meetsOrder_2 18 rfl rfl)
theorem dX0_meetsOrder_68 : decode cX0_meetsOrder 68 = .ok (.invokestatic 240, 3) := dk_184 0 240 (dk_at dksX0_meetsOrder_2 20 rfl rfl)
theorem dX0_meetsOrder_71 : decode cX0_meetsOrder 71 = .ok (.istore_n 3, 1) := dk_62 (dk_at dksX0_meetsOrder_2 23 rfl rfl)
theorem dX0_meetsOrder_72 : decode cX0_meetsOrder 72 = .ok (.iinc 4 1, 3) := dk_132 4 1 (dk_at dksX0_meetsOrder_3 0 rfl rfl)
theorem dX0_meetsOrder_75 : decode cX0_meetsOrder 75 = .ok (.goto (-68), 3) := dk_167 255 188 (dk_at dksX0_meetsOrder_3 3 rfl rfl)
theorem dX0_meetsOrder_78 : decode cX0_meetsOrder 78 = .ok (.aload_n 0, 1) := dk_42 (dk_at dksX0_meetsOrder_3 6 rfl rfl)
theorem dX0_meetsOrder_79 : decode cX0_meetsOrder 79 = .ok (.getfield 334, 3) := dk_180 1 78 (dk_at dksX0_meetsOrder_3 7 rfl rfl)
theorem dX0_meetsOrder_82 : decode cX0_meetsOrder 82 = .ok (.ifCond .lt 14, 3) := dk_155 0 14 (dk_at dksX0_meetsOrder_3 10 rfl rfl)
theorem dX0_meetsOrder_85 : decode cX0_meetsOrder 85 = .ok (.iload_n 3, 1) := dk_29 (dk_at dksX0_meetsOrder_3 13 rfl rfl)
theorem dX0_meetsOrder_86 : decode cX0_meetsOrder 86 = .ok (.iload_n 2, 1) := dk_28 (dk_at dksX0_meetsOrder_3 14 rfl rfl)
theorem dX0_meetsOrder_87 : decode cX0_meetsOrder 87 = .ok (.isub, 1) := dk_100 (dk_at dksX0_meetsOrder_3 15 rfl rfl)
theorem dX0_meetsOrder_88 : decode cX0_meetsOrder 88 = .ok (.aload_n 0, 1) := dk_42 (dk_at dksX0_meetsOrder_3 16 rfl rfl)
theorem dX0_meetsOrder_89 : decode cX0_meetsOrder 89 = .ok (.getfield 334, 3) := dk_180 1 78 (dk_at dksX0_meetsOrder_3 17 rfl rfl)
theorem dX0_meetsOrder_92 : decode cX0_meetsOrder 92 = .ok (.if_icmp .lt 4, 3) := dk_161 0 4 (dk_at dksX0_meetsOrder_3 20 rfl rfl)
theorem dX0_meetsOrder_95 : decode cX0_meetsOrder 95 = .ok (.return_, 1) := dk_177 (dk_at dksX0_meetsOrder_3 23 rfl rfl)
theorem dX0_meetsOrder_96 : decode cX0_meetsOrder 96 = .ok (.aload_n 0, 1) := dk_42 (dk_at dksX0_meetsOrder_4 0 rfl rfl)
theorem dX0_meetsOrder_97 : decode cX0_meetsOrder 97 = .ok (.iload_n 3, 1) := dk_29 (dk_at dksX0_meetsOrder_4 1 rfl rfl)
theorem dX0_meetsOrder_98 : decode cX0_meetsOrder 98 = .ok (.iload_n 2, 1) := dk_28 (dk_at dksX0_meetsOrder_4 2 rfl rfl)
theorem dX0_meetsOrder_99 : decode cX0_meetsOrder 99 = .ok (.isub, 1) := dk_100 (dk_at dksX0_meetsOrder_4 3 rfl rfl)
theorem dX0_meetsOrder_100 : decode cX0_meetsOrder 100 = .ok (.putfield 334, 3) := dk_181 1 78 (dk_at dksX0_meetsOrder_4 4 rfl rfl)
theorem dX0_meetsOrder_103 : decode cX0_meetsOrder 103 = .ok (.iconst 0, 1) := dk_3 (dk_at dksX0_meetsOrder_4 7 rfl rfl)
theorem dX0_meetsOrder_104 : decode cX0_meetsOrder 104 = .ok (.istore 4, 2) := dk_54 4 (dk_at dksX0_meetsOrder_4 8 rfl rfl)
theorem dX0_meetsOrder_106 : decode cX0_meetsOrder 106 = .ok (.iload 4, 2) := dk_21 4 (dk_at dksX0_meetsOrder_4 10 rfl rfl)
theorem dX0_meetsOrder_108 : decode cX0_meetsOrder 108 = .ok (.aload_n 0, 1) := dk_42 (dk_at dksX0_meetsOrder_4 12 rfl rfl)
theorem dX0_meetsOrder_109 : decode cX0_meetsOrder 109 = .ok (.getfield 79, 3) := dk_180 0 79 (dk_at dksX0_meetsOrder_4 13 rfl rfl)
theorem dX0_meetsOrder_112 : decode cX0_meetsOrder 112 = .ok (.if_icmp .ge 23, 3) := dk_162 0 23 (dk_at dksX0_meetsOrder_4 16 rfl rfl)
theorem dX0_meetsOrder_115 : decode cX0_meetsOrder 115 = .ok (.aload_n 0, 1) := dk_42 (dk_at dksX0_meetsOrder_4 19 rfl rfl)
theorem dX0_meetsOrder_116 : decode cX0_meetsOrder 116 = .ok (.getfield 55, 3) := dk_180 0 55 (dk_at dksX0_meetsOrder_4 20 rfl rfl)
theorem dX0_meetsOrder_119 : decode cX0_meetsOrder 119 = .ok (.iload 4, 2) := dk_21 4 (dk_at dksX0_meetsOrder_5 0 rfl rfl)
theorem dX0_meetsOrder_121 : decode cX0_meetsOrder 121 = .ok (.aload_n 0, 1) := dk_42 (dk_at dksX0_meetsOrder_5 2 rfl rfl)
theorem dX0_meetsOrder_122 : decode cX0_meetsOrder 122 = .ok (.getfield 52, 3) := dk_180 0 52 (dk_at dksX0_meetsOrder_5 3 rfl rfl)
theorem dX0_meetsOrder_125 : decode cX0_meetsOrder 125 = .ok (.iload 4, 2) := dk_21 4 (dk_at dksX0_meetsOrder_5 6 rfl rfl)
theorem dX0_meetsOrder_127 : decode cX0_meetsOrder 127 = .ok (.iaload, 1) := dk_46 (dk_at dksX0_meetsOrder_5 8 rfl rfl)
theorem dX0_meetsOrder_128 : decode cX0_meetsOrder 128 = .ok (.iastore, 1) := dk_79 (dk_at dksX0_meetsOrder_5 9 rfl rfl)
theorem dX0_meetsOrder_129 : decode cX0_meetsOrder 129 = .ok (.iinc 4 1, 3) := dk_132 4 1 (dk_at dksX0_meetsOrder_5 10 rfl rfl)
theorem dX0_meetsOrder_132 : decode cX0_meetsOrder 132 = .ok (.goto (-26), 3) := dk_167 255 230 (dk_at dksX0_meetsOrder_5 13 rfl rfl)
theorem dX0_meetsOrder_135 : decode cX0_meetsOrder 135 = .ok (.return_, 1) := dk_177 (dk_at dksX0_meetsOrder_5 16 rfl rfl)
abbrev cX0_lift : ByteArray := prog_1_method_56_code
def yX0_lift : MethodName := ⟨RX0, "lift", "(I)I"⟩
def dkwX0_lift_6 : List UInt8 := [29, 172]
abbrev dktX0_lift_6 : List UInt8 := dkwX0_lift_6 ++ []
def dkwX0_lift_5 : List UInt8 := [21, 7, 54, 4, 132, 6, 1, 167, 255, 170, 132, 5, 1, 167, 255, 152, 27, 154, 0, 7, 28, 167, 0, 4]
abbrev dktX0_lift_5 : List UInt8 := dkwX0_lift_5 ++ dktX0_lift_6
def dkwX0_lift_4 : List UInt8 := [155, 0, 27, 28, 155, 0, 13, 21, 7, 21, 4, 161, 0, 6, 167, 0, 13, 21, 5, 61, 21, 6, 62]
abbrev dktX0_lift_4 : List UInt8 := dkwX0_lift_4 ++ dktX0_lift_5
def dkwX0_lift_3 : List UInt8 := [21, 6, 182, 1, 90, 6, 42, 180, 0, 11, 21, 5, 50, 180, 0, 121, 104, 100, 54, 7, 21, 7]
abbrev dktX0_lift_3 : List UInt8 := dkwX0_lift_3 ++ dktX0_lift_4
def dkwX0_lift_2 : List UInt8 := [21, 6, 184, 1, 87, 6, 160, 0, 66, 21, 6, 21, 5, 184, 1, 59, 153, 0, 6, 167, 0, 53, 42]
abbrev dktX0_lift_2 : List UInt8 := dkwX0_lift_2 ++ dktX0_lift_3
def dkwX0_lift_1 : List UInt8 := [21, 5, 42, 180, 0, 79, 162, 0, 101, 3, 54, 6, 21, 6, 4, 42, 180, 0, 79, 120, 162, 0, 81]
abbrev dktX0_lift_1 : List UInt8 := dkwX0_lift_1 ++ dktX0_lift_2
def dkwX0_lift_0 : List UInt8 := [27, 3, 4, 184, 0, 82, 154, 0, 5, 2, 172, 16, 254, 61, 16, 254, 62, 3, 54, 4, 3, 54, 5]
abbrev dktX0_lift_0 : List UInt8 := dkwX0_lift_0 ++ dktX0_lift_1
theorem dksX0_lift_0 : cX0_lift.data.toList.drop 0 = dktX0_lift_0 := by decide +kernel
theorem dksX0_lift_1 : cX0_lift.data.toList.drop 23 = dktX0_lift_1 := dk_seg dksX0_lift_0 23 rfl rfl
theorem dksX0_lift_2 : cX0_lift.data.toList.drop 46 = dktX0_lift_2 := dk_seg dksX0_lift_1 23 rfl rfl
theorem dksX0_lift_3 : cX0_lift.data.toList.drop 69 = dktX0_lift_3 := dk_seg dksX0_lift_2 23 rfl rfl
theorem dksX0_lift_4 : cX0_lift.data.toList.drop 91 = dktX0_lift_4 := dk_seg dksX0_lift_3 22 rfl rfl
theorem dksX0_lift_5 : cX0_lift.data.toList.drop 114 = dktX0_lift_5 := dk_seg dksX0_lift_4 23 rfl rfl
theorem dksX0_lift_6 : cX0_lift.data.toList.drop 138 = dktX0_lift_6 := dk_seg dksX0_lift_5 24 rfl rfl
theorem dX0_lift_0 : decode cX0_lift 0 = .ok (.iload_n 1, 1) := dk_27 (dk_at dksX0_lift_0 0 rfl rfl)
theorem dX0_lift_1 : decode cX0_lift 1 = .ok (.iconst 0, 1) := dk_3 (dk_at dksX0_lift_0 1 rfl rfl)
theorem dX0_lift_2 : decode cX0_lift 2 = .ok (.iconst 1, 1) := dk_4 (dk_at dksX0_lift_0 2 rfl rfl)
theorem dX0_lift_3 : decode cX0_lift 3 = .ok (.invokestatic 82, 3) := dk_184 0 82 (dk_at dksX0_lift_0 3 rfl rfl)
theorem dX0_lift_6 : decode cX0_lift 6 = .ok (.ifCond .ne 5, 3) := dk_154 0 5 (dk_at dksX0_lift_0 6 rfl rfl)
theorem dX0_lift_9 : decode cX0_lift 9 = .ok (.iconst (-1), 1) := dk_2 (dk_at dksX0_lift_0 9 rfl rfl)
theorem dX0_lift_10 : decode cX0_lift 10 = .ok (.ireturn, 1) := dk_172 (dk_at dksX0_lift_0 10 rfl rfl)
theorem dX0_lift_11 : decode cX0_lift 11 = .ok (.bipush (-2), 2) := dk_16 254 (dk_at dksX0_lift_0 11 rfl rfl)
theorem dX0_lift_13 : decode cX0_lift 13 = .ok (.istore_n 2, 1) := dk_61 (dk_at dksX0_lift_0 13 rfl rfl)
theorem dX0_lift_14 : decode cX0_lift 14 = .ok (.bipush (-2), 2) := dk_16 254 (dk_at dksX0_lift_0 14 rfl rfl)
theorem dX0_lift_16 : decode cX0_lift 16 = .ok (.istore_n 3, 1) := dk_62 (dk_at dksX0_lift_0 16 rfl rfl)
theorem dX0_lift_17 : decode cX0_lift 17 = .ok (.iconst 0, 1) := dk_3 (dk_at dksX0_lift_0 17 rfl rfl)
theorem dX0_lift_18 : decode cX0_lift 18 = .ok (.istore 4, 2) := dk_54 4 (dk_at dksX0_lift_0 18 rfl rfl)
theorem dX0_lift_20 : decode cX0_lift 20 = .ok (.iconst 0, 1) := dk_3 (dk_at dksX0_lift_0 20 rfl rfl)
theorem dX0_lift_21 : decode cX0_lift 21 = .ok (.istore 5, 2) := dk_54 5 (dk_at dksX0_lift_0 21 rfl rfl)
theorem dX0_lift_23 : decode cX0_lift 23 = .ok (.iload 5, 2) := dk_21 5 (dk_at dksX0_lift_1 0 rfl rfl)
theorem dX0_lift_25 : decode cX0_lift 25 = .ok (.aload_n 0, 1) := dk_42 (dk_at dksX0_lift_1 2 rfl rfl)
theorem dX0_lift_26 : decode cX0_lift 26 = .ok (.getfield 79, 3) := dk_180 0 79 (dk_at dksX0_lift_1 3 rfl rfl)
theorem dX0_lift_29 : decode cX0_lift 29 = .ok (.if_icmp .ge 101, 3) := dk_162 0 101 (dk_at dksX0_lift_1 6 rfl rfl)
theorem dX0_lift_32 : decode cX0_lift 32 = .ok (.iconst 0, 1) := dk_3 (dk_at dksX0_lift_1 9 rfl rfl)
theorem dX0_lift_33 : decode cX0_lift 33 = .ok (.istore 6, 2) := dk_54 6 (dk_at dksX0_lift_1 10 rfl rfl)
theorem dX0_lift_35 : decode cX0_lift 35 = .ok (.iload 6, 2) := dk_21 6 (dk_at dksX0_lift_1 12 rfl rfl)
theorem dX0_lift_37 : decode cX0_lift 37 = .ok (.iconst 1, 1) := dk_4 (dk_at dksX0_lift_1 14 rfl rfl)
theorem dX0_lift_38 : decode cX0_lift 38 = .ok (.aload_n 0, 1) := dk_42 (dk_at dksX0_lift_1 15 rfl rfl)
theorem dX0_lift_39 : decode cX0_lift 39 = .ok (.getfield 79, 3) := dk_180 0 79 (dk_at dksX0_lift_1 16 rfl rfl)
theorem dX0_lift_42 : decode cX0_lift 42 = .ok (.ishl, 1) := dk_120 (dk_at dksX0_lift_1 19 rfl rfl)
theorem dX0_lift_43 : decode cX0_lift 43 = .ok (.if_icmp .ge 81, 3) := dk_162 0 81 (dk_at dksX0_lift_1 20 rfl rfl)
theorem dX0_lift_46 : decode cX0_lift 46 = .ok (.iload 6, 2) := dk_21 6 (dk_at dksX0_lift_2 0 rfl rfl)
theorem dX0_lift_48 : decode cX0_lift 48 = .ok (.invokestatic 343, 3) := dk_184 1 87 (dk_at dksX0_lift_2 2 rfl rfl)
theorem dX0_lift_51 : decode cX0_lift 51 = .ok (.iconst 3, 1) := dk_6 (dk_at dksX0_lift_2 5 rfl rfl)
theorem dX0_lift_52 : decode cX0_lift 52 = .ok (.if_icmp .ne 66, 3) := dk_160 0 66 (dk_at dksX0_lift_2 6 rfl rfl)
theorem dX0_lift_55 : decode cX0_lift 55 = .ok (.iload 6, 2) := dk_21 6 (dk_at dksX0_lift_2 9 rfl rfl)
theorem dX0_lift_57 : decode cX0_lift 57 = .ok (.iload 5, 2) := dk_21 5 (dk_at dksX0_lift_2 11 rfl rfl)
theorem dX0_lift_59 : decode cX0_lift 59 = .ok (.invokestatic 315, 3) := dk_184 1 59 (dk_at dksX0_lift_2 13 rfl rfl)
theorem dX0_lift_62 : decode cX0_lift 62 = .ok (.ifCond .eq 6, 3) := dk_153 0 6 (dk_at dksX0_lift_2 16 rfl rfl)
theorem dX0_lift_65 : decode cX0_lift 65 = .ok (.goto 53, 3) := dk_167 0 53 (dk_at dksX0_lift_2 19 rfl rfl)
theorem dX0_lift_68 : decode cX0_lift 68 = .ok (.aload_n 0, 1) := dk_42 (dk_at dksX0_lift_2 22 rfl rfl)
theorem dX0_lift_69 : decode cX0_lift 69 = .ok (.iload 6, 2) := dk_21 6 (dk_at dksX0_lift_3 0 rfl rfl)
theorem dX0_lift_71 : decode cX0_lift 71 = .ok (.invokevirtual 346, 3) := dk_182 1 90 (dk_at dksX0_lift_3 2 rfl rfl)
theorem dX0_lift_74 : decode cX0_lift 74 = .ok (.iconst 3, 1) := dk_6 (dk_at dksX0_lift_3 5 rfl rfl)
theorem dX0_lift_75 : decode cX0_lift 75 = .ok (.aload_n 0, 1) := dk_42 (dk_at dksX0_lift_3 6 rfl rfl)
theorem dX0_lift_76 : decode cX0_lift 76 = .ok (.getfield 11, 3) := dk_180 0 11 (dk_at dksX0_lift_3 7 rfl rfl)
theorem dX0_lift_79 : decode cX0_lift 79 = .ok (.iload 5, 2) := dk_21 5 (dk_at dksX0_lift_3 10 rfl rfl)
theorem dX0_lift_81 : decode cX0_lift 81 = .ok (.aaload, 1) := dk_50 (dk_at dksX0_lift_3 12 rfl rfl)
theorem dX0_lift_82 : decode cX0_lift 82 = .ok (.getfield 121, 3) := dk_180 0 121 (dk_at dksX0_lift_3 13 rfl rfl)
theorem dX0_lift_85 : decode cX0_lift 85 = .ok (.imul, 1) := dk_104 (dk_at dksX0_lift_3 16 rfl rfl)
theorem dX0_lift_86 : decode cX0_lift 86 = .ok (.isub, 1) := dk_100 (dk_at dksX0_lift_3 17 rfl rfl)
theorem dX0_lift_87 : decode cX0_lift 87 = .ok (.istore 7, 2) := dk_54 7 (dk_at dksX0_lift_3 18 rfl rfl)
theorem dX0_lift_89 : decode cX0_lift 89 = .ok (.iload 7, 2) := dk_21 7 (dk_at dksX0_lift_3 20 rfl rfl)
theorem dX0_lift_91 : decode cX0_lift 91 = .ok (.ifCond .lt 27, 3) := dk_155 0 27 (dk_at dksX0_lift_4 0 rfl rfl)
theorem dX0_lift_94 : decode cX0_lift 94 = .ok (.iload_n 2, 1) := dk_28 (dk_at dksX0_lift_4 3 rfl rfl)
theorem dX0_lift_95 : decode cX0_lift 95 = .ok (.ifCond .lt 13, 3) := dk_155 0 13 (dk_at dksX0_lift_4 4 rfl rfl)
theorem dX0_lift_98 : decode cX0_lift 98 = .ok (.iload 7, 2) := dk_21 7 (dk_at dksX0_lift_4 7 rfl rfl)
theorem dX0_lift_100 : decode cX0_lift 100 = .ok (.iload 4, 2) := dk_21 4 (dk_at dksX0_lift_4 9 rfl rfl)
theorem dX0_lift_102 : decode cX0_lift 102 = .ok (.if_icmp .lt 6, 3) := dk_161 0 6 (dk_at dksX0_lift_4 11 rfl rfl)
theorem dX0_lift_105 : decode cX0_lift 105 = .ok (.goto 13, 3) := dk_167 0 13 (dk_at dksX0_lift_4 14 rfl rfl)
theorem dX0_lift_108 : decode cX0_lift 108 = .ok (.iload 5, 2) := dk_21 5 (dk_at dksX0_lift_4 17 rfl rfl)
theorem dX0_lift_110 : decode cX0_lift 110 = .ok (.istore_n 2, 1) := dk_61 (dk_at dksX0_lift_4 19 rfl rfl)
theorem dX0_lift_111 : decode cX0_lift 111 = .ok (.iload 6, 2) := dk_21 6 (dk_at dksX0_lift_4 20 rfl rfl)
theorem dX0_lift_113 : decode cX0_lift 113 = .ok (.istore_n 3, 1) := dk_62 (dk_at dksX0_lift_4 22 rfl rfl)
theorem dX0_lift_114 : decode cX0_lift 114 = .ok (.iload 7, 2) := dk_21 7 (dk_at dksX0_lift_5 0 rfl rfl)
theorem dX0_lift_116 : decode cX0_lift 116 = .ok (.istore 4, 2) := dk_54 4 (dk_at dksX0_lift_5 2 rfl rfl)
theorem dX0_lift_118 : decode cX0_lift 118 = .ok (.iinc 6 1, 3) := dk_132 6 1 (dk_at dksX0_lift_5 4 rfl rfl)
theorem dX0_lift_121 : decode cX0_lift 121 = .ok (.goto (-86), 3) := dk_167 255 170 (dk_at dksX0_lift_5 7 rfl rfl)
theorem dX0_lift_124 : decode cX0_lift 124 = .ok (.iinc 5 1, 3) := dk_132 5 1 (dk_at dksX0_lift_5 10 rfl rfl)
theorem dX0_lift_127 : decode cX0_lift 127 = .ok (.goto (-104), 3) := dk_167 255 152 (dk_at dksX0_lift_5 13 rfl rfl)
theorem dX0_lift_130 : decode cX0_lift 130 = .ok (.iload_n 1, 1) := dk_27 (dk_at dksX0_lift_5 16 rfl rfl)
theorem dX0_lift_131 : decode cX0_lift 131 = .ok (.ifCond .ne 7, 3) := dk_154 0 7 (dk_at dksX0_lift_5 17 rfl rfl)
theorem dX0_lift_134 : decode cX0_lift 134 = .ok (.iload_n 2, 1) := dk_28 (dk_at dksX0_lift_5 20 rfl rfl)
theorem dX0_lift_135 : decode cX0_lift 135 = .ok (.goto 4, 3) := dk_167 0 4 (dk_at dksX0_lift_5 21 rfl rfl)
theorem dX0_lift_138 : decode cX0_lift 138 = .ok (.iload_n 3, 1) := dk_29 (dk_at dksX0_lift_6 0 rfl rfl)
theorem dX0_lift_139 : decode cX0_lift 139 = .ok (.ireturn, 1) := dk_172 (dk_at dksX0_lift_6 1 rfl rfl)
abbrev cX0_tallOf : ByteArray := prog_1_method_55_code
def yX0_tallOf : MethodName := ⟨RX0, "tallOf", "(I)I"⟩
def dkwX0_tallOf_1 : List UInt8 := [180, 0, 11, 29, 50, 180, 0, 121, 167, 0, 4, 3, 96, 61, 132, 3, 1, 167, 255, 221, 28, 172]
abbrev dktX0_tallOf_1 : List UInt8 := dkwX0_tallOf_1 ++ []
def dkwX0_tallOf_0 : List UInt8 := [3, 61, 3, 62, 29, 42, 180, 0, 79, 162, 0, 33, 28, 27, 29, 184, 1, 59, 153, 0, 15, 42]
abbrev dktX0_tallOf_0 : List UInt8 := dkwX0_tallOf_0 ++ dktX0_tallOf_1
theorem dksX0_tallOf_0 : cX0_tallOf.data.toList.drop 0 = dktX0_tallOf_0 := by decide +kernel
theorem dksX0_tallOf_1 : cX0_tallOf.data.toList.drop 22 = dktX0_tallOf_1 := dk_seg dksX0_tallOf_0 22 rfl rfl
theorem dX0_tallOf_0 : decode cX0_tallOf 0 = .ok (.iconst 0, 1) := dk_3 (dk_at dksX0_tallOf_0 0 rfl rfl)
theorem dX0_tallOf_1 : decode cX0_tallOf 1 = .ok (.istore_n 2, 1) := dk_61 (dk_at dksX0_tallOf_0 1 rfl rfl)
theorem dX0_tallOf_2 : decode cX0_tallOf 2 = .ok (.iconst 0, 1) := dk_3 (dk_at dksX0_tallOf_0 2 rfl rfl)
theorem dX0_tallOf_3 : decode cX0_tallOf 3 = .ok (.istore_n 3, 1) := dk_62 (dk_at dksX0_tallOf_0 3 rfl rfl)
theorem dX0_tallOf_4 : decode cX0_tallOf 4 = .ok (.iload_n 3, 1) := dk_29 (dk_at dksX0_tallOf_0 4 rfl rfl)
theorem dX0_tallOf_5 : decode cX0_tallOf 5 = .ok (.aload_n 0, 1) := dk_42 (dk_at dksX0_tallOf_0 5 rfl rfl)
theorem dX0_tallOf_6 : decode cX0_tallOf 6 = .ok (.getfield 79, 3) := dk_180 0 79 (dk_at dksX0_tallOf_0 6 rfl rfl)
theorem dX0_tallOf_9 : decode cX0_tallOf 9 = .ok (.if_icmp .ge 33, 3) := dk_162 0 33 (dk_at dksX0_tallOf_0 9 rfl rfl)
theorem dX0_tallOf_12 : decode cX0_tallOf 12 = .ok (.iload_n 2, 1) := dk_28 (dk_at dksX0_tallOf_0 12 rfl rfl)
theorem dX0_tallOf_13 : decode cX0_tallOf 13 = .ok (.iload_n 1, 1) := dk_27 (dk_at dksX0_tallOf_0 13 rfl rfl)
theorem dX0_tallOf_14 : decode cX0_tallOf 14 = .ok (.iload_n 3, 1) := dk_29 (dk_at dksX0_tallOf_0 14 rfl rfl)
theorem dX0_tallOf_15 : decode cX0_tallOf 15 = .ok (.invokestatic 315, 3) := dk_184 1 59 (dk_at dksX0_tallOf_0 15 rfl rfl)
theorem dX0_tallOf_18 : decode cX0_tallOf 18 = .ok (.ifCond .eq 15, 3) := dk_153 0 15 (dk_at dksX0_tallOf_0 18 rfl rfl)
theorem dX0_tallOf_21 : decode cX0_tallOf 21 = .ok (.aload_n 0, 1) := dk_42 (dk_at dksX0_tallOf_0 21 rfl rfl)
theorem dX0_tallOf_22 : decode cX0_tallOf 22 = .ok (.getfield 11, 3) := dk_180 0 11 (dk_at dksX0_tallOf_1 0 rfl rfl)
theorem dX0_tallOf_25 : decode cX0_tallOf 25 = .ok (.iload_n 3, 1) := dk_29 (dk_at dksX0_tallOf_1 3 rfl rfl)
theorem dX0_tallOf_26 : decode cX0_tallOf 26 = .ok (.aaload, 1) := dk_50 (dk_at dksX0_tallOf_1 4 rfl rfl)
theorem dX0_tallOf_27 : decode cX0_tallOf 27 = .ok (.getfield 121, 3) := dk_180 0 121 (dk_at dksX0_tallOf_1 5 rfl rfl)
theorem dX0_tallOf_30 : decode cX0_tallOf 30 = .ok (.goto 4, 3) := dk_167 0 4 (dk_at dksX0_tallOf_1 8 rfl rfl)
theorem dX0_tallOf_33 : decode cX0_tallOf 33 = .ok (.iconst 0, 1) := dk_3 (dk_at dksX0_tallOf_1 11 rfl rfl)
theorem dX0_tallOf_34 : decode cX0_tallOf 34 = .ok (.iadd, 1) := dk_96 (dk_at dksX0_tallOf_1 12 rfl rfl)
theorem dX0_tallOf_35 : decode cX0_tallOf 35 = .ok (.istore_n 2, 1) := dk_61 (dk_at dksX0_tallOf_1 13 rfl rfl)
theorem dX0_tallOf_36 : decode cX0_tallOf 36 = .ok (.iinc 3 1, 3) := dk_132 3 1 (dk_at dksX0_tallOf_1 14 rfl rfl)
theorem dX0_tallOf_39 : decode cX0_tallOf 39 = .ok (.goto (-35), 3) := dk_167 255 221 (dk_at dksX0_tallOf_1 17 rfl rfl)
theorem dX0_tallOf_42 : decode cX0_tallOf 42 = .ok (.iload_n 2, 1) := dk_28 (dk_at dksX0_tallOf_1 20 rfl rfl)
theorem dX0_tallOf_43 : decode cX0_tallOf 43 = .ok (.ireturn, 1) := dk_172 (dk_at dksX0_tallOf_1 21 rfl rfl)
abbrev cX0_star : ByteArray := prog_1_method_60_code
def yX0_star : MethodName := ⟨RX0, "star", "(I)I"⟩
def dkwX0_star_3 : List UInt8 := [153, 0, 7, 4, 167, 0, 4, 3, 172, 2, 172]
abbrev dktX0_star_3 : List UInt8 := dkwX0_star_3 ++ []
def dkwX0_star_2 : List UInt8 := [42, 4, 182, 1, 96, 42, 3, 182, 1, 96, 184, 0, 240, 172, 42, 182, 1, 100, 172, 42, 182, 1, 103]
abbrev dktX0_star_2 : List UInt8 := dkwX0_star_2 ++ dktX0_star_3
def dkwX0_star_1 : List UInt8 := [170, 0, 0, 0, 0, 0, 59, 0, 0, 0, 0, 0, 0, 0, 2, 0, 0, 0, 27, 0, 0, 0, 41, 0, 0, 0, 46]
abbrev dktX0_star_1 : List UInt8 := dkwX0_star_1 ++ dktX0_star_2
def dkwX0_star_0 : List UInt8 := [27]
abbrev dktX0_star_0 : List UInt8 := dkwX0_star_0 ++ dktX0_star_1
theorem dksX0_star_0 : cX0_star.data.toList.drop 0 = dktX0_star_0 := by decide +kernel
theorem dksX0_star_1 : cX0_star.data.toList.drop 1 = dktX0_star_1 := dk_seg dksX0_star_0 1 rfl rfl
theorem dksX0_star_2 : cX0_star.data.toList.drop 28 = dktX0_star_2 := dk_seg dksX0_star_1 27 rfl rfl
theorem dksX0_star_3 : cX0_star.data.toList.drop 51 = dktX0_star_3 := dk_seg dksX0_star_2 23 rfl rfl
theorem dX0_star_0 : decode cX0_star 0 = .ok (.iload_n 1, 1) := dk_27 (dk_at dksX0_star_0 0 rfl rfl)
theorem dX0_star_1 : decode cX0_star 1 = .ok (.tableswitch 59 0 2 #[27, 41, 46], 27) := by decide +kernel
theorem dX0_star_28 : decode cX0_star 28 = .ok (.aload_n 0, 1) := dk_42 (dk_at dksX0_star_2 0 rfl rfl)
theorem dX0_star_29 : decode cX0_star 29 = .ok (.iconst 1, 1) := dk_4 (dk_at dksX0_star_2 1 rfl rfl)
theorem dX0_star_30 : decode cX0_star 30 = .ok (.invokevirtual 352, 3) := dk_182 1 96 (dk_at dksX0_star_2 2 rfl rfl)
theorem dX0_star_33 : decode cX0_star 33 = .ok (.aload_n 0, 1) := dk_42 (dk_at dksX0_star_2 5 rfl rfl)
theorem dX0_star_34 : decode cX0_star 34 = .ok (.iconst 0, 1) := dk_3 (dk_at dksX0_star_2 6 rfl rfl)
theorem dX0_star_35 : decode cX0_star 35 = .ok (.invokevirtual 352, 3) := dk_182 1 96 (dk_at dksX0_star_2 7 rfl rfl)
theorem dX0_star_38 : decode cX0_star 38 = .ok (.invokestatic 240, 3) := dk_184 0 240 (dk_at dksX0_star_2 10 rfl rfl)
theorem dX0_star_41 : decode cX0_star 41 = .ok (.ireturn, 1) := dk_172 (dk_at dksX0_star_2 13 rfl rfl)
theorem dX0_star_42 : decode cX0_star 42 = .ok (.aload_n 0, 1) := dk_42 (dk_at dksX0_star_2 14 rfl rfl)
theorem dX0_star_43 : decode cX0_star 43 = .ok (.invokevirtual 356, 3) := dk_182 1 100 (dk_at dksX0_star_2 15 rfl rfl)
theorem dX0_star_46 : decode cX0_star 46 = .ok (.ireturn, 1) := dk_172 (dk_at dksX0_star_2 18 rfl rfl)
theorem dX0_star_47 : decode cX0_star 47 = .ok (.aload_n 0, 1) := dk_42 (dk_at dksX0_star_2 19 rfl rfl)
theorem dX0_star_48 : decode cX0_star 48 = .ok (.invokevirtual 359, 3) := dk_182 1 103 (dk_at dksX0_star_2 20 rfl rfl)
theorem dX0_star_51 : decode cX0_star 51 = .ok (.ifCond .eq 7, 3) := dk_153 0 7 (dk_at dksX0_star_3 0 rfl rfl)
theorem dX0_star_54 : decode cX0_star 54 = .ok (.iconst 1, 1) := dk_4 (dk_at dksX0_star_3 3 rfl rfl)
theorem dX0_star_55 : decode cX0_star 55 = .ok (.goto 4, 3) := dk_167 0 4 (dk_at dksX0_star_3 4 rfl rfl)
theorem dX0_star_58 : decode cX0_star 58 = .ok (.iconst 0, 1) := dk_3 (dk_at dksX0_star_3 7 rfl rfl)
theorem dX0_star_59 : decode cX0_star 59 = .ok (.ireturn, 1) := dk_172 (dk_at dksX0_star_3 8 rfl rfl)
theorem dX0_star_60 : decode cX0_star 60 = .ok (.iconst (-1), 1) := dk_2 (dk_at dksX0_star_3 9 rfl rfl)
theorem dX0_star_61 : decode cX0_star 61 = .ok (.ireturn, 1) := dk_172 (dk_at dksX0_star_3 10 rfl rfl)
abbrev cX0_sideOf : ByteArray := prog_1_method_57_code
def yX0_sideOf : MethodName := ⟨RX0, "sideOf", "(Z)I"⟩
def dkwX0_sideOf_4 : List UInt8 := [167, 0, 8, 29, 28, 100, 4, 96, 172]
abbrev dktX0_sideOf_4 : List UInt8 := dkwX0_sideOf_4 ++ []
def dkwX0_sideOf_3 : List UInt8 := [167, 0, 9, 29, 21, 5, 184, 0, 240, 62, 132, 4, 1, 167, 255, 181, 42, 180, 0, 79, 154, 0, 7, 3]
abbrev dktX0_sideOf_3 : List UInt8 := dkwX0_sideOf_3 ++ dktX0_sideOf_4
def dkwX0_sideOf_2 : List UInt8 := [154, 0, 8, 21, 5, 167, 0, 9, 28, 21, 5, 184, 0, 237, 61, 21, 4, 154, 0, 8, 21, 5]
abbrev dktX0_sideOf_2 : List UInt8 := dkwX0_sideOf_2 ++ dktX0_sideOf_3
def dkwX0_sideOf_1 : List UInt8 := [21, 4, 50, 180, 0, 115, 167, 0, 13, 42, 180, 0, 11, 21, 4, 50, 180, 0, 118, 54, 5, 21, 4]
abbrev dktX0_sideOf_1 : List UInt8 := dkwX0_sideOf_1 ++ dktX0_sideOf_2
def dkwX0_sideOf_0 : List UInt8 := [3, 61, 3, 62, 3, 54, 4, 21, 4, 42, 180, 0, 79, 162, 0, 72, 27, 153, 0, 16, 42, 180, 0, 11]
abbrev dktX0_sideOf_0 : List UInt8 := dkwX0_sideOf_0 ++ dktX0_sideOf_1
theorem dksX0_sideOf_0 : cX0_sideOf.data.toList.drop 0 = dktX0_sideOf_0 := by decide +kernel
theorem dksX0_sideOf_1 : cX0_sideOf.data.toList.drop 24 = dktX0_sideOf_1 := dk_seg dksX0_sideOf_0 24 rfl rfl
theorem dksX0_sideOf_2 : cX0_sideOf.data.toList.drop 47 = dktX0_sideOf_2 := dk_seg dksX0_sideOf_1 23 rfl rfl
theorem dksX0_sideOf_3 : cX0_sideOf.data.toList.drop 69 = dktX0_sideOf_3 := dk_seg dksX0_sideOf_2 22 rfl rfl
theorem dksX0_sideOf_4 : cX0_sideOf.data.toList.drop 93 = dktX0_sideOf_4 := dk_seg dksX0_sideOf_3 24 rfl rfl
theorem dX0_sideOf_0 : decode cX0_sideOf 0 = .ok (.iconst 0, 1) := dk_3 (dk_at dksX0_sideOf_0 0 rfl rfl)
theorem dX0_sideOf_1 : decode cX0_sideOf 1 = .ok (.istore_n 2, 1) := dk_61 (dk_at dksX0_sideOf_0 1 rfl rfl)
theorem dX0_sideOf_2 : decode cX0_sideOf 2 = .ok (.iconst 0, 1) := dk_3 (dk_at dksX0_sideOf_0 2 rfl rfl)
theorem dX0_sideOf_3 : decode cX0_sideOf 3 = .ok (.istore_n 3, 1) := dk_62 (dk_at dksX0_sideOf_0 3 rfl rfl)
theorem dX0_sideOf_4 : decode cX0_sideOf 4 = .ok (.iconst 0, 1) := dk_3 (dk_at dksX0_sideOf_0 4 rfl rfl)
theorem dX0_sideOf_5 : decode cX0_sideOf 5 = .ok (.istore 4, 2) := dk_54 4 (dk_at dksX0_sideOf_0 5 rfl rfl)
theorem dX0_sideOf_7 : decode cX0_sideOf 7 = .ok (.iload 4, 2) := dk_21 4 (dk_at dksX0_sideOf_0 7 rfl rfl)
theorem dX0_sideOf_9 : decode cX0_sideOf 9 = .ok (.aload_n 0, 1) := dk_42 (dk_at dksX0_sideOf_0 9 rfl rfl)
theorem dX0_sideOf_10 : decode cX0_sideOf 10 = .ok (.getfield 79, 3) := dk_180 0 79 (dk_at dksX0_sideOf_0 10 rfl rfl)
theorem dX0_sideOf_13 : decode cX0_sideOf 13 = .ok (.if_icmp .ge 72, 3) := dk_162 0 72 (dk_at dksX0_sideOf_0 13 rfl rfl)
theorem dX0_sideOf_16 : decode cX0_sideOf 16 = .ok (.iload_n 1, 1) := dk_27 (dk_at dksX0_sideOf_0 16 rfl rfl)
theorem dX0_sideOf_17 : decode cX0_sideOf 17 = .ok (.ifCond .eq 16, 3) := dk_153 0 16 (dk_at dksX0_sideOf_0 17 rfl rfl)
theorem dX0_sideOf_20 : decode cX0_sideOf 20 = .ok (.aload_n 0, 1) := dk_42 (dk_at dksX0_sideOf_0 20 rfl rfl)
theorem dX0_sideOf_21 : decode cX0_sideOf 21 = .ok (.getfield 11, 3) := dk_180 0 11 (dk_at dksX0_sideOf_0 21 rfl rfl)
theorem dX0_sideOf_24 : decode cX0_sideOf 24 = .ok (.iload 4, 2) := dk_21 4 (dk_at dksX0_sideOf_1 0 rfl rfl)
theorem dX0_sideOf_26 : decode cX0_sideOf 26 = .ok (.aaload, 1) := dk_50 (dk_at dksX0_sideOf_1 2 rfl rfl)
theorem dX0_sideOf_27 : decode cX0_sideOf 27 = .ok (.getfield 115, 3) := dk_180 0 115 (dk_at dksX0_sideOf_1 3 rfl rfl)
theorem dX0_sideOf_30 : decode cX0_sideOf 30 = .ok (.goto 13, 3) := dk_167 0 13 (dk_at dksX0_sideOf_1 6 rfl rfl)
theorem dX0_sideOf_33 : decode cX0_sideOf 33 = .ok (.aload_n 0, 1) := dk_42 (dk_at dksX0_sideOf_1 9 rfl rfl)
theorem dX0_sideOf_34 : decode cX0_sideOf 34 = .ok (.getfield 11, 3) := dk_180 0 11 (dk_at dksX0_sideOf_1 10 rfl rfl)
theorem dX0_sideOf_37 : decode cX0_sideOf 37 = .ok (.iload 4, 2) := dk_21 4 (dk_at dksX0_sideOf_1 13 rfl rfl)
theorem dX0_sideOf_39 : decode cX0_sideOf 39 = .ok (.aaload, 1) := dk_50 (dk_at dksX0_sideOf_1 15 rfl rfl)
theorem dX0_sideOf_40 : decode cX0_sideOf 40 = .ok (.getfield 118, 3) := dk_180 0 118 (dk_at dksX0_sideOf_1 16 rfl rfl)
theorem dX0_sideOf_43 : decode cX0_sideOf 43 = .ok (.istore 5, 2) := dk_54 5 (dk_at dksX0_sideOf_1 19 rfl rfl)
theorem dX0_sideOf_45 : decode cX0_sideOf 45 = .ok (.iload 4, 2) := dk_21 4 (dk_at dksX0_sideOf_1 21 rfl rfl)
theorem dX0_sideOf_47 : decode cX0_sideOf 47 = .ok (.ifCond .ne 8, 3) := dk_154 0 8 (dk_at dksX0_sideOf_2 0 rfl rfl)
theorem dX0_sideOf_50 : decode cX0_sideOf 50 = .ok (.iload 5, 2) := dk_21 5 (dk_at dksX0_sideOf_2 3 rfl rfl)
theorem dX0_sideOf_52 : decode cX0_sideOf 52 = .ok (.goto 9, 3) := dk_167 0 9 (dk_at dksX0_sideOf_2 5 rfl rfl)
theorem dX0_sideOf_55 : decode cX0_sideOf 55 = .ok (.iload_n 2, 1) := dk_28 (dk_at dksX0_sideOf_2 8 rfl rfl)
theorem dX0_sideOf_56 : decode cX0_sideOf 56 = .ok (.iload 5, 2) := dk_21 5 (dk_at dksX0_sideOf_2 9 rfl rfl)
theorem dX0_sideOf_58 : decode cX0_sideOf 58 = .ok (.invokestatic 237, 3) := dk_184 0 237 (dk_at dksX0_sideOf_2 11 rfl rfl)
theorem dX0_sideOf_61 : decode cX0_sideOf 61 = .ok (.istore_n 2, 1) := dk_61 (dk_at dksX0_sideOf_2 14 rfl rfl)
theorem dX0_sideOf_62 : decode cX0_sideOf 62 = .ok (.iload 4, 2) := dk_21 4 (dk_at dksX0_sideOf_2 15 rfl rfl)
theorem dX0_sideOf_64 : decode cX0_sideOf 64 = .ok (.ifCond .ne 8, 3) := dk_154 0 8 (dk_at dksX0_sideOf_2 17 rfl rfl)
theorem dX0_sideOf_67 : decode cX0_sideOf 67 = .ok (.iload 5, 2) := dk_21 5 (dk_at dksX0_sideOf_2 20 rfl rfl)
theorem dX0_sideOf_69 : decode cX0_sideOf 69 = .ok (.goto 9, 3) := dk_167 0 9 (dk_at dksX0_sideOf_3 0 rfl rfl)
theorem dX0_sideOf_72 : decode cX0_sideOf 72 = .ok (.iload_n 3, 1) := dk_29 (dk_at dksX0_sideOf_3 3 rfl rfl)
theorem dX0_sideOf_73 : decode cX0_sideOf 73 = .ok (.iload 5, 2) := dk_21 5 (dk_at dksX0_sideOf_3 4 rfl rfl)
theorem dX0_sideOf_75 : decode cX0_sideOf 75 = .ok (.invokestatic 240, 3) := dk_184 0 240 (dk_at dksX0_sideOf_3 6 rfl rfl)
theorem dX0_sideOf_78 : decode cX0_sideOf 78 = .ok (.istore_n 3, 1) := dk_62 (dk_at dksX0_sideOf_3 9 rfl rfl)
theorem dX0_sideOf_79 : decode cX0_sideOf 79 = .ok (.iinc 4 1, 3) := dk_132 4 1 (dk_at dksX0_sideOf_3 10 rfl rfl)
theorem dX0_sideOf_82 : decode cX0_sideOf 82 = .ok (.goto (-75), 3) := dk_167 255 181 (dk_at dksX0_sideOf_3 13 rfl rfl)
theorem dX0_sideOf_85 : decode cX0_sideOf 85 = .ok (.aload_n 0, 1) := dk_42 (dk_at dksX0_sideOf_3 16 rfl rfl)
theorem dX0_sideOf_86 : decode cX0_sideOf 86 = .ok (.getfield 79, 3) := dk_180 0 79 (dk_at dksX0_sideOf_3 17 rfl rfl)
theorem dX0_sideOf_89 : decode cX0_sideOf 89 = .ok (.ifCond .ne 7, 3) := dk_154 0 7 (dk_at dksX0_sideOf_3 20 rfl rfl)
theorem dX0_sideOf_92 : decode cX0_sideOf 92 = .ok (.iconst 0, 1) := dk_3 (dk_at dksX0_sideOf_3 23 rfl rfl)
theorem dX0_sideOf_93 : decode cX0_sideOf 93 = .ok (.goto 8, 3) := dk_167 0 8 (dk_at dksX0_sideOf_4 0 rfl rfl)
theorem dX0_sideOf_96 : decode cX0_sideOf 96 = .ok (.iload_n 3, 1) := dk_29 (dk_at dksX0_sideOf_4 3 rfl rfl)
theorem dX0_sideOf_97 : decode cX0_sideOf 97 = .ok (.iload_n 2, 1) := dk_28 (dk_at dksX0_sideOf_4 4 rfl rfl)
theorem dX0_sideOf_98 : decode cX0_sideOf 98 = .ok (.isub, 1) := dk_100 (dk_at dksX0_sideOf_4 5 rfl rfl)
theorem dX0_sideOf_99 : decode cX0_sideOf 99 = .ok (.iconst 1, 1) := dk_4 (dk_at dksX0_sideOf_4 6 rfl rfl)
theorem dX0_sideOf_100 : decode cX0_sideOf 100 = .ok (.iadd, 1) := dk_96 (dk_at dksX0_sideOf_4 7 rfl rfl)
theorem dX0_sideOf_101 : decode cX0_sideOf 101 = .ok (.ireturn, 1) := dk_172 (dk_at dksX0_sideOf_4 8 rfl rfl)
abbrev cX0_onOne : ByteArray := prog_1_method_58_code
def yX0_onOne : MethodName := ⟨RX0, "onOne", "()I"⟩
def dkwX0_onOne_3 : List UInt8 := [167, 255, 188, 27, 172]
abbrev dktX0_onOne_3 : List UInt8 := dkwX0_onOne_3 ++ []
def dkwX0_onOne_2 : List UInt8 := [180, 0, 118, 182, 1, 93, 153, 0, 9, 27, 4, 28, 120, 128, 60, 132, 3, 1, 167, 255, 204, 132, 2, 1]
abbrev dktX0_onOne_2 : List UInt8 := dkwX0_onOne_2 ++ dktX0_onOne_3
def dkwX0_onOne_1 : List UInt8 := [159, 0, 39, 42, 180, 0, 11, 28, 50, 42, 180, 0, 11, 29, 50, 180, 0, 115, 42, 180, 0, 11, 29, 50]
abbrev dktX0_onOne_1 : List UInt8 := dkwX0_onOne_1 ++ dktX0_onOne_2
def dkwX0_onOne_0 : List UInt8 := [3, 60, 3, 61, 28, 42, 180, 0, 79, 162, 0, 66, 3, 62, 29, 42, 180, 0, 79, 162, 0, 50, 28, 29]
abbrev dktX0_onOne_0 : List UInt8 := dkwX0_onOne_0 ++ dktX0_onOne_1
theorem dksX0_onOne_0 : cX0_onOne.data.toList.drop 0 = dktX0_onOne_0 := by decide +kernel
theorem dksX0_onOne_1 : cX0_onOne.data.toList.drop 24 = dktX0_onOne_1 := dk_seg dksX0_onOne_0 24 rfl rfl
theorem dksX0_onOne_2 : cX0_onOne.data.toList.drop 48 = dktX0_onOne_2 := dk_seg dksX0_onOne_1 24 rfl rfl
theorem dksX0_onOne_3 : cX0_onOne.data.toList.drop 72 = dktX0_onOne_3 := dk_seg dksX0_onOne_2 24 rfl rfl
theorem dX0_onOne_0 : decode cX0_onOne 0 = .ok (.iconst 0, 1) := dk_3 (dk_at dksX0_onOne_0 0 rfl rfl)
theorem dX0_onOne_1 : decode cX0_onOne 1 = .ok (.istore_n 1, 1) := dk_60 (dk_at dksX0_onOne_0 1 rfl rfl)
theorem dX0_onOne_2 : decode cX0_onOne 2 = .ok (.iconst 0, 1) := dk_3 (dk_at dksX0_onOne_0 2 rfl rfl)
theorem dX0_onOne_3 : decode cX0_onOne 3 = .ok (.istore_n 2, 1) := dk_61 (dk_at dksX0_onOne_0 3 rfl rfl)
theorem dX0_onOne_4 : decode cX0_onOne 4 = .ok (.iload_n 2, 1) := dk_28 (dk_at dksX0_onOne_0 4 rfl rfl)
theorem dX0_onOne_5 : decode cX0_onOne 5 = .ok (.aload_n 0, 1) := dk_42 (dk_at dksX0_onOne_0 5 rfl rfl)
theorem dX0_onOne_6 : decode cX0_onOne 6 = .ok (.getfield 79, 3) := dk_180 0 79 (dk_at dksX0_onOne_0 6 rfl rfl)
theorem dX0_onOne_9 : decode cX0_onOne 9 = .ok (.if_icmp .ge 66, 3) := dk_162 0 66 (dk_at dksX0_onOne_0 9 rfl rfl)
theorem dX0_onOne_12 : decode cX0_onOne 12 = .ok (.iconst 0, 1) := dk_3 (dk_at dksX0_onOne_0 12 rfl rfl)
theorem dX0_onOne_13 : decode cX0_onOne 13 = .ok (.istore_n 3, 1) := dk_62 (dk_at dksX0_onOne_0 13 rfl rfl)
theorem dX0_onOne_14 : decode cX0_onOne 14 = .ok (.iload_n 3, 1) := dk_29 (dk_at dksX0_onOne_0 14 rfl rfl)
theorem dX0_onOne_15 : decode cX0_onOne 15 = .ok (.aload_n 0, 1) := dk_42 (dk_at dksX0_onOne_0 15 rfl rfl)
theorem dX0_onOne_16 : decode cX0_onOne 16 = .ok (.getfield 79, 3) := dk_180 0 79 (dk_at dksX0_onOne_0 16 rfl rfl)
theorem dX0_onOne_19 : decode cX0_onOne 19 = .ok (.if_icmp .ge 50, 3) := dk_162 0 50 (dk_at dksX0_onOne_0 19 rfl rfl)
theorem dX0_onOne_22 : decode cX0_onOne 22 = .ok (.iload_n 2, 1) := dk_28 (dk_at dksX0_onOne_0 22 rfl rfl)
theorem dX0_onOne_23 : decode cX0_onOne 23 = .ok (.iload_n 3, 1) := dk_29 (dk_at dksX0_onOne_0 23 rfl rfl)
theorem dX0_onOne_24 : decode cX0_onOne 24 = .ok (.if_icmp .eq 39, 3) := dk_159 0 39 (dk_at dksX0_onOne_1 0 rfl rfl)
theorem dX0_onOne_27 : decode cX0_onOne 27 = .ok (.aload_n 0, 1) := dk_42 (dk_at dksX0_onOne_1 3 rfl rfl)
theorem dX0_onOne_28 : decode cX0_onOne 28 = .ok (.getfield 11, 3) := dk_180 0 11 (dk_at dksX0_onOne_1 4 rfl rfl)
theorem dX0_onOne_31 : decode cX0_onOne 31 = .ok (.iload_n 2, 1) := dk_28 (dk_at dksX0_onOne_1 7 rfl rfl)
theorem dX0_onOne_32 : decode cX0_onOne 32 = .ok (.aaload, 1) := dk_50 (dk_at dksX0_onOne_1 8 rfl rfl)
theorem dX0_onOne_33 : decode cX0_onOne 33 = .ok (.aload_n 0, 1) := dk_42 (dk_at dksX0_onOne_1 9 rfl rfl)
theorem dX0_onOne_34 : decode cX0_onOne 34 = .ok (.getfield 11, 3) := dk_180 0 11 (dk_at dksX0_onOne_1 10 rfl rfl)
theorem dX0_onOne_37 : decode cX0_onOne 37 = .ok (.iload_n 3, 1) := dk_29 (dk_at dksX0_onOne_1 13 rfl rfl)
theorem dX0_onOne_38 : decode cX0_onOne 38 = .ok (.aaload, 1) := dk_50 (dk_at dksX0_onOne_1 14 rfl rfl)
theorem dX0_onOne_39 : decode cX0_onOne 39 = .ok (.getfield 115, 3) := dk_180 0 115 (dk_at dksX0_onOne_1 15 rfl rfl)
theorem dX0_onOne_42 : decode cX0_onOne 42 = .ok (.aload_n 0, 1) := dk_42 (dk_at dksX0_onOne_1 18 rfl rfl)
theorem dX0_onOne_43 : decode cX0_onOne 43 = .ok (.getfield 11, 3) := dk_180 0 11 (dk_at dksX0_onOne_1 19 rfl rfl)
theorem dX0_onOne_46 : decode cX0_onOne 46 = .ok (.iload_n 3, 1) := dk_29 (dk_at dksX0_onOne_1 22 rfl rfl)
theorem dX0_onOne_47 : decode cX0_onOne 47 = .ok (.aaload, 1) := dk_50 (dk_at dksX0_onOne_1 23 rfl rfl)
theorem dX0_onOne_48 : decode cX0_onOne 48 = .ok (.getfield 118, 3) := dk_180 0 118 (dk_at dksX0_onOne_2 0 rfl rfl)
theorem dX0_onOne_51 : decode cX0_onOne 51 = .ok (.invokevirtual 349, 3) := dk_182 1 93 (dk_at dksX0_onOne_2 3 rfl rfl)
theorem dX0_onOne_54 : decode cX0_onOne 54 = .ok (.ifCond .eq 9, 3) := dk_153 0 9 (dk_at dksX0_onOne_2 6 rfl rfl)
theorem dX0_onOne_57 : decode cX0_onOne 57 = .ok (.iload_n 1, 1) := dk_27 (dk_at dksX0_onOne_2 9 rfl rfl)
theorem dX0_onOne_58 : decode cX0_onOne 58 = .ok (.iconst 1, 1) := dk_4 (dk_at dksX0_onOne_2 10 rfl rfl)
theorem dX0_onOne_59 : decode cX0_onOne 59 = .ok (.iload_n 2, 1) := dk_28 (dk_at dksX0_onOne_2 11 rfl rfl)
theorem dX0_onOne_60 : decode cX0_onOne 60 = .ok (.ishl, 1) := dk_120 (dk_at dksX0_onOne_2 12 rfl rfl)
theorem dX0_onOne_61 : decode cX0_onOne 61 = .ok (.ior, 1) := dk_128 (dk_at dksX0_onOne_2 13 rfl rfl)
theorem dX0_onOne_62 : decode cX0_onOne 62 = .ok (.istore_n 1, 1) := dk_60 (dk_at dksX0_onOne_2 14 rfl rfl)
theorem dX0_onOne_63 : decode cX0_onOne 63 = .ok (.iinc 3 1, 3) := dk_132 3 1 (dk_at dksX0_onOne_2 15 rfl rfl)
theorem dX0_onOne_66 : decode cX0_onOne 66 = .ok (.goto (-52), 3) := dk_167 255 204 (dk_at dksX0_onOne_2 18 rfl rfl)
theorem dX0_onOne_69 : decode cX0_onOne 69 = .ok (.iinc 2 1, 3) := dk_132 2 1 (dk_at dksX0_onOne_2 21 rfl rfl)
theorem dX0_onOne_72 : decode cX0_onOne 72 = .ok (.goto (-68), 3) := dk_167 255 188 (dk_at dksX0_onOne_3 0 rfl rfl)
theorem dX0_onOne_75 : decode cX0_onOne 75 = .ok (.iload_n 1, 1) := dk_27 (dk_at dksX0_onOne_3 3 rfl rfl)
theorem dX0_onOne_76 : decode cX0_onOne 76 = .ok (.ireturn, 1) := dk_172 (dk_at dksX0_onOne_3 4 rfl rfl)
abbrev cX0_isMirrored : ByteArray := prog_1_method_59_code
def yX0_isMirrored : MethodName := ⟨RX0, "isMirrored", "()Z"⟩
def dkwX0_isMirrored_3 : List UInt8 := [167, 255, 188, 4, 172]
abbrev dktX0_isMirrored_3 : List UInt8 := dkwX0_isMirrored_3 ++ []
def dkwX0_isMirrored_2 : List UInt8 := [180, 0, 118, 182, 1, 93, 128, 61, 132, 3, 1, 167, 255, 212, 28, 154, 0, 5, 3, 172, 132, 1, 1]
abbrev dktX0_isMirrored_2 : List UInt8 := dkwX0_isMirrored_2 ++ dktX0_isMirrored_3
def dkwX0_isMirrored_1 : List UInt8 := [180, 0, 11, 29, 50, 16, 15, 42, 180, 0, 11, 27, 50, 180, 0, 115, 100, 42, 180, 0, 11, 27, 50]
abbrev dktX0_isMirrored_1 : List UInt8 := dkwX0_isMirrored_1 ++ dktX0_isMirrored_2
def dkwX0_isMirrored_0 : List UInt8 := [3, 60, 27, 42, 180, 0, 79, 162, 0, 66, 3, 61, 3, 62, 29, 42, 180, 0, 79, 162, 0, 42, 28, 42]
abbrev dktX0_isMirrored_0 : List UInt8 := dkwX0_isMirrored_0 ++ dktX0_isMirrored_1
theorem dksX0_isMirrored_0 : cX0_isMirrored.data.toList.drop 0 = dktX0_isMirrored_0 := by decide +kernel
theorem dksX0_isMirrored_1 : cX0_isMirrored.data.toList.drop 24 = dktX0_isMirrored_1 := dk_seg dksX0_isMirrored_0 24 rfl rfl
theorem dksX0_isMirrored_2 : cX0_isMirrored.data.toList.drop 47 = dktX0_isMirrored_2 := dk_seg dksX0_isMirrored_1 23 rfl rfl
theorem dksX0_isMirrored_3 : cX0_isMirrored.data.toList.drop 70 = dktX0_isMirrored_3 := dk_seg dksX0_isMirrored_2 23 rfl rfl
theorem dX0_isMirrored_0 : decode cX0_isMirrored 0 = .ok (.iconst 0, 1) := dk_3 (dk_at dksX0_isMirrored_0 0 rfl rfl)
theorem dX0_isMirrored_1 : decode cX0_isMirrored 1 = .ok (.istore_n 1, 1) := dk_60 (dk_at dksX0_isMirrored_0 1 rfl rfl)
theorem dX0_isMirrored_2 : decode cX0_isMirrored 2 = .ok (.iload_n 1, 1) := dk_27 (dk_at dksX0_isMirrored_0 2 rfl rfl)
theorem dX0_isMirrored_3 : decode cX0_isMirrored 3 = .ok (.aload_n 0, 1) := dk_42 (dk_at dksX0_isMirrored_0 3 rfl rfl)
theorem dX0_isMirrored_4 : decode cX0_isMirrored 4 = .ok (.getfield 79, 3) := dk_180 0 79 (dk_at dksX0_isMirrored_0 4 rfl rfl)
theorem dX0_isMirrored_7 : decode cX0_isMirrored 7 = .ok (.if_icmp .ge 66, 3) := dk_162 0 66 (dk_at dksX0_isMirrored_0 7 rfl rfl)
theorem dX0_isMirrored_10 : decode cX0_isMirrored 10 = .ok (.iconst 0, 1) := dk_3 (dk_at dksX0_isMirrored_0 10 rfl rfl)
theorem dX0_isMirrored_11 : decode cX0_isMirrored 11 = .ok (.istore_n 2, 1) := dk_61 (dk_at dksX0_isMirrored_0 11 rfl rfl)
theorem dX0_isMirrored_12 : decode cX0_isMirrored 12 = .ok (.iconst 0, 1) := dk_3 (dk_at dksX0_isMirrored_0 12 rfl rfl)
theorem dX0_isMirrored_13 : decode cX0_isMirrored 13 = .ok (.istore_n 3, 1) := dk_62 (dk_at dksX0_isMirrored_0 13 rfl rfl)
theorem dX0_isMirrored_14 : decode cX0_isMirrored 14 = .ok (.iload_n 3, 1) := dk_29 (dk_at dksX0_isMirrored_0 14 rfl rfl)
theorem dX0_isMirrored_15 : decode cX0_isMirrored 15 = .ok (.aload_n 0, 1) := dk_42 (dk_at dksX0_isMirrored_0 15 rfl rfl)
theorem dX0_isMirrored_16 : decode cX0_isMirrored 16 = .ok (.getfield 79, 3) := dk_180 0 79 (dk_at dksX0_isMirrored_0 16 rfl rfl)
theorem dX0_isMirrored_19 : decode cX0_isMirrored 19 = .ok (.if_icmp .ge 42, 3) := dk_162 0 42 (dk_at dksX0_isMirrored_0 19 rfl rfl)
theorem dX0_isMirrored_22 : decode cX0_isMirrored 22 = .ok (.iload_n 2, 1) := dk_28 (dk_at dksX0_isMirrored_0 22 rfl rfl)
theorem dX0_isMirrored_23 : decode cX0_isMirrored 23 = .ok (.aload_n 0, 1) := dk_42 (dk_at dksX0_isMirrored_0 23 rfl rfl)
theorem dX0_isMirrored_24 : decode cX0_isMirrored 24 = .ok (.getfield 11, 3) := dk_180 0 11 (dk_at dksX0_isMirrored_1 0 rfl rfl)
theorem dX0_isMirrored_27 : decode cX0_isMirrored 27 = .ok (.iload_n 3, 1) := dk_29 (dk_at dksX0_isMirrored_1 3 rfl rfl)
theorem dX0_isMirrored_28 : decode cX0_isMirrored 28 = .ok (.aaload, 1) := dk_50 (dk_at dksX0_isMirrored_1 4 rfl rfl)
theorem dX0_isMirrored_29 : decode cX0_isMirrored 29 = .ok (.bipush 15, 2) := dk_16 15 (dk_at dksX0_isMirrored_1 5 rfl rfl)
theorem dX0_isMirrored_31 : decode cX0_isMirrored 31 = .ok (.aload_n 0, 1) := dk_42 (dk_at dksX0_isMirrored_1 7 rfl rfl)
theorem dX0_isMirrored_32 : decode cX0_isMirrored 32 = .ok (.getfield 11, 3) := dk_180 0 11 (dk_at dksX0_isMirrored_1 8 rfl rfl)
theorem dX0_isMirrored_35 : decode cX0_isMirrored 35 = .ok (.iload_n 1, 1) := dk_27 (dk_at dksX0_isMirrored_1 11 rfl rfl)
theorem dX0_isMirrored_36 : decode cX0_isMirrored 36 = .ok (.aaload, 1) := dk_50 (dk_at dksX0_isMirrored_1 12 rfl rfl)
theorem dX0_isMirrored_37 : decode cX0_isMirrored 37 = .ok (.getfield 115, 3) := dk_180 0 115 (dk_at dksX0_isMirrored_1 13 rfl rfl)
theorem dX0_isMirrored_40 : decode cX0_isMirrored 40 = .ok (.isub, 1) := dk_100 (dk_at dksX0_isMirrored_1 16 rfl rfl)
theorem dX0_isMirrored_41 : decode cX0_isMirrored 41 = .ok (.aload_n 0, 1) := dk_42 (dk_at dksX0_isMirrored_1 17 rfl rfl)
theorem dX0_isMirrored_42 : decode cX0_isMirrored 42 = .ok (.getfield 11, 3) := dk_180 0 11 (dk_at dksX0_isMirrored_1 18 rfl rfl)
theorem dX0_isMirrored_45 : decode cX0_isMirrored 45 = .ok (.iload_n 1, 1) := dk_27 (dk_at dksX0_isMirrored_1 21 rfl rfl)
theorem dX0_isMirrored_46 : decode cX0_isMirrored 46 = .ok (.aaload, 1) := dk_50 (dk_at dksX0_isMirrored_1 22 rfl rfl)
theorem dX0_isMirrored_47 : decode cX0_isMirrored 47 = .ok (.getfield 118, 3) := dk_180 0 118 (dk_at dksX0_isMirrored_2 0 rfl rfl)
theorem dX0_isMirrored_50 : decode cX0_isMirrored 50 = .ok (.invokevirtual 349, 3) := dk_182 1 93 (dk_at dksX0_isMirrored_2 3 rfl rfl)
theorem dX0_isMirrored_53 : decode cX0_isMirrored 53 = .ok (.ior, 1) := dk_128 (dk_at dksX0_isMirrored_2 6 rfl rfl)
theorem dX0_isMirrored_54 : decode cX0_isMirrored 54 = .ok (.istore_n 2, 1) := dk_61 (dk_at dksX0_isMirrored_2 7 rfl rfl)
theorem dX0_isMirrored_55 : decode cX0_isMirrored 55 = .ok (.iinc 3 1, 3) := dk_132 3 1 (dk_at dksX0_isMirrored_2 8 rfl rfl)
theorem dX0_isMirrored_58 : decode cX0_isMirrored 58 = .ok (.goto (-44), 3) := dk_167 255 212 (dk_at dksX0_isMirrored_2 11 rfl rfl)
theorem dX0_isMirrored_61 : decode cX0_isMirrored 61 = .ok (.iload_n 2, 1) := dk_28 (dk_at dksX0_isMirrored_2 14 rfl rfl)
theorem dX0_isMirrored_62 : decode cX0_isMirrored 62 = .ok (.ifCond .ne 5, 3) := dk_154 0 5 (dk_at dksX0_isMirrored_2 15 rfl rfl)
theorem dX0_isMirrored_65 : decode cX0_isMirrored 65 = .ok (.iconst 0, 1) := dk_3 (dk_at dksX0_isMirrored_2 18 rfl rfl)
theorem dX0_isMirrored_66 : decode cX0_isMirrored 66 = .ok (.ireturn, 1) := dk_172 (dk_at dksX0_isMirrored_2 19 rfl rfl)
theorem dX0_isMirrored_67 : decode cX0_isMirrored 67 = .ok (.iinc 1 1, 3) := dk_132 1 1 (dk_at dksX0_isMirrored_2 20 rfl rfl)
theorem dX0_isMirrored_70 : decode cX0_isMirrored 70 = .ok (.goto (-68), 3) := dk_167 255 188 (dk_at dksX0_isMirrored_3 0 rfl rfl)
theorem dX0_isMirrored_73 : decode cX0_isMirrored 73 = .ok (.iconst 1, 1) := dk_4 (dk_at dksX0_isMirrored_3 3 rfl rfl)
theorem dX0_isMirrored_74 : decode cX0_isMirrored 74 = .ok (.ireturn, 1) := dk_172 (dk_at dksX0_isMirrored_3 4 rfl rfl)
abbrev cX0_judge : ByteArray := prog_1_method_65_code
def yX0_judge : MethodName := ⟨RX0, "judge", "(I)I"⟩
def dkwX0_judge_1 : List UInt8 := [182, 1, 123, 172]
abbrev dktX0_judge_1 : List UInt8 := dkwX0_judge_1 ++ []
def dkwX0_judge_0 : List UInt8 := [27, 184, 1, 117, 154, 0, 5, 2, 172, 42, 27, 182, 1, 120, 61, 28, 156, 0, 7, 28, 167, 0, 7, 42]
abbrev dktX0_judge_0 : List UInt8 := dkwX0_judge_0 ++ dktX0_judge_1
theorem dksX0_judge_0 : cX0_judge.data.toList.drop 0 = dktX0_judge_0 := by decide +kernel
theorem dksX0_judge_1 : cX0_judge.data.toList.drop 24 = dktX0_judge_1 := dk_seg dksX0_judge_0 24 rfl rfl
theorem dX0_judge_0 : decode cX0_judge 0 = .ok (.iload_n 1, 1) := dk_27 (dk_at dksX0_judge_0 0 rfl rfl)
theorem dX0_judge_1 : decode cX0_judge 1 = .ok (.invokestatic 373, 3) := dk_184 1 117 (dk_at dksX0_judge_0 1 rfl rfl)
theorem dX0_judge_4 : decode cX0_judge 4 = .ok (.ifCond .ne 5, 3) := dk_154 0 5 (dk_at dksX0_judge_0 4 rfl rfl)
theorem dX0_judge_7 : decode cX0_judge 7 = .ok (.iconst (-1), 1) := dk_2 (dk_at dksX0_judge_0 7 rfl rfl)
theorem dX0_judge_8 : decode cX0_judge 8 = .ok (.ireturn, 1) := dk_172 (dk_at dksX0_judge_0 8 rfl rfl)
theorem dX0_judge_9 : decode cX0_judge 9 = .ok (.aload_n 0, 1) := dk_42 (dk_at dksX0_judge_0 9 rfl rfl)
theorem dX0_judge_10 : decode cX0_judge 10 = .ok (.iload_n 1, 1) := dk_27 (dk_at dksX0_judge_0 10 rfl rfl)
theorem dX0_judge_11 : decode cX0_judge 11 = .ok (.invokevirtual 376, 3) := dk_182 1 120 (dk_at dksX0_judge_0 11 rfl rfl)
theorem dX0_judge_14 : decode cX0_judge 14 = .ok (.istore_n 2, 1) := dk_61 (dk_at dksX0_judge_0 14 rfl rfl)
theorem dX0_judge_15 : decode cX0_judge 15 = .ok (.iload_n 2, 1) := dk_28 (dk_at dksX0_judge_0 15 rfl rfl)
theorem dX0_judge_16 : decode cX0_judge 16 = .ok (.ifCond .ge 7, 3) := dk_156 0 7 (dk_at dksX0_judge_0 16 rfl rfl)
theorem dX0_judge_19 : decode cX0_judge 19 = .ok (.iload_n 2, 1) := dk_28 (dk_at dksX0_judge_0 19 rfl rfl)
theorem dX0_judge_20 : decode cX0_judge 20 = .ok (.goto 7, 3) := dk_167 0 7 (dk_at dksX0_judge_0 20 rfl rfl)
theorem dX0_judge_23 : decode cX0_judge 23 = .ok (.aload_n 0, 1) := dk_42 (dk_at dksX0_judge_0 23 rfl rfl)
theorem dX0_judge_24 : decode cX0_judge 24 = .ok (.invokevirtual 379, 3) := dk_182 1 123 (dk_at dksX0_judge_1 0 rfl rfl)
theorem dX0_judge_27 : decode cX0_judge 27 = .ok (.ireturn, 1) := dk_172 (dk_at dksX0_judge_1 3 rfl rfl)
abbrev cX0_areShelves : ByteArray := prog_1_method_63_code
def yX0_areShelves : MethodName := ⟨RX0, "areShelves", "(I)Z"⟩
def dkwX0_areShelves_1 : List UInt8 := [4, 167, 0, 4, 3, 172]
abbrev dktX0_areShelves_1 : List UInt8 := dkwX0_areShelves_1 ++ []
def dkwX0_areShelves_0 : List UInt8 := [26, 155, 0, 27, 26, 16, 10, 108, 184, 0, 97, 153, 0, 17, 26, 16, 10, 112, 184, 0, 97, 153, 0, 7]
abbrev dktX0_areShelves_0 : List UInt8 := dkwX0_areShelves_0 ++ dktX0_areShelves_1
theorem dksX0_areShelves_0 : cX0_areShelves.data.toList.drop 0 = dktX0_areShelves_0 := by decide +kernel
theorem dksX0_areShelves_1 : cX0_areShelves.data.toList.drop 24 = dktX0_areShelves_1 := dk_seg dksX0_areShelves_0 24 rfl rfl
theorem dX0_areShelves_0 : decode cX0_areShelves 0 = .ok (.iload_n 0, 1) := dk_26 (dk_at dksX0_areShelves_0 0 rfl rfl)
theorem dX0_areShelves_1 : decode cX0_areShelves 1 = .ok (.ifCond .lt 27, 3) := dk_155 0 27 (dk_at dksX0_areShelves_0 1 rfl rfl)
theorem dX0_areShelves_4 : decode cX0_areShelves 4 = .ok (.iload_n 0, 1) := dk_26 (dk_at dksX0_areShelves_0 4 rfl rfl)
theorem dX0_areShelves_5 : decode cX0_areShelves 5 = .ok (.bipush 10, 2) := dk_16 10 (dk_at dksX0_areShelves_0 5 rfl rfl)
theorem dX0_areShelves_7 : decode cX0_areShelves 7 = .ok (.idiv, 1) := dk_108 (dk_at dksX0_areShelves_0 7 rfl rfl)
theorem dX0_areShelves_8 : decode cX0_areShelves 8 = .ok (.invokestatic 97, 3) := dk_184 0 97 (dk_at dksX0_areShelves_0 8 rfl rfl)
theorem dX0_areShelves_11 : decode cX0_areShelves 11 = .ok (.ifCond .eq 17, 3) := dk_153 0 17 (dk_at dksX0_areShelves_0 11 rfl rfl)
theorem dX0_areShelves_14 : decode cX0_areShelves 14 = .ok (.iload_n 0, 1) := dk_26 (dk_at dksX0_areShelves_0 14 rfl rfl)
theorem dX0_areShelves_15 : decode cX0_areShelves 15 = .ok (.bipush 10, 2) := dk_16 10 (dk_at dksX0_areShelves_0 15 rfl rfl)
theorem dX0_areShelves_17 : decode cX0_areShelves 17 = .ok (.irem, 1) := dk_112 (dk_at dksX0_areShelves_0 17 rfl rfl)
theorem dX0_areShelves_18 : decode cX0_areShelves 18 = .ok (.invokestatic 97, 3) := dk_184 0 97 (dk_at dksX0_areShelves_0 18 rfl rfl)
theorem dX0_areShelves_21 : decode cX0_areShelves 21 = .ok (.ifCond .eq 7, 3) := dk_153 0 7 (dk_at dksX0_areShelves_0 21 rfl rfl)
theorem dX0_areShelves_24 : decode cX0_areShelves 24 = .ok (.iconst 1, 1) := dk_4 (dk_at dksX0_areShelves_1 0 rfl rfl)
theorem dX0_areShelves_25 : decode cX0_areShelves 25 = .ok (.goto 4, 3) := dk_167 0 4 (dk_at dksX0_areShelves_1 1 rfl rfl)
theorem dX0_areShelves_28 : decode cX0_areShelves 28 = .ok (.iconst 0, 1) := dk_3 (dk_at dksX0_areShelves_1 4 rfl rfl)
theorem dX0_areShelves_29 : decode cX0_areShelves 29 = .ok (.ireturn, 1) := dk_172 (dk_at dksX0_areShelves_1 5 rfl rfl)
abbrev cX0_layBoth : ByteArray := prog_1_method_62_code
def yX0_layBoth : MethodName := ⟨RX0, "layBoth", "(I)I"⟩
def dkwX0_layBoth_2 : List UInt8 := [3, 172]
abbrev dktX0_layBoth_2 : List UInt8 := dkwX0_layBoth_2 ++ []
def dkwX0_layBoth_1 : List UInt8 := [29, 16, 245, 160, 0, 8, 16, 245, 167, 0, 17, 28, 155, 0, 7, 29, 156, 0, 8, 16, 244, 167, 0, 4]
abbrev dktX0_layBoth_1 : List UInt8 := dkwX0_layBoth_1 ++ dktX0_layBoth_2
def dkwX0_layBoth_0 : List UInt8 := [42, 27, 16, 10, 108, 182, 1, 25, 61, 42, 27, 16, 10, 112, 182, 1, 114, 62, 28, 16, 245, 159, 0, 9]
abbrev dktX0_layBoth_0 : List UInt8 := dkwX0_layBoth_0 ++ dktX0_layBoth_1
theorem dksX0_layBoth_0 : cX0_layBoth.data.toList.drop 0 = dktX0_layBoth_0 := by decide +kernel
theorem dksX0_layBoth_1 : cX0_layBoth.data.toList.drop 24 = dktX0_layBoth_1 := dk_seg dksX0_layBoth_0 24 rfl rfl
theorem dksX0_layBoth_2 : cX0_layBoth.data.toList.drop 48 = dktX0_layBoth_2 := dk_seg dksX0_layBoth_1 24 rfl rfl
theorem dX0_layBoth_0 : decode cX0_layBoth 0 = .ok (.aload_n 0, 1) := dk_42 (dk_at dksX0_layBoth_0 0 rfl rfl)
theorem dX0_layBoth_1 : decode cX0_layBoth 1 = .ok (.iload_n 1, 1) := dk_27 (dk_at dksX0_layBoth_0 1 rfl rfl)
theorem dX0_layBoth_2 : decode cX0_layBoth 2 = .ok (.bipush 10, 2) := dk_16 10 (dk_at dksX0_layBoth_0 2 rfl rfl)
theorem dX0_layBoth_4 : decode cX0_layBoth 4 = .ok (.idiv, 1) := dk_108 (dk_at dksX0_layBoth_0 4 rfl rfl)
theorem dX0_layBoth_5 : decode cX0_layBoth 5 = .ok (.invokevirtual 281, 3) := dk_182 1 25 (dk_at dksX0_layBoth_0 5 rfl rfl)
theorem dX0_layBoth_8 : decode cX0_layBoth 8 = .ok (.istore_n 2, 1) := dk_61 (dk_at dksX0_layBoth_0 8 rfl rfl)
theorem dX0_layBoth_9 : decode cX0_layBoth 9 = .ok (.aload_n 0, 1) := dk_42 (dk_at dksX0_layBoth_0 9 rfl rfl)
theorem dX0_layBoth_10 : decode cX0_layBoth 10 = .ok (.iload_n 1, 1) := dk_27 (dk_at dksX0_layBoth_0 10 rfl rfl)
theorem dX0_layBoth_11 : decode cX0_layBoth 11 = .ok (.bipush 10, 2) := dk_16 10 (dk_at dksX0_layBoth_0 11 rfl rfl)
theorem dX0_layBoth_13 : decode cX0_layBoth 13 = .ok (.irem, 1) := dk_112 (dk_at dksX0_layBoth_0 13 rfl rfl)
theorem dX0_layBoth_14 : decode cX0_layBoth 14 = .ok (.invokevirtual 370, 3) := dk_182 1 114 (dk_at dksX0_layBoth_0 14 rfl rfl)
theorem dX0_layBoth_17 : decode cX0_layBoth 17 = .ok (.istore_n 3, 1) := dk_62 (dk_at dksX0_layBoth_0 17 rfl rfl)
theorem dX0_layBoth_18 : decode cX0_layBoth 18 = .ok (.iload_n 2, 1) := dk_28 (dk_at dksX0_layBoth_0 18 rfl rfl)
theorem dX0_layBoth_19 : decode cX0_layBoth 19 = .ok (.bipush (-11), 2) := dk_16 245 (dk_at dksX0_layBoth_0 19 rfl rfl)
theorem dX0_layBoth_21 : decode cX0_layBoth 21 = .ok (.if_icmp .eq 9, 3) := dk_159 0 9 (dk_at dksX0_layBoth_0 21 rfl rfl)
theorem dX0_layBoth_24 : decode cX0_layBoth 24 = .ok (.iload_n 3, 1) := dk_29 (dk_at dksX0_layBoth_1 0 rfl rfl)
theorem dX0_layBoth_25 : decode cX0_layBoth 25 = .ok (.bipush (-11), 2) := dk_16 245 (dk_at dksX0_layBoth_1 1 rfl rfl)
theorem dX0_layBoth_27 : decode cX0_layBoth 27 = .ok (.if_icmp .ne 8, 3) := dk_160 0 8 (dk_at dksX0_layBoth_1 3 rfl rfl)
theorem dX0_layBoth_30 : decode cX0_layBoth 30 = .ok (.bipush (-11), 2) := dk_16 245 (dk_at dksX0_layBoth_1 6 rfl rfl)
theorem dX0_layBoth_32 : decode cX0_layBoth 32 = .ok (.goto 17, 3) := dk_167 0 17 (dk_at dksX0_layBoth_1 8 rfl rfl)
theorem dX0_layBoth_35 : decode cX0_layBoth 35 = .ok (.iload_n 2, 1) := dk_28 (dk_at dksX0_layBoth_1 11 rfl rfl)
theorem dX0_layBoth_36 : decode cX0_layBoth 36 = .ok (.ifCond .lt 7, 3) := dk_155 0 7 (dk_at dksX0_layBoth_1 12 rfl rfl)
theorem dX0_layBoth_39 : decode cX0_layBoth 39 = .ok (.iload_n 3, 1) := dk_29 (dk_at dksX0_layBoth_1 15 rfl rfl)
theorem dX0_layBoth_40 : decode cX0_layBoth 40 = .ok (.ifCond .ge 8, 3) := dk_156 0 8 (dk_at dksX0_layBoth_1 16 rfl rfl)
theorem dX0_layBoth_43 : decode cX0_layBoth 43 = .ok (.bipush (-12), 2) := dk_16 244 (dk_at dksX0_layBoth_1 19 rfl rfl)
theorem dX0_layBoth_45 : decode cX0_layBoth 45 = .ok (.goto 4, 3) := dk_167 0 4 (dk_at dksX0_layBoth_1 21 rfl rfl)
theorem dX0_layBoth_48 : decode cX0_layBoth 48 = .ok (.iconst 0, 1) := dk_3 (dk_at dksX0_layBoth_2 0 rfl rfl)
theorem dX0_layBoth_49 : decode cX0_layBoth 49 = .ok (.ireturn, 1) := dk_172 (dk_at dksX0_layBoth_2 1 rfl rfl)
abbrev cX0_layTold : ByteArray := prog_1_method_61_code
def yX0_layTold : MethodName := ⟨RX0, "layTold", "(I)I"⟩
def dkwX0_layTold_2 : List UInt8 := [181, 1, 107, 132, 3, 1, 167, 255, 223, 167, 0, 11, 77, 16, 244, 172, 77, 16, 245, 172, 3, 172]
abbrev dktX0_layTold_2 : List UInt8 := dkwX0_layTold_2 ++ []
def dkwX0_layTold_1 : List UInt8 := [162, 0, 31, 42, 180, 0, 58, 29, 44, 29, 182, 1, 113, 136, 79, 42, 89, 180, 1, 107, 4, 96]
abbrev dktX0_layTold_1 : List UInt8 := dkwX0_layTold_1 ++ dktX0_layTold_2
def dkwX0_layTold_0 : List UInt8 := [42, 3, 181, 1, 107, 42, 180, 0, 75, 27, 50, 192, 1, 110, 77, 3, 62, 29, 44, 182, 1, 112]
abbrev dktX0_layTold_0 : List UInt8 := dkwX0_layTold_0 ++ dktX0_layTold_1
theorem dksX0_layTold_0 : cX0_layTold.data.toList.drop 0 = dktX0_layTold_0 := by decide +kernel
theorem dksX0_layTold_1 : cX0_layTold.data.toList.drop 22 = dktX0_layTold_1 := dk_seg dksX0_layTold_0 22 rfl rfl
theorem dksX0_layTold_2 : cX0_layTold.data.toList.drop 44 = dktX0_layTold_2 := dk_seg dksX0_layTold_1 22 rfl rfl
theorem dX0_layTold_0 : decode cX0_layTold 0 = .ok (.aload_n 0, 1) := dk_42 (dk_at dksX0_layTold_0 0 rfl rfl)
theorem dX0_layTold_1 : decode cX0_layTold 1 = .ok (.iconst 0, 1) := dk_3 (dk_at dksX0_layTold_0 1 rfl rfl)
theorem dX0_layTold_2 : decode cX0_layTold 2 = .ok (.putfield 363, 3) := dk_181 1 107 (dk_at dksX0_layTold_0 2 rfl rfl)
theorem dX0_layTold_5 : decode cX0_layTold 5 = .ok (.aload_n 0, 1) := dk_42 (dk_at dksX0_layTold_0 5 rfl rfl)
theorem dX0_layTold_6 : decode cX0_layTold 6 = .ok (.getfield 75, 3) := dk_180 0 75 (dk_at dksX0_layTold_0 6 rfl rfl)
theorem dX0_layTold_9 : decode cX0_layTold 9 = .ok (.iload_n 1, 1) := dk_27 (dk_at dksX0_layTold_0 9 rfl rfl)
theorem dX0_layTold_10 : decode cX0_layTold 10 = .ok (.aaload, 1) := dk_50 (dk_at dksX0_layTold_0 10 rfl rfl)
theorem dX0_layTold_11 : decode cX0_layTold 11 = .ok (.checkcast 366, 3) := dk_192 1 110 (dk_at dksX0_layTold_0 11 rfl rfl)
theorem dX0_layTold_14 : decode cX0_layTold 14 = .ok (.astore_n 2, 1) := dk_77 (dk_at dksX0_layTold_0 14 rfl rfl)
theorem dX0_layTold_15 : decode cX0_layTold 15 = .ok (.iconst 0, 1) := dk_3 (dk_at dksX0_layTold_0 15 rfl rfl)
theorem dX0_layTold_16 : decode cX0_layTold 16 = .ok (.istore_n 3, 1) := dk_62 (dk_at dksX0_layTold_0 16 rfl rfl)
theorem dX0_layTold_17 : decode cX0_layTold 17 = .ok (.iload_n 3, 1) := dk_29 (dk_at dksX0_layTold_0 17 rfl rfl)
theorem dX0_layTold_18 : decode cX0_layTold 18 = .ok (.aload_n 2, 1) := dk_44 (dk_at dksX0_layTold_0 18 rfl rfl)
theorem dX0_layTold_19 : decode cX0_layTold 19 = .ok (.invokevirtual 368, 3) := dk_182 1 112 (dk_at dksX0_layTold_0 19 rfl rfl)
theorem dX0_layTold_22 : decode cX0_layTold 22 = .ok (.if_icmp .ge 31, 3) := dk_162 0 31 (dk_at dksX0_layTold_1 0 rfl rfl)
theorem dX0_layTold_25 : decode cX0_layTold 25 = .ok (.aload_n 0, 1) := dk_42 (dk_at dksX0_layTold_1 3 rfl rfl)
theorem dX0_layTold_26 : decode cX0_layTold 26 = .ok (.getfield 58, 3) := dk_180 0 58 (dk_at dksX0_layTold_1 4 rfl rfl)
theorem dX0_layTold_29 : decode cX0_layTold 29 = .ok (.iload_n 3, 1) := dk_29 (dk_at dksX0_layTold_1 7 rfl rfl)
theorem dX0_layTold_30 : decode cX0_layTold 30 = .ok (.aload_n 2, 1) := dk_44 (dk_at dksX0_layTold_1 8 rfl rfl)
theorem dX0_layTold_31 : decode cX0_layTold 31 = .ok (.iload_n 3, 1) := dk_29 (dk_at dksX0_layTold_1 9 rfl rfl)
theorem dX0_layTold_32 : decode cX0_layTold 32 = .ok (.invokevirtual 369, 3) := dk_182 1 113 (dk_at dksX0_layTold_1 10 rfl rfl)
theorem dX0_layTold_35 : decode cX0_layTold 35 = .ok (.l2i, 1) := dk_136 (dk_at dksX0_layTold_1 13 rfl rfl)
theorem dX0_layTold_36 : decode cX0_layTold 36 = .ok (.iastore, 1) := dk_79 (dk_at dksX0_layTold_1 14 rfl rfl)
theorem dX0_layTold_37 : decode cX0_layTold 37 = .ok (.aload_n 0, 1) := dk_42 (dk_at dksX0_layTold_1 15 rfl rfl)
theorem dX0_layTold_38 : decode cX0_layTold 38 = .ok (.dup, 1) := dk_89 (dk_at dksX0_layTold_1 16 rfl rfl)
theorem dX0_layTold_39 : decode cX0_layTold 39 = .ok (.getfield 363, 3) := dk_180 1 107 (dk_at dksX0_layTold_1 17 rfl rfl)
theorem dX0_layTold_42 : decode cX0_layTold 42 = .ok (.iconst 1, 1) := dk_4 (dk_at dksX0_layTold_1 20 rfl rfl)
theorem dX0_layTold_43 : decode cX0_layTold 43 = .ok (.iadd, 1) := dk_96 (dk_at dksX0_layTold_1 21 rfl rfl)
theorem dX0_layTold_44 : decode cX0_layTold 44 = .ok (.putfield 363, 3) := dk_181 1 107 (dk_at dksX0_layTold_2 0 rfl rfl)
theorem dX0_layTold_47 : decode cX0_layTold 47 = .ok (.iinc 3 1, 3) := dk_132 3 1 (dk_at dksX0_layTold_2 3 rfl rfl)
theorem dX0_layTold_50 : decode cX0_layTold 50 = .ok (.goto (-33), 3) := dk_167 255 223 (dk_at dksX0_layTold_2 6 rfl rfl)
theorem dX0_layTold_53 : decode cX0_layTold 53 = .ok (.goto 11, 3) := dk_167 0 11 (dk_at dksX0_layTold_2 9 rfl rfl)
theorem dX0_layTold_56 : decode cX0_layTold 56 = .ok (.astore_n 2, 1) := dk_77 (dk_at dksX0_layTold_2 12 rfl rfl)
theorem dX0_layTold_57 : decode cX0_layTold 57 = .ok (.bipush (-12), 2) := dk_16 244 (dk_at dksX0_layTold_2 13 rfl rfl)
theorem dX0_layTold_59 : decode cX0_layTold 59 = .ok (.ireturn, 1) := dk_172 (dk_at dksX0_layTold_2 15 rfl rfl)
theorem dX0_layTold_60 : decode cX0_layTold 60 = .ok (.astore_n 2, 1) := dk_77 (dk_at dksX0_layTold_2 16 rfl rfl)
theorem dX0_layTold_61 : decode cX0_layTold 61 = .ok (.bipush (-11), 2) := dk_16 245 (dk_at dksX0_layTold_2 17 rfl rfl)
theorem dX0_layTold_63 : decode cX0_layTold 63 = .ok (.ireturn, 1) := dk_172 (dk_at dksX0_layTold_2 19 rfl rfl)
theorem dX0_layTold_64 : decode cX0_layTold 64 = .ok (.iconst 0, 1) := dk_3 (dk_at dksX0_layTold_2 20 rfl rfl)
theorem dX0_layTold_65 : decode cX0_layTold 65 = .ok (.ireturn, 1) := dk_172 (dk_at dksX0_layTold_2 21 rfl rfl)
abbrev cX0_wrongAt : ByteArray := prog_1_method_64_code
def yX0_wrongAt : MethodName := ⟨RX0, "wrongAt", "()I"⟩
def dkwX0_wrongAt_2 : List UInt8 := [16, 254, 172]
abbrev dktX0_wrongAt_2 : List UInt8 := dkwX0_wrongAt_2 ++ []
def dkwX0_wrongAt_1 : List UInt8 := [182, 1, 12, 42, 182, 1, 19, 42, 180, 0, 58, 27, 46, 159, 0, 5, 27, 172, 132, 1, 1, 167, 255, 217]
abbrev dktX0_wrongAt_1 : List UInt8 := dkwX0_wrongAt_1 ++ dktX0_wrongAt_2
def dkwX0_wrongAt_0 : List UInt8 := [42, 182, 1, 9, 3, 60, 27, 42, 180, 0, 247, 162, 0, 37, 27, 42, 180, 1, 107, 162, 0, 29, 42, 27]
abbrev dktX0_wrongAt_0 : List UInt8 := dkwX0_wrongAt_0 ++ dktX0_wrongAt_1
theorem dksX0_wrongAt_0 : cX0_wrongAt.data.toList.drop 0 = dktX0_wrongAt_0 := by decide +kernel
theorem dksX0_wrongAt_1 : cX0_wrongAt.data.toList.drop 24 = dktX0_wrongAt_1 := dk_seg dksX0_wrongAt_0 24 rfl rfl
theorem dksX0_wrongAt_2 : cX0_wrongAt.data.toList.drop 48 = dktX0_wrongAt_2 := dk_seg dksX0_wrongAt_1 24 rfl rfl
theorem dX0_wrongAt_0 : decode cX0_wrongAt 0 = .ok (.aload_n 0, 1) := dk_42 (dk_at dksX0_wrongAt_0 0 rfl rfl)
theorem dX0_wrongAt_1 : decode cX0_wrongAt 1 = .ok (.invokevirtual 265, 3) := dk_182 1 9 (dk_at dksX0_wrongAt_0 1 rfl rfl)
theorem dX0_wrongAt_4 : decode cX0_wrongAt 4 = .ok (.iconst 0, 1) := dk_3 (dk_at dksX0_wrongAt_0 4 rfl rfl)
theorem dX0_wrongAt_5 : decode cX0_wrongAt 5 = .ok (.istore_n 1, 1) := dk_60 (dk_at dksX0_wrongAt_0 5 rfl rfl)
theorem dX0_wrongAt_6 : decode cX0_wrongAt 6 = .ok (.iload_n 1, 1) := dk_27 (dk_at dksX0_wrongAt_0 6 rfl rfl)
theorem dX0_wrongAt_7 : decode cX0_wrongAt 7 = .ok (.aload_n 0, 1) := dk_42 (dk_at dksX0_wrongAt_0 7 rfl rfl)
theorem dX0_wrongAt_8 : decode cX0_wrongAt 8 = .ok (.getfield 247, 3) := dk_180 0 247 (dk_at dksX0_wrongAt_0 8 rfl rfl)
theorem dX0_wrongAt_11 : decode cX0_wrongAt 11 = .ok (.if_icmp .ge 37, 3) := dk_162 0 37 (dk_at dksX0_wrongAt_0 11 rfl rfl)
theorem dX0_wrongAt_14 : decode cX0_wrongAt 14 = .ok (.iload_n 1, 1) := dk_27 (dk_at dksX0_wrongAt_0 14 rfl rfl)
theorem dX0_wrongAt_15 : decode cX0_wrongAt 15 = .ok (.aload_n 0, 1) := dk_42 (dk_at dksX0_wrongAt_0 15 rfl rfl)
theorem dX0_wrongAt_16 : decode cX0_wrongAt 16 = .ok (.getfield 363, 3) := dk_180 1 107 (dk_at dksX0_wrongAt_0 16 rfl rfl)
theorem dX0_wrongAt_19 : decode cX0_wrongAt 19 = .ok (.if_icmp .ge 29, 3) := dk_162 0 29 (dk_at dksX0_wrongAt_0 19 rfl rfl)
theorem dX0_wrongAt_22 : decode cX0_wrongAt 22 = .ok (.aload_n 0, 1) := dk_42 (dk_at dksX0_wrongAt_0 22 rfl rfl)
theorem dX0_wrongAt_23 : decode cX0_wrongAt 23 = .ok (.iload_n 1, 1) := dk_27 (dk_at dksX0_wrongAt_0 23 rfl rfl)
theorem dX0_wrongAt_24 : decode cX0_wrongAt 24 = .ok (.invokevirtual 268, 3) := dk_182 1 12 (dk_at dksX0_wrongAt_1 0 rfl rfl)
theorem dX0_wrongAt_27 : decode cX0_wrongAt 27 = .ok (.aload_n 0, 1) := dk_42 (dk_at dksX0_wrongAt_1 3 rfl rfl)
theorem dX0_wrongAt_28 : decode cX0_wrongAt 28 = .ok (.invokevirtual 275, 3) := dk_182 1 19 (dk_at dksX0_wrongAt_1 4 rfl rfl)
theorem dX0_wrongAt_31 : decode cX0_wrongAt 31 = .ok (.aload_n 0, 1) := dk_42 (dk_at dksX0_wrongAt_1 7 rfl rfl)
theorem dX0_wrongAt_32 : decode cX0_wrongAt 32 = .ok (.getfield 58, 3) := dk_180 0 58 (dk_at dksX0_wrongAt_1 8 rfl rfl)
theorem dX0_wrongAt_35 : decode cX0_wrongAt 35 = .ok (.iload_n 1, 1) := dk_27 (dk_at dksX0_wrongAt_1 11 rfl rfl)
theorem dX0_wrongAt_36 : decode cX0_wrongAt 36 = .ok (.iaload, 1) := dk_46 (dk_at dksX0_wrongAt_1 12 rfl rfl)
theorem dX0_wrongAt_37 : decode cX0_wrongAt 37 = .ok (.if_icmp .eq 5, 3) := dk_159 0 5 (dk_at dksX0_wrongAt_1 13 rfl rfl)
theorem dX0_wrongAt_40 : decode cX0_wrongAt 40 = .ok (.iload_n 1, 1) := dk_27 (dk_at dksX0_wrongAt_1 16 rfl rfl)
theorem dX0_wrongAt_41 : decode cX0_wrongAt 41 = .ok (.ireturn, 1) := dk_172 (dk_at dksX0_wrongAt_1 17 rfl rfl)
theorem dX0_wrongAt_42 : decode cX0_wrongAt 42 = .ok (.iinc 1 1, 3) := dk_132 1 1 (dk_at dksX0_wrongAt_1 18 rfl rfl)
theorem dX0_wrongAt_45 : decode cX0_wrongAt 45 = .ok (.goto (-39), 3) := dk_167 255 217 (dk_at dksX0_wrongAt_1 21 rfl rfl)
theorem dX0_wrongAt_48 : decode cX0_wrongAt 48 = .ok (.bipush (-2), 2) := dk_16 254 (dk_at dksX0_wrongAt_2 0 rfl rfl)
theorem dX0_wrongAt_50 : decode cX0_wrongAt 50 = .ok (.ireturn, 1) := dk_172 (dk_at dksX0_wrongAt_2 2 rfl rfl)
abbrev cX0_whoLed : ByteArray := prog_1_method_66_code
def yX0_whoLed : MethodName := ⟨RX0, "whoLed", "(I)I"⟩
def dkwX0_whoLed_3 : List UInt8 := [167, 255, 220, 42, 29, 181, 0, 130, 21, 4, 172]
abbrev dktX0_whoLed_3 : List UInt8 := dkwX0_whoLed_3 ++ []
def dkwX0_whoLed_2 : List UInt8 := [181, 0, 130, 42, 182, 1, 123, 16, 254, 160, 0, 12, 21, 4, 4, 21, 5, 120, 128, 54, 4, 132, 5, 1]
abbrev dktX0_whoLed_2 : List UInt8 := dkwX0_whoLed_2 ++ dktX0_whoLed_3
def dkwX0_whoLed_1 : List UInt8 := [180, 0, 130, 62, 3, 54, 4, 3, 54, 5, 21, 5, 42, 180, 0, 79, 162, 0, 33, 42, 21, 5]
abbrev dktX0_whoLed_1 : List UInt8 := dkwX0_whoLed_1 ++ dktX0_whoLed_2
def dkwX0_whoLed_0 : List UInt8 := [27, 184, 1, 117, 154, 0, 5, 2, 172, 42, 27, 182, 1, 120, 61, 28, 156, 0, 5, 28, 172, 42]
abbrev dktX0_whoLed_0 : List UInt8 := dkwX0_whoLed_0 ++ dktX0_whoLed_1
theorem dksX0_whoLed_0 : cX0_whoLed.data.toList.drop 0 = dktX0_whoLed_0 := by decide +kernel
theorem dksX0_whoLed_1 : cX0_whoLed.data.toList.drop 22 = dktX0_whoLed_1 := dk_seg dksX0_whoLed_0 22 rfl rfl
theorem dksX0_whoLed_2 : cX0_whoLed.data.toList.drop 44 = dktX0_whoLed_2 := dk_seg dksX0_whoLed_1 22 rfl rfl
theorem dksX0_whoLed_3 : cX0_whoLed.data.toList.drop 68 = dktX0_whoLed_3 := dk_seg dksX0_whoLed_2 24 rfl rfl
theorem dX0_whoLed_0 : decode cX0_whoLed 0 = .ok (.iload_n 1, 1) := dk_27 (dk_at dksX0_whoLed_0 0 rfl rfl)
theorem dX0_whoLed_1 : decode cX0_whoLed 1 = .ok (.invokestatic 373, 3) := dk_184 1 117 (dk_at dksX0_whoLed_0 1 rfl rfl)
theorem dX0_whoLed_4 : decode cX0_whoLed 4 = .ok (.ifCond .ne 5, 3) := dk_154 0 5 (dk_at dksX0_whoLed_0 4 rfl rfl)
theorem dX0_whoLed_7 : decode cX0_whoLed 7 = .ok (.iconst (-1), 1) := dk_2 (dk_at dksX0_whoLed_0 7 rfl rfl)
theorem dX0_whoLed_8 : decode cX0_whoLed 8 = .ok (.ireturn, 1) := dk_172 (dk_at dksX0_whoLed_0 8 rfl rfl)
theorem dX0_whoLed_9 : decode cX0_whoLed 9 = .ok (.aload_n 0, 1) := dk_42 (dk_at dksX0_whoLed_0 9 rfl rfl)
theorem dX0_whoLed_10 : decode cX0_whoLed 10 = .ok (.iload_n 1, 1) := dk_27 (dk_at dksX0_whoLed_0 10 rfl rfl)
theorem dX0_whoLed_11 : decode cX0_whoLed 11 = .ok (.invokevirtual 376, 3) := dk_182 1 120 (dk_at dksX0_whoLed_0 11 rfl rfl)
theorem dX0_whoLed_14 : decode cX0_whoLed 14 = .ok (.istore_n 2, 1) := dk_61 (dk_at dksX0_whoLed_0 14 rfl rfl)
theorem dX0_whoLed_15 : decode cX0_whoLed 15 = .ok (.iload_n 2, 1) := dk_28 (dk_at dksX0_whoLed_0 15 rfl rfl)
theorem dX0_whoLed_16 : decode cX0_whoLed 16 = .ok (.ifCond .ge 5, 3) := dk_156 0 5 (dk_at dksX0_whoLed_0 16 rfl rfl)
theorem dX0_whoLed_19 : decode cX0_whoLed 19 = .ok (.iload_n 2, 1) := dk_28 (dk_at dksX0_whoLed_0 19 rfl rfl)
theorem dX0_whoLed_20 : decode cX0_whoLed 20 = .ok (.ireturn, 1) := dk_172 (dk_at dksX0_whoLed_0 20 rfl rfl)
theorem dX0_whoLed_21 : decode cX0_whoLed 21 = .ok (.aload_n 0, 1) := dk_42 (dk_at dksX0_whoLed_0 21 rfl rfl)
theorem dX0_whoLed_22 : decode cX0_whoLed 22 = .ok (.getfield 130, 3) := dk_180 0 130 (dk_at dksX0_whoLed_1 0 rfl rfl)
theorem dX0_whoLed_25 : decode cX0_whoLed 25 = .ok (.istore_n 3, 1) := dk_62 (dk_at dksX0_whoLed_1 3 rfl rfl)
theorem dX0_whoLed_26 : decode cX0_whoLed 26 = .ok (.iconst 0, 1) := dk_3 (dk_at dksX0_whoLed_1 4 rfl rfl)
theorem dX0_whoLed_27 : decode cX0_whoLed 27 = .ok (.istore 4, 2) := dk_54 4 (dk_at dksX0_whoLed_1 5 rfl rfl)
theorem dX0_whoLed_29 : decode cX0_whoLed 29 = .ok (.iconst 0, 1) := dk_3 (dk_at dksX0_whoLed_1 7 rfl rfl)
theorem dX0_whoLed_30 : decode cX0_whoLed 30 = .ok (.istore 5, 2) := dk_54 5 (dk_at dksX0_whoLed_1 8 rfl rfl)
theorem dX0_whoLed_32 : decode cX0_whoLed 32 = .ok (.iload 5, 2) := dk_21 5 (dk_at dksX0_whoLed_1 10 rfl rfl)
theorem dX0_whoLed_34 : decode cX0_whoLed 34 = .ok (.aload_n 0, 1) := dk_42 (dk_at dksX0_whoLed_1 12 rfl rfl)
theorem dX0_whoLed_35 : decode cX0_whoLed 35 = .ok (.getfield 79, 3) := dk_180 0 79 (dk_at dksX0_whoLed_1 13 rfl rfl)
theorem dX0_whoLed_38 : decode cX0_whoLed 38 = .ok (.if_icmp .ge 33, 3) := dk_162 0 33 (dk_at dksX0_whoLed_1 16 rfl rfl)
theorem dX0_whoLed_41 : decode cX0_whoLed 41 = .ok (.aload_n 0, 1) := dk_42 (dk_at dksX0_whoLed_1 19 rfl rfl)
theorem dX0_whoLed_42 : decode cX0_whoLed 42 = .ok (.iload 5, 2) := dk_21 5 (dk_at dksX0_whoLed_1 20 rfl rfl)
theorem dX0_whoLed_44 : decode cX0_whoLed 44 = .ok (.putfield 130, 3) := dk_181 0 130 (dk_at dksX0_whoLed_2 0 rfl rfl)
theorem dX0_whoLed_47 : decode cX0_whoLed 47 = .ok (.aload_n 0, 1) := dk_42 (dk_at dksX0_whoLed_2 3 rfl rfl)
theorem dX0_whoLed_48 : decode cX0_whoLed 48 = .ok (.invokevirtual 379, 3) := dk_182 1 123 (dk_at dksX0_whoLed_2 4 rfl rfl)
theorem dX0_whoLed_51 : decode cX0_whoLed 51 = .ok (.bipush (-2), 2) := dk_16 254 (dk_at dksX0_whoLed_2 7 rfl rfl)
theorem dX0_whoLed_53 : decode cX0_whoLed 53 = .ok (.if_icmp .ne 12, 3) := dk_160 0 12 (dk_at dksX0_whoLed_2 9 rfl rfl)
theorem dX0_whoLed_56 : decode cX0_whoLed 56 = .ok (.iload 4, 2) := dk_21 4 (dk_at dksX0_whoLed_2 12 rfl rfl)
theorem dX0_whoLed_58 : decode cX0_whoLed 58 = .ok (.iconst 1, 1) := dk_4 (dk_at dksX0_whoLed_2 14 rfl rfl)
theorem dX0_whoLed_59 : decode cX0_whoLed 59 = .ok (.iload 5, 2) := dk_21 5 (dk_at dksX0_whoLed_2 15 rfl rfl)
theorem dX0_whoLed_61 : decode cX0_whoLed 61 = .ok (.ishl, 1) := dk_120 (dk_at dksX0_whoLed_2 17 rfl rfl)
theorem dX0_whoLed_62 : decode cX0_whoLed 62 = .ok (.ior, 1) := dk_128 (dk_at dksX0_whoLed_2 18 rfl rfl)
theorem dX0_whoLed_63 : decode cX0_whoLed 63 = .ok (.istore 4, 2) := dk_54 4 (dk_at dksX0_whoLed_2 19 rfl rfl)
theorem dX0_whoLed_65 : decode cX0_whoLed 65 = .ok (.iinc 5 1, 3) := dk_132 5 1 (dk_at dksX0_whoLed_2 21 rfl rfl)
theorem dX0_whoLed_68 : decode cX0_whoLed 68 = .ok (.goto (-36), 3) := dk_167 255 220 (dk_at dksX0_whoLed_3 0 rfl rfl)
theorem dX0_whoLed_71 : decode cX0_whoLed 71 = .ok (.aload_n 0, 1) := dk_42 (dk_at dksX0_whoLed_3 3 rfl rfl)
theorem dX0_whoLed_72 : decode cX0_whoLed 72 = .ok (.iload_n 3, 1) := dk_29 (dk_at dksX0_whoLed_3 4 rfl rfl)
theorem dX0_whoLed_73 : decode cX0_whoLed 73 = .ok (.putfield 130, 3) := dk_181 0 130 (dk_at dksX0_whoLed_3 5 rfl rfl)
theorem dX0_whoLed_76 : decode cX0_whoLed 76 = .ok (.iload 4, 2) := dk_21 4 (dk_at dksX0_whoLed_3 8 rfl rfl)
theorem dX0_whoLed_78 : decode cX0_whoLed 78 = .ok (.ireturn, 1) := dk_172 (dk_at dksX0_whoLed_3 10 rfl rfl)
abbrev cX0_later : ByteArray := prog_1_method_67_code
def yX0_later : MethodName := ⟨RX0, "later", "(II)I"⟩
def dkwX0_later_4 : List UInt8 := [21, 4, 181, 0, 127, 21, 5, 172]
abbrev dktX0_later_4 : List UInt8 := dkwX0_later_4 ++ []
def dkwX0_later_3 : List UInt8 := [182, 1, 123, 16, 254, 160, 0, 7, 21, 6, 54, 5, 132, 6, 1, 167, 255, 217, 42, 180, 0, 11, 28, 50]
abbrev dktX0_later_3 : List UInt8 := dkwX0_later_3 ++ dktX0_later_4
def dkwX0_later_2 : List UInt8 := [21, 6, 16, 99, 163, 0, 38, 21, 5, 156, 0, 33, 42, 180, 0, 11, 28, 50, 21, 6, 181, 0, 127, 42]
abbrev dktX0_later_2 : List UInt8 := dkwX0_later_2 ++ dktX0_later_3
def dkwX0_later_1 : List UInt8 := [156, 0, 5, 29, 172, 42, 180, 0, 11, 28, 50, 180, 0, 127, 54, 4, 16, 254, 54, 5, 3, 54, 6]
abbrev dktX0_later_1 : List UInt8 := dkwX0_later_1 ++ dktX0_later_2
def dkwX0_later_0 : List UInt8 := [27, 184, 1, 117, 153, 0, 11, 42, 28, 182, 0, 156, 154, 0, 5, 2, 172, 42, 27, 182, 1, 120, 62, 29]
abbrev dktX0_later_0 : List UInt8 := dkwX0_later_0 ++ dktX0_later_1
theorem dksX0_later_0 : cX0_later.data.toList.drop 0 = dktX0_later_0 := by decide +kernel
theorem dksX0_later_1 : cX0_later.data.toList.drop 24 = dktX0_later_1 := dk_seg dksX0_later_0 24 rfl rfl
theorem dksX0_later_2 : cX0_later.data.toList.drop 47 = dktX0_later_2 := dk_seg dksX0_later_1 23 rfl rfl
theorem dksX0_later_3 : cX0_later.data.toList.drop 71 = dktX0_later_3 := dk_seg dksX0_later_2 24 rfl rfl
theorem dksX0_later_4 : cX0_later.data.toList.drop 95 = dktX0_later_4 := dk_seg dksX0_later_3 24 rfl rfl
theorem dX0_later_0 : decode cX0_later 0 = .ok (.iload_n 1, 1) := dk_27 (dk_at dksX0_later_0 0 rfl rfl)
theorem dX0_later_1 : decode cX0_later 1 = .ok (.invokestatic 373, 3) := dk_184 1 117 (dk_at dksX0_later_0 1 rfl rfl)
theorem dX0_later_4 : decode cX0_later 4 = .ok (.ifCond .eq 11, 3) := dk_153 0 11 (dk_at dksX0_later_0 4 rfl rfl)
theorem dX0_later_7 : decode cX0_later 7 = .ok (.aload_n 0, 1) := dk_42 (dk_at dksX0_later_0 7 rfl rfl)
theorem dX0_later_8 : decode cX0_later 8 = .ok (.iload_n 2, 1) := dk_28 (dk_at dksX0_later_0 8 rfl rfl)
theorem dX0_later_9 : decode cX0_later 9 = .ok (.invokevirtual 156, 3) := dk_182 0 156 (dk_at dksX0_later_0 9 rfl rfl)
theorem dX0_later_12 : decode cX0_later 12 = .ok (.ifCond .ne 5, 3) := dk_154 0 5 (dk_at dksX0_later_0 12 rfl rfl)
theorem dX0_later_15 : decode cX0_later 15 = .ok (.iconst (-1), 1) := dk_2 (dk_at dksX0_later_0 15 rfl rfl)
theorem dX0_later_16 : decode cX0_later 16 = .ok (.ireturn, 1) := dk_172 (dk_at dksX0_later_0 16 rfl rfl)
theorem dX0_later_17 : decode cX0_later 17 = .ok (.aload_n 0, 1) := dk_42 (dk_at dksX0_later_0 17 rfl rfl)
theorem dX0_later_18 : decode cX0_later 18 = .ok (.iload_n 1, 1) := dk_27 (dk_at dksX0_later_0 18 rfl rfl)
theorem dX0_later_19 : decode cX0_later 19 = .ok (.invokevirtual 376, 3) := dk_182 1 120 (dk_at dksX0_later_0 19 rfl rfl)
theorem dX0_later_22 : decode cX0_later 22 = .ok (.istore_n 3, 1) := dk_62 (dk_at dksX0_later_0 22 rfl rfl)
theorem dX0_later_23 : decode cX0_later 23 = .ok (.iload_n 3, 1) := dk_29 (dk_at dksX0_later_0 23 rfl rfl)
theorem dX0_later_24 : decode cX0_later 24 = .ok (.ifCond .ge 5, 3) := dk_156 0 5 (dk_at dksX0_later_1 0 rfl rfl)
theorem dX0_later_27 : decode cX0_later 27 = .ok (.iload_n 3, 1) := dk_29 (dk_at dksX0_later_1 3 rfl rfl)
theorem dX0_later_28 : decode cX0_later 28 = .ok (.ireturn, 1) := dk_172 (dk_at dksX0_later_1 4 rfl rfl)
theorem dX0_later_29 : decode cX0_later 29 = .ok (.aload_n 0, 1) := dk_42 (dk_at dksX0_later_1 5 rfl rfl)
theorem dX0_later_30 : decode cX0_later 30 = .ok (.getfield 11, 3) := dk_180 0 11 (dk_at dksX0_later_1 6 rfl rfl)
theorem dX0_later_33 : decode cX0_later 33 = .ok (.iload_n 2, 1) := dk_28 (dk_at dksX0_later_1 9 rfl rfl)
theorem dX0_later_34 : decode cX0_later 34 = .ok (.aaload, 1) := dk_50 (dk_at dksX0_later_1 10 rfl rfl)
theorem dX0_later_35 : decode cX0_later 35 = .ok (.getfield 127, 3) := dk_180 0 127 (dk_at dksX0_later_1 11 rfl rfl)
theorem dX0_later_38 : decode cX0_later 38 = .ok (.istore 4, 2) := dk_54 4 (dk_at dksX0_later_1 14 rfl rfl)
theorem dX0_later_40 : decode cX0_later 40 = .ok (.bipush (-2), 2) := dk_16 254 (dk_at dksX0_later_1 16 rfl rfl)
theorem dX0_later_42 : decode cX0_later 42 = .ok (.istore 5, 2) := dk_54 5 (dk_at dksX0_later_1 18 rfl rfl)
theorem dX0_later_44 : decode cX0_later 44 = .ok (.iconst 0, 1) := dk_3 (dk_at dksX0_later_1 20 rfl rfl)
theorem dX0_later_45 : decode cX0_later 45 = .ok (.istore 6, 2) := dk_54 6 (dk_at dksX0_later_1 21 rfl rfl)
theorem dX0_later_47 : decode cX0_later 47 = .ok (.iload 6, 2) := dk_21 6 (dk_at dksX0_later_2 0 rfl rfl)
theorem dX0_later_49 : decode cX0_later 49 = .ok (.bipush 99, 2) := dk_16 99 (dk_at dksX0_later_2 2 rfl rfl)
theorem dX0_later_51 : decode cX0_later 51 = .ok (.if_icmp .gt 38, 3) := dk_163 0 38 (dk_at dksX0_later_2 4 rfl rfl)
theorem dX0_later_54 : decode cX0_later 54 = .ok (.iload 5, 2) := dk_21 5 (dk_at dksX0_later_2 7 rfl rfl)
theorem dX0_later_56 : decode cX0_later 56 = .ok (.ifCond .ge 33, 3) := dk_156 0 33 (dk_at dksX0_later_2 9 rfl rfl)
theorem dX0_later_59 : decode cX0_later 59 = .ok (.aload_n 0, 1) := dk_42 (dk_at dksX0_later_2 12 rfl rfl)
theorem dX0_later_60 : decode cX0_later 60 = .ok (.getfield 11, 3) := dk_180 0 11 (dk_at dksX0_later_2 13 rfl rfl)
theorem dX0_later_63 : decode cX0_later 63 = .ok (.iload_n 2, 1) := dk_28 (dk_at dksX0_later_2 16 rfl rfl)
theorem dX0_later_64 : decode cX0_later 64 = .ok (.aaload, 1) := dk_50 (dk_at dksX0_later_2 17 rfl rfl)
theorem dX0_later_65 : decode cX0_later 65 = .ok (.iload 6, 2) := dk_21 6 (dk_at dksX0_later_2 18 rfl rfl)
theorem dX0_later_67 : decode cX0_later 67 = .ok (.putfield 127, 3) := dk_181 0 127 (dk_at dksX0_later_2 20 rfl rfl)
theorem dX0_later_70 : decode cX0_later 70 = .ok (.aload_n 0, 1) := dk_42 (dk_at dksX0_later_2 23 rfl rfl)
theorem dX0_later_71 : decode cX0_later 71 = .ok (.invokevirtual 379, 3) := dk_182 1 123 (dk_at dksX0_later_3 0 rfl rfl)
theorem dX0_later_74 : decode cX0_later 74 = .ok (.bipush (-2), 2) := dk_16 254 (dk_at dksX0_later_3 3 rfl rfl)
theorem dX0_later_76 : decode cX0_later 76 = .ok (.if_icmp .ne 7, 3) := dk_160 0 7 (dk_at dksX0_later_3 5 rfl rfl)
theorem dX0_later_79 : decode cX0_later 79 = .ok (.iload 6, 2) := dk_21 6 (dk_at dksX0_later_3 8 rfl rfl)
theorem dX0_later_81 : decode cX0_later 81 = .ok (.istore 5, 2) := dk_54 5 (dk_at dksX0_later_3 10 rfl rfl)
theorem dX0_later_83 : decode cX0_later 83 = .ok (.iinc 6 1, 3) := dk_132 6 1 (dk_at dksX0_later_3 12 rfl rfl)
theorem dX0_later_86 : decode cX0_later 86 = .ok (.goto (-39), 3) := dk_167 255 217 (dk_at dksX0_later_3 15 rfl rfl)
theorem dX0_later_89 : decode cX0_later 89 = .ok (.aload_n 0, 1) := dk_42 (dk_at dksX0_later_3 18 rfl rfl)
theorem dX0_later_90 : decode cX0_later 90 = .ok (.getfield 11, 3) := dk_180 0 11 (dk_at dksX0_later_3 19 rfl rfl)
theorem dX0_later_93 : decode cX0_later 93 = .ok (.iload_n 2, 1) := dk_28 (dk_at dksX0_later_3 22 rfl rfl)
theorem dX0_later_94 : decode cX0_later 94 = .ok (.aaload, 1) := dk_50 (dk_at dksX0_later_3 23 rfl rfl)
theorem dX0_later_95 : decode cX0_later 95 = .ok (.iload 4, 2) := dk_21 4 (dk_at dksX0_later_4 0 rfl rfl)
theorem dX0_later_97 : decode cX0_later 97 = .ok (.putfield 127, 3) := dk_181 0 127 (dk_at dksX0_later_4 2 rfl rfl)
theorem dX0_later_100 : decode cX0_later 100 = .ok (.iload 5, 2) := dk_21 5 (dk_at dksX0_later_4 5 rfl rfl)
theorem dX0_later_102 : decode cX0_later 102 = .ok (.ireturn, 1) := dk_172 (dk_at dksX0_later_4 7 rfl rfl)
abbrev cX0_quicker : ByteArray := prog_1_method_68_code
def yX0_quicker : MethodName := ⟨RX0, "quicker", "(II)I"⟩
def dkwX0_quicker_4 : List UInt8 := [180, 0, 11, 28, 50, 21, 4, 181, 0, 106, 21, 5, 172]
abbrev dktX0_quicker_4 : List UInt8 := dkwX0_quicker_4 ++ []
def dkwX0_quicker_3 : List UInt8 := [181, 0, 106, 42, 182, 1, 123, 16, 254, 160, 0, 7, 21, 6, 54, 5, 132, 6, 1, 167, 255, 215, 42]
abbrev dktX0_quicker_3 : List UInt8 := dkwX0_quicker_3 ++ dktX0_quicker_4
def dkwX0_quicker_2 : List UInt8 := [54, 6, 21, 6, 16, 9, 163, 0, 40, 21, 5, 16, 157, 160, 0, 33, 42, 180, 0, 11, 28, 50, 21, 6]
abbrev dktX0_quicker_2 : List UInt8 := dkwX0_quicker_2 ++ dktX0_quicker_3
def dkwX0_quicker_1 : List UInt8 := [29, 156, 0, 5, 29, 172, 42, 180, 0, 11, 28, 50, 180, 0, 106, 54, 4, 16, 157, 54, 5, 16, 247]
abbrev dktX0_quicker_1 : List UInt8 := dkwX0_quicker_1 ++ dktX0_quicker_2
def dkwX0_quicker_0 : List UInt8 := [27, 184, 1, 117, 153, 0, 11, 42, 28, 182, 0, 156, 154, 0, 6, 18, 174, 172, 42, 27, 182, 1, 120, 62]
abbrev dktX0_quicker_0 : List UInt8 := dkwX0_quicker_0 ++ dktX0_quicker_1
theorem dksX0_quicker_0 : cX0_quicker.data.toList.drop 0 = dktX0_quicker_0 := by decide +kernel
theorem dksX0_quicker_1 : cX0_quicker.data.toList.drop 24 = dktX0_quicker_1 := dk_seg dksX0_quicker_0 24 rfl rfl
theorem dksX0_quicker_2 : cX0_quicker.data.toList.drop 47 = dktX0_quicker_2 := dk_seg dksX0_quicker_1 23 rfl rfl
theorem dksX0_quicker_3 : cX0_quicker.data.toList.drop 71 = dktX0_quicker_3 := dk_seg dksX0_quicker_2 24 rfl rfl
theorem dksX0_quicker_4 : cX0_quicker.data.toList.drop 94 = dktX0_quicker_4 := dk_seg dksX0_quicker_3 23 rfl rfl
theorem dX0_quicker_0 : decode cX0_quicker 0 = .ok (.iload_n 1, 1) := dk_27 (dk_at dksX0_quicker_0 0 rfl rfl)
theorem dX0_quicker_1 : decode cX0_quicker 1 = .ok (.invokestatic 373, 3) := dk_184 1 117 (dk_at dksX0_quicker_0 1 rfl rfl)
theorem dX0_quicker_4 : decode cX0_quicker 4 = .ok (.ifCond .eq 11, 3) := dk_153 0 11 (dk_at dksX0_quicker_0 4 rfl rfl)
theorem dX0_quicker_7 : decode cX0_quicker 7 = .ok (.aload_n 0, 1) := dk_42 (dk_at dksX0_quicker_0 7 rfl rfl)
theorem dX0_quicker_8 : decode cX0_quicker 8 = .ok (.iload_n 2, 1) := dk_28 (dk_at dksX0_quicker_0 8 rfl rfl)
theorem dX0_quicker_9 : decode cX0_quicker 9 = .ok (.invokevirtual 156, 3) := dk_182 0 156 (dk_at dksX0_quicker_0 9 rfl rfl)
theorem dX0_quicker_12 : decode cX0_quicker 12 = .ok (.ifCond .ne 6, 3) := dk_154 0 6 (dk_at dksX0_quicker_0 12 rfl rfl)
theorem dX0_quicker_15 : decode cX0_quicker 15 = .ok (.ldc 174, 2) := dk_18 174 (dk_at dksX0_quicker_0 15 rfl rfl)
theorem dX0_quicker_17 : decode cX0_quicker 17 = .ok (.ireturn, 1) := dk_172 (dk_at dksX0_quicker_0 17 rfl rfl)
theorem dX0_quicker_18 : decode cX0_quicker 18 = .ok (.aload_n 0, 1) := dk_42 (dk_at dksX0_quicker_0 18 rfl rfl)
theorem dX0_quicker_19 : decode cX0_quicker 19 = .ok (.iload_n 1, 1) := dk_27 (dk_at dksX0_quicker_0 19 rfl rfl)
theorem dX0_quicker_20 : decode cX0_quicker 20 = .ok (.invokevirtual 376, 3) := dk_182 1 120 (dk_at dksX0_quicker_0 20 rfl rfl)
theorem dX0_quicker_23 : decode cX0_quicker 23 = .ok (.istore_n 3, 1) := dk_62 (dk_at dksX0_quicker_0 23 rfl rfl)
theorem dX0_quicker_24 : decode cX0_quicker 24 = .ok (.iload_n 3, 1) := dk_29 (dk_at dksX0_quicker_1 0 rfl rfl)
theorem dX0_quicker_25 : decode cX0_quicker 25 = .ok (.ifCond .ge 5, 3) := dk_156 0 5 (dk_at dksX0_quicker_1 1 rfl rfl)
theorem dX0_quicker_28 : decode cX0_quicker 28 = .ok (.iload_n 3, 1) := dk_29 (dk_at dksX0_quicker_1 4 rfl rfl)
theorem dX0_quicker_29 : decode cX0_quicker 29 = .ok (.ireturn, 1) := dk_172 (dk_at dksX0_quicker_1 5 rfl rfl)
theorem dX0_quicker_30 : decode cX0_quicker 30 = .ok (.aload_n 0, 1) := dk_42 (dk_at dksX0_quicker_1 6 rfl rfl)
theorem dX0_quicker_31 : decode cX0_quicker 31 = .ok (.getfield 11, 3) := dk_180 0 11 (dk_at dksX0_quicker_1 7 rfl rfl)
theorem dX0_quicker_34 : decode cX0_quicker 34 = .ok (.iload_n 2, 1) := dk_28 (dk_at dksX0_quicker_1 10 rfl rfl)
theorem dX0_quicker_35 : decode cX0_quicker 35 = .ok (.aaload, 1) := dk_50 (dk_at dksX0_quicker_1 11 rfl rfl)
theorem dX0_quicker_36 : decode cX0_quicker 36 = .ok (.getfield 106, 3) := dk_180 0 106 (dk_at dksX0_quicker_1 12 rfl rfl)
theorem dX0_quicker_39 : decode cX0_quicker 39 = .ok (.istore 4, 2) := dk_54 4 (dk_at dksX0_quicker_1 15 rfl rfl)
theorem dX0_quicker_41 : decode cX0_quicker 41 = .ok (.bipush (-99), 2) := dk_16 157 (dk_at dksX0_quicker_1 17 rfl rfl)
theorem dX0_quicker_43 : decode cX0_quicker 43 = .ok (.istore 5, 2) := dk_54 5 (dk_at dksX0_quicker_1 19 rfl rfl)
theorem dX0_quicker_45 : decode cX0_quicker 45 = .ok (.bipush (-9), 2) := dk_16 247 (dk_at dksX0_quicker_1 21 rfl rfl)
theorem dX0_quicker_47 : decode cX0_quicker 47 = .ok (.istore 6, 2) := dk_54 6 (dk_at dksX0_quicker_2 0 rfl rfl)
theorem dX0_quicker_49 : decode cX0_quicker 49 = .ok (.iload 6, 2) := dk_21 6 (dk_at dksX0_quicker_2 2 rfl rfl)
theorem dX0_quicker_51 : decode cX0_quicker 51 = .ok (.bipush 9, 2) := dk_16 9 (dk_at dksX0_quicker_2 4 rfl rfl)
theorem dX0_quicker_53 : decode cX0_quicker 53 = .ok (.if_icmp .gt 40, 3) := dk_163 0 40 (dk_at dksX0_quicker_2 6 rfl rfl)
theorem dX0_quicker_56 : decode cX0_quicker 56 = .ok (.iload 5, 2) := dk_21 5 (dk_at dksX0_quicker_2 9 rfl rfl)
theorem dX0_quicker_58 : decode cX0_quicker 58 = .ok (.bipush (-99), 2) := dk_16 157 (dk_at dksX0_quicker_2 11 rfl rfl)
theorem dX0_quicker_60 : decode cX0_quicker 60 = .ok (.if_icmp .ne 33, 3) := dk_160 0 33 (dk_at dksX0_quicker_2 13 rfl rfl)
theorem dX0_quicker_63 : decode cX0_quicker 63 = .ok (.aload_n 0, 1) := dk_42 (dk_at dksX0_quicker_2 16 rfl rfl)
theorem dX0_quicker_64 : decode cX0_quicker 64 = .ok (.getfield 11, 3) := dk_180 0 11 (dk_at dksX0_quicker_2 17 rfl rfl)
theorem dX0_quicker_67 : decode cX0_quicker 67 = .ok (.iload_n 2, 1) := dk_28 (dk_at dksX0_quicker_2 20 rfl rfl)
theorem dX0_quicker_68 : decode cX0_quicker 68 = .ok (.aaload, 1) := dk_50 (dk_at dksX0_quicker_2 21 rfl rfl)
theorem dX0_quicker_69 : decode cX0_quicker 69 = .ok (.iload 6, 2) := dk_21 6 (dk_at dksX0_quicker_2 22 rfl rfl)
theorem dX0_quicker_71 : decode cX0_quicker 71 = .ok (.putfield 106, 3) := dk_181 0 106 (dk_at dksX0_quicker_3 0 rfl rfl)
theorem dX0_quicker_74 : decode cX0_quicker 74 = .ok (.aload_n 0, 1) := dk_42 (dk_at dksX0_quicker_3 3 rfl rfl)
theorem dX0_quicker_75 : decode cX0_quicker 75 = .ok (.invokevirtual 379, 3) := dk_182 1 123 (dk_at dksX0_quicker_3 4 rfl rfl)
theorem dX0_quicker_78 : decode cX0_quicker 78 = .ok (.bipush (-2), 2) := dk_16 254 (dk_at dksX0_quicker_3 7 rfl rfl)
theorem dX0_quicker_80 : decode cX0_quicker 80 = .ok (.if_icmp .ne 7, 3) := dk_160 0 7 (dk_at dksX0_quicker_3 9 rfl rfl)
theorem dX0_quicker_83 : decode cX0_quicker 83 = .ok (.iload 6, 2) := dk_21 6 (dk_at dksX0_quicker_3 12 rfl rfl)
theorem dX0_quicker_85 : decode cX0_quicker 85 = .ok (.istore 5, 2) := dk_54 5 (dk_at dksX0_quicker_3 14 rfl rfl)
theorem dX0_quicker_87 : decode cX0_quicker 87 = .ok (.iinc 6 1, 3) := dk_132 6 1 (dk_at dksX0_quicker_3 16 rfl rfl)
theorem dX0_quicker_90 : decode cX0_quicker 90 = .ok (.goto (-41), 3) := dk_167 255 215 (dk_at dksX0_quicker_3 19 rfl rfl)
theorem dX0_quicker_93 : decode cX0_quicker 93 = .ok (.aload_n 0, 1) := dk_42 (dk_at dksX0_quicker_3 22 rfl rfl)
theorem dX0_quicker_94 : decode cX0_quicker 94 = .ok (.getfield 11, 3) := dk_180 0 11 (dk_at dksX0_quicker_4 0 rfl rfl)
theorem dX0_quicker_97 : decode cX0_quicker 97 = .ok (.iload_n 2, 1) := dk_28 (dk_at dksX0_quicker_4 3 rfl rfl)
theorem dX0_quicker_98 : decode cX0_quicker 98 = .ok (.aaload, 1) := dk_50 (dk_at dksX0_quicker_4 4 rfl rfl)
theorem dX0_quicker_99 : decode cX0_quicker 99 = .ok (.iload 4, 2) := dk_21 4 (dk_at dksX0_quicker_4 5 rfl rfl)
theorem dX0_quicker_101 : decode cX0_quicker 101 = .ok (.putfield 106, 3) := dk_181 0 106 (dk_at dksX0_quicker_4 7 rfl rfl)
theorem dX0_quicker_104 : decode cX0_quicker 104 = .ok (.iload 5, 2) := dk_21 5 (dk_at dksX0_quicker_4 10 rfl rfl)
theorem dX0_quicker_106 : decode cX0_quicker 106 = .ok (.ireturn, 1) := dk_172 (dk_at dksX0_quicker_4 12 rfl rfl)
abbrev cX0_drawn : ByteArray := prog_1_method_69_code
def yX0_drawn : MethodName := ⟨RX0, "drawn", "(IIII)I"⟩
def dkwX0_drawn_9 : List UInt8 := [21, 7, 167, 0, 5, 21, 8, 172]
abbrev dktX0_drawn_9 : List UInt8 := dkwX0_drawn_9 ++ []
def dkwX0_drawn_8 : List UInt8 := [21, 10, 154, 0, 7, 4, 167, 0, 4, 3, 96, 54, 8, 132, 9, 1, 167, 255, 124, 21, 4, 154, 0, 8]
abbrev dktX0_drawn_8 : List UInt8 := dkwX0_drawn_8 ++ dktX0_drawn_9
def dkwX0_drawn_7 : List UInt8 := [42, 21, 11, 182, 1, 16, 96, 54, 10, 132, 11, 1, 167, 255, 171, 21, 7, 21, 10, 96, 54, 7, 21, 8]
abbrev dktX0_drawn_7 : List UInt8 := dkwX0_drawn_7 ++ dktX0_drawn_8
def dkwX0_drawn_6 : List UInt8 := [180, 0, 43, 21, 12, 92, 46, 4, 96, 79, 132, 12, 1, 167, 255, 206, 42, 21, 11, 182, 1, 12, 21, 10]
abbrev dktX0_drawn_6 : List UInt8 := dkwX0_drawn_6 ++ dktX0_drawn_7
def dkwX0_drawn_5 : List UInt8 := [17, 48, 57, 96, 54, 6, 21, 6, 16, 8, 124, 16, 12, 112, 29, 16, 100, 112, 162, 0, 14, 42]
abbrev dktX0_drawn_5 : List UInt8 := dkwX0_drawn_5 ++ dktX0_drawn_6
def dkwX0_drawn_4 : List UInt8 := [180, 0, 247, 162, 0, 82, 3, 54, 12, 21, 12, 42, 180, 0, 79, 162, 0, 47, 21, 6, 19, 1, 126, 104]
abbrev dktX0_drawn_4 : List UInt8 := dkwX0_drawn_4 ++ dktX0_drawn_5
def dkwX0_drawn_3 : List UInt8 := [54, 9, 21, 9, 29, 16, 100, 108, 162, 0, 129, 42, 182, 1, 9, 3, 54, 10, 3, 54, 11, 21, 11, 42]
abbrev dktX0_drawn_3 : List UInt8 := dkwX0_drawn_3 ++ dktX0_drawn_4
def dkwX0_drawn_2 : List UInt8 := [182, 1, 25, 54, 5, 21, 5, 156, 0, 6, 21, 5, 172, 28, 54, 6, 3, 54, 7, 3, 54, 8, 3]
abbrev dktX0_drawn_2 : List UInt8 := dkwX0_drawn_2 ++ dktX0_drawn_3
def dkwX0_drawn_1 : List UInt8 := [29, 16, 100, 112, 16, 12, 163, 0, 13, 21, 4, 3, 4, 184, 0, 82, 154, 0, 5, 2, 172, 42, 27]
abbrev dktX0_drawn_1 : List UInt8 := dkwX0_drawn_1 ++ dktX0_drawn_2
def dkwX0_drawn_0 : List UInt8 := [27, 184, 0, 97, 153, 0, 39, 29, 155, 0, 35, 29, 16, 100, 108, 4, 16, 30, 184, 0, 82, 153, 0, 22]
abbrev dktX0_drawn_0 : List UInt8 := dkwX0_drawn_0 ++ dktX0_drawn_1
theorem dksX0_drawn_0 : cX0_drawn.data.toList.drop 0 = dktX0_drawn_0 := by decide +kernel
theorem dksX0_drawn_1 : cX0_drawn.data.toList.drop 24 = dktX0_drawn_1 := dk_seg dksX0_drawn_0 24 rfl rfl
theorem dksX0_drawn_2 : cX0_drawn.data.toList.drop 47 = dktX0_drawn_2 := dk_seg dksX0_drawn_1 23 rfl rfl
theorem dksX0_drawn_3 : cX0_drawn.data.toList.drop 70 = dktX0_drawn_3 := dk_seg dksX0_drawn_2 23 rfl rfl
theorem dksX0_drawn_4 : cX0_drawn.data.toList.drop 94 = dktX0_drawn_4 := dk_seg dksX0_drawn_3 24 rfl rfl
theorem dksX0_drawn_5 : cX0_drawn.data.toList.drop 118 = dktX0_drawn_5 := dk_seg dksX0_drawn_4 24 rfl rfl
theorem dksX0_drawn_6 : cX0_drawn.data.toList.drop 140 = dktX0_drawn_6 := dk_seg dksX0_drawn_5 22 rfl rfl
theorem dksX0_drawn_7 : cX0_drawn.data.toList.drop 164 = dktX0_drawn_7 := dk_seg dksX0_drawn_6 24 rfl rfl
theorem dksX0_drawn_8 : cX0_drawn.data.toList.drop 188 = dktX0_drawn_8 := dk_seg dksX0_drawn_7 24 rfl rfl
theorem dksX0_drawn_9 : cX0_drawn.data.toList.drop 212 = dktX0_drawn_9 := dk_seg dksX0_drawn_8 24 rfl rfl
theorem dX0_drawn_0 : decode cX0_drawn 0 = .ok (.iload_n 1, 1) := dk_27 (dk_at dksX0_drawn_0 0 rfl rfl)
theorem dX0_drawn_1 : decode cX0_drawn 1 = .ok (.invokestatic 97, 3) := dk_184 0 97 (dk_at dksX0_drawn_0 1 rfl rfl)
theorem dX0_drawn_4 : decode cX0_drawn 4 = .ok (.ifCond .eq 39, 3) := dk_153 0 39 (dk_at dksX0_drawn_0 4 rfl rfl)
theorem dX0_drawn_7 : decode cX0_drawn 7 = .ok (.iload_n 3, 1) := dk_29 (dk_at dksX0_drawn_0 7 rfl rfl)
theorem dX0_drawn_8 : decode cX0_drawn 8 = .ok (.ifCond .lt 35, 3) := dk_155 0 35 (dk_at dksX0_drawn_0 8 rfl rfl)
theorem dX0_drawn_11 : decode cX0_drawn 11 = .ok (.iload_n 3, 1) := dk_29 (dk_at dksX0_drawn_0 11 rfl rfl)
theorem dX0_drawn_12 : decode cX0_drawn 12 = .ok (.bipush 100, 2) := dk_16 100 (dk_at dksX0_drawn_0 12 rfl rfl)
theorem dX0_drawn_14 : decode cX0_drawn 14 = .ok (.idiv, 1) := dk_108 (dk_at dksX0_drawn_0 14 rfl rfl)
theorem dX0_drawn_15 : decode cX0_drawn 15 = .ok (.iconst 1, 1) := dk_4 (dk_at dksX0_drawn_0 15 rfl rfl)
theorem dX0_drawn_16 : decode cX0_drawn 16 = .ok (.bipush 30, 2) := dk_16 30 (dk_at dksX0_drawn_0 16 rfl rfl)
theorem dX0_drawn_18 : decode cX0_drawn 18 = .ok (.invokestatic 82, 3) := dk_184 0 82 (dk_at dksX0_drawn_0 18 rfl rfl)
theorem dX0_drawn_21 : decode cX0_drawn 21 = .ok (.ifCond .eq 22, 3) := dk_153 0 22 (dk_at dksX0_drawn_0 21 rfl rfl)
theorem dX0_drawn_24 : decode cX0_drawn 24 = .ok (.iload_n 3, 1) := dk_29 (dk_at dksX0_drawn_1 0 rfl rfl)
theorem dX0_drawn_25 : decode cX0_drawn 25 = .ok (.bipush 100, 2) := dk_16 100 (dk_at dksX0_drawn_1 1 rfl rfl)
theorem dX0_drawn_27 : decode cX0_drawn 27 = .ok (.irem, 1) := dk_112 (dk_at dksX0_drawn_1 3 rfl rfl)
theorem dX0_drawn_28 : decode cX0_drawn 28 = .ok (.bipush 12, 2) := dk_16 12 (dk_at dksX0_drawn_1 4 rfl rfl)
theorem dX0_drawn_30 : decode cX0_drawn 30 = .ok (.if_icmp .gt 13, 3) := dk_163 0 13 (dk_at dksX0_drawn_1 6 rfl rfl)
theorem dX0_drawn_33 : decode cX0_drawn 33 = .ok (.iload 4, 2) := dk_21 4 (dk_at dksX0_drawn_1 9 rfl rfl)
theorem dX0_drawn_35 : decode cX0_drawn 35 = .ok (.iconst 0, 1) := dk_3 (dk_at dksX0_drawn_1 11 rfl rfl)
theorem dX0_drawn_36 : decode cX0_drawn 36 = .ok (.iconst 1, 1) := dk_4 (dk_at dksX0_drawn_1 12 rfl rfl)
theorem dX0_drawn_37 : decode cX0_drawn 37 = .ok (.invokestatic 82, 3) := dk_184 0 82 (dk_at dksX0_drawn_1 13 rfl rfl)
theorem dX0_drawn_40 : decode cX0_drawn 40 = .ok (.ifCond .ne 5, 3) := dk_154 0 5 (dk_at dksX0_drawn_1 16 rfl rfl)
theorem dX0_drawn_43 : decode cX0_drawn 43 = .ok (.iconst (-1), 1) := dk_2 (dk_at dksX0_drawn_1 19 rfl rfl)
theorem dX0_drawn_44 : decode cX0_drawn 44 = .ok (.ireturn, 1) := dk_172 (dk_at dksX0_drawn_1 20 rfl rfl)
theorem dX0_drawn_45 : decode cX0_drawn 45 = .ok (.aload_n 0, 1) := dk_42 (dk_at dksX0_drawn_1 21 rfl rfl)
theorem dX0_drawn_46 : decode cX0_drawn 46 = .ok (.iload_n 1, 1) := dk_27 (dk_at dksX0_drawn_1 22 rfl rfl)
theorem dX0_drawn_47 : decode cX0_drawn 47 = .ok (.invokevirtual 281, 3) := dk_182 1 25 (dk_at dksX0_drawn_2 0 rfl rfl)
theorem dX0_drawn_50 : decode cX0_drawn 50 = .ok (.istore 5, 2) := dk_54 5 (dk_at dksX0_drawn_2 3 rfl rfl)
theorem dX0_drawn_52 : decode cX0_drawn 52 = .ok (.iload 5, 2) := dk_21 5 (dk_at dksX0_drawn_2 5 rfl rfl)
theorem dX0_drawn_54 : decode cX0_drawn 54 = .ok (.ifCond .ge 6, 3) := dk_156 0 6 (dk_at dksX0_drawn_2 7 rfl rfl)
theorem dX0_drawn_57 : decode cX0_drawn 57 = .ok (.iload 5, 2) := dk_21 5 (dk_at dksX0_drawn_2 10 rfl rfl)
theorem dX0_drawn_59 : decode cX0_drawn 59 = .ok (.ireturn, 1) := dk_172 (dk_at dksX0_drawn_2 12 rfl rfl)
theorem dX0_drawn_60 : decode cX0_drawn 60 = .ok (.iload_n 2, 1) := dk_28 (dk_at dksX0_drawn_2 13 rfl rfl)
theorem dX0_drawn_61 : decode cX0_drawn 61 = .ok (.istore 6, 2) := dk_54 6 (dk_at dksX0_drawn_2 14 rfl rfl)
theorem dX0_drawn_63 : decode cX0_drawn 63 = .ok (.iconst 0, 1) := dk_3 (dk_at dksX0_drawn_2 16 rfl rfl)
theorem dX0_drawn_64 : decode cX0_drawn 64 = .ok (.istore 7, 2) := dk_54 7 (dk_at dksX0_drawn_2 17 rfl rfl)
theorem dX0_drawn_66 : decode cX0_drawn 66 = .ok (.iconst 0, 1) := dk_3 (dk_at dksX0_drawn_2 19 rfl rfl)
theorem dX0_drawn_67 : decode cX0_drawn 67 = .ok (.istore 8, 2) := dk_54 8 (dk_at dksX0_drawn_2 20 rfl rfl)
theorem dX0_drawn_69 : decode cX0_drawn 69 = .ok (.iconst 0, 1) := dk_3 (dk_at dksX0_drawn_2 22 rfl rfl)
theorem dX0_drawn_70 : decode cX0_drawn 70 = .ok (.istore 9, 2) := dk_54 9 (dk_at dksX0_drawn_3 0 rfl rfl)
theorem dX0_drawn_72 : decode cX0_drawn 72 = .ok (.iload 9, 2) := dk_21 9 (dk_at dksX0_drawn_3 2 rfl rfl)
theorem dX0_drawn_74 : decode cX0_drawn 74 = .ok (.iload_n 3, 1) := dk_29 (dk_at dksX0_drawn_3 4 rfl rfl)
theorem dX0_drawn_75 : decode cX0_drawn 75 = .ok (.bipush 100, 2) := dk_16 100 (dk_at dksX0_drawn_3 5 rfl rfl)
theorem dX0_drawn_77 : decode cX0_drawn 77 = .ok (.idiv, 1) := dk_108 (dk_at dksX0_drawn_3 7 rfl rfl)
theorem dX0_drawn_78 : decode cX0_drawn 78 = .ok (.if_icmp .ge 129, 3) := dk_162 0 129 (dk_at dksX0_drawn_3 8 rfl rfl)
theorem dX0_drawn_81 : decode cX0_drawn 81 = .ok (.aload_n 0, 1) := dk_42 (dk_at dksX0_drawn_3 11 rfl rfl)
theorem dX0_drawn_82 : decode cX0_drawn 82 = .ok (.invokevirtual 265, 3) := dk_182 1 9 (dk_at dksX0_drawn_3 12 rfl rfl)
theorem dX0_drawn_85 : decode cX0_drawn 85 = .ok (.iconst 0, 1) := dk_3 (dk_at dksX0_drawn_3 15 rfl rfl)
theorem dX0_drawn_86 : decode cX0_drawn 86 = .ok (.istore 10, 2) := dk_54 10 (dk_at dksX0_drawn_3 16 rfl rfl)
theorem dX0_drawn_88 : decode cX0_drawn 88 = .ok (.iconst 0, 1) := dk_3 (dk_at dksX0_drawn_3 18 rfl rfl)
theorem dX0_drawn_89 : decode cX0_drawn 89 = .ok (.istore 11, 2) := dk_54 11 (dk_at dksX0_drawn_3 19 rfl rfl)
theorem dX0_drawn_91 : decode cX0_drawn 91 = .ok (.iload 11, 2) := dk_21 11 (dk_at dksX0_drawn_3 21 rfl rfl)
theorem dX0_drawn_93 : decode cX0_drawn 93 = .ok (.aload_n 0, 1) := dk_42 (dk_at dksX0_drawn_3 23 rfl rfl)
theorem dX0_drawn_94 : decode cX0_drawn 94 = .ok (.getfield 247, 3) := dk_180 0 247 (dk_at dksX0_drawn_4 0 rfl rfl)
theorem dX0_drawn_97 : decode cX0_drawn 97 = .ok (.if_icmp .ge 82, 3) := dk_162 0 82 (dk_at dksX0_drawn_4 3 rfl rfl)
theorem dX0_drawn_100 : decode cX0_drawn 100 = .ok (.iconst 0, 1) := dk_3 (dk_at dksX0_drawn_4 6 rfl rfl)
theorem dX0_drawn_101 : decode cX0_drawn 101 = .ok (.istore 12, 2) := dk_54 12 (dk_at dksX0_drawn_4 7 rfl rfl)
theorem dX0_drawn_103 : decode cX0_drawn 103 = .ok (.iload 12, 2) := dk_21 12 (dk_at dksX0_drawn_4 9 rfl rfl)
theorem dX0_drawn_105 : decode cX0_drawn 105 = .ok (.aload_n 0, 1) := dk_42 (dk_at dksX0_drawn_4 11 rfl rfl)
theorem dX0_drawn_106 : decode cX0_drawn 106 = .ok (.getfield 79, 3) := dk_180 0 79 (dk_at dksX0_drawn_4 12 rfl rfl)
theorem dX0_drawn_109 : decode cX0_drawn 109 = .ok (.if_icmp .ge 47, 3) := dk_162 0 47 (dk_at dksX0_drawn_4 15 rfl rfl)
theorem dX0_drawn_112 : decode cX0_drawn 112 = .ok (.iload 6, 2) := dk_21 6 (dk_at dksX0_drawn_4 18 rfl rfl)
theorem dX0_drawn_114 : decode cX0_drawn 114 = .ok (.ldc_w 382, 3) := dk_19 1 126 (dk_at dksX0_drawn_4 20 rfl rfl)
theorem dX0_drawn_117 : decode cX0_drawn 117 = .ok (.imul, 1) := dk_104 (dk_at dksX0_drawn_4 23 rfl rfl)
theorem dX0_drawn_118 : decode cX0_drawn 118 = .ok (.sipush 12345, 3) := dk_17 48 57 (dk_at dksX0_drawn_5 0 rfl rfl)
theorem dX0_drawn_121 : decode cX0_drawn 121 = .ok (.iadd, 1) := dk_96 (dk_at dksX0_drawn_5 3 rfl rfl)
theorem dX0_drawn_122 : decode cX0_drawn 122 = .ok (.istore 6, 2) := dk_54 6 (dk_at dksX0_drawn_5 4 rfl rfl)
theorem dX0_drawn_124 : decode cX0_drawn 124 = .ok (.iload 6, 2) := dk_21 6 (dk_at dksX0_drawn_5 6 rfl rfl)
theorem dX0_drawn_126 : decode cX0_drawn 126 = .ok (.bipush 8, 2) := dk_16 8 (dk_at dksX0_drawn_5 8 rfl rfl)
theorem dX0_drawn_128 : decode cX0_drawn 128 = .ok (.iushr, 1) := dk_124 (dk_at dksX0_drawn_5 10 rfl rfl)
theorem dX0_drawn_129 : decode cX0_drawn 129 = .ok (.bipush 12, 2) := dk_16 12 (dk_at dksX0_drawn_5 11 rfl rfl)
theorem dX0_drawn_131 : decode cX0_drawn 131 = .ok (.irem, 1) := dk_112 (dk_at dksX0_drawn_5 13 rfl rfl)
theorem dX0_drawn_132 : decode cX0_drawn 132 = .ok (.iload_n 3, 1) := dk_29 (dk_at dksX0_drawn_5 14 rfl rfl)
theorem dX0_drawn_133 : decode cX0_drawn 133 = .ok (.bipush 100, 2) := dk_16 100 (dk_at dksX0_drawn_5 15 rfl rfl)
theorem dX0_drawn_135 : decode cX0_drawn 135 = .ok (.irem, 1) := dk_112 (dk_at dksX0_drawn_5 17 rfl rfl)
theorem dX0_drawn_136 : decode cX0_drawn 136 = .ok (.if_icmp .ge 14, 3) := dk_162 0 14 (dk_at dksX0_drawn_5 18 rfl rfl)
theorem dX0_drawn_139 : decode cX0_drawn 139 = .ok (.aload_n 0, 1) := dk_42 (dk_at dksX0_drawn_5 21 rfl rfl)
theorem dX0_drawn_140 : decode cX0_drawn 140 = .ok (.getfield 43, 3) := dk_180 0 43 (dk_at dksX0_drawn_6 0 rfl rfl)
theorem dX0_drawn_143 : decode cX0_drawn 143 = .ok (.iload 12, 2) := dk_21 12 (dk_at dksX0_drawn_6 3 rfl rfl)
theorem dX0_drawn_145 : decode cX0_drawn 145 = .ok (.dup2, 1) := dk_92 (dk_at dksX0_drawn_6 5 rfl rfl)
theorem dX0_drawn_146 : decode cX0_drawn 146 = .ok (.iaload, 1) := dk_46 (dk_at dksX0_drawn_6 6 rfl rfl)
theorem dX0_drawn_147 : decode cX0_drawn 147 = .ok (.iconst 1, 1) := dk_4 (dk_at dksX0_drawn_6 7 rfl rfl)
theorem dX0_drawn_148 : decode cX0_drawn 148 = .ok (.iadd, 1) := dk_96 (dk_at dksX0_drawn_6 8 rfl rfl)
theorem dX0_drawn_149 : decode cX0_drawn 149 = .ok (.iastore, 1) := dk_79 (dk_at dksX0_drawn_6 9 rfl rfl)
theorem dX0_drawn_150 : decode cX0_drawn 150 = .ok (.iinc 12 1, 3) := dk_132 12 1 (dk_at dksX0_drawn_6 10 rfl rfl)
theorem dX0_drawn_153 : decode cX0_drawn 153 = .ok (.goto (-50), 3) := dk_167 255 206 (dk_at dksX0_drawn_6 13 rfl rfl)
theorem dX0_drawn_156 : decode cX0_drawn 156 = .ok (.aload_n 0, 1) := dk_42 (dk_at dksX0_drawn_6 16 rfl rfl)
theorem dX0_drawn_157 : decode cX0_drawn 157 = .ok (.iload 11, 2) := dk_21 11 (dk_at dksX0_drawn_6 17 rfl rfl)
theorem dX0_drawn_159 : decode cX0_drawn 159 = .ok (.invokevirtual 268, 3) := dk_182 1 12 (dk_at dksX0_drawn_6 19 rfl rfl)
theorem dX0_drawn_162 : decode cX0_drawn 162 = .ok (.iload 10, 2) := dk_21 10 (dk_at dksX0_drawn_6 22 rfl rfl)
theorem dX0_drawn_164 : decode cX0_drawn 164 = .ok (.aload_n 0, 1) := dk_42 (dk_at dksX0_drawn_7 0 rfl rfl)
theorem dX0_drawn_165 : decode cX0_drawn 165 = .ok (.iload 11, 2) := dk_21 11 (dk_at dksX0_drawn_7 1 rfl rfl)
theorem dX0_drawn_167 : decode cX0_drawn 167 = .ok (.invokevirtual 272, 3) := dk_182 1 16 (dk_at dksX0_drawn_7 3 rfl rfl)
theorem dX0_drawn_170 : decode cX0_drawn 170 = .ok (.iadd, 1) := dk_96 (dk_at dksX0_drawn_7 6 rfl rfl)
theorem dX0_drawn_171 : decode cX0_drawn 171 = .ok (.istore 10, 2) := dk_54 10 (dk_at dksX0_drawn_7 7 rfl rfl)
theorem dX0_drawn_173 : decode cX0_drawn 173 = .ok (.iinc 11 1, 3) := dk_132 11 1 (dk_at dksX0_drawn_7 9 rfl rfl)
theorem dX0_drawn_176 : decode cX0_drawn 176 = .ok (.goto (-85), 3) := dk_167 255 171 (dk_at dksX0_drawn_7 12 rfl rfl)
theorem dX0_drawn_179 : decode cX0_drawn 179 = .ok (.iload 7, 2) := dk_21 7 (dk_at dksX0_drawn_7 15 rfl rfl)
theorem dX0_drawn_181 : decode cX0_drawn 181 = .ok (.iload 10, 2) := dk_21 10 (dk_at dksX0_drawn_7 17 rfl rfl)
theorem dX0_drawn_183 : decode cX0_drawn 183 = .ok (.iadd, 1) := dk_96 (dk_at dksX0_drawn_7 19 rfl rfl)
theorem dX0_drawn_184 : decode cX0_drawn 184 = .ok (.istore 7, 2) := dk_54 7 (dk_at dksX0_drawn_7 20 rfl rfl)
theorem dX0_drawn_186 : decode cX0_drawn 186 = .ok (.iload 8, 2) := dk_21 8 (dk_at dksX0_drawn_7 22 rfl rfl)
theorem dX0_drawn_188 : decode cX0_drawn 188 = .ok (.iload 10, 2) := dk_21 10 (dk_at dksX0_drawn_8 0 rfl rfl)
theorem dX0_drawn_190 : decode cX0_drawn 190 = .ok (.ifCond .ne 7, 3) := dk_154 0 7 (dk_at dksX0_drawn_8 2 rfl rfl)
theorem dX0_drawn_193 : decode cX0_drawn 193 = .ok (.iconst 1, 1) := dk_4 (dk_at dksX0_drawn_8 5 rfl rfl)
theorem dX0_drawn_194 : decode cX0_drawn 194 = .ok (.goto 4, 3) := dk_167 0 4 (dk_at dksX0_drawn_8 6 rfl rfl)
theorem dX0_drawn_197 : decode cX0_drawn 197 = .ok (.iconst 0, 1) := dk_3 (dk_at dksX0_drawn_8 9 rfl rfl)
theorem dX0_drawn_198 : decode cX0_drawn 198 = .ok (.iadd, 1) := dk_96 (dk_at dksX0_drawn_8 10 rfl rfl)
theorem dX0_drawn_199 : decode cX0_drawn 199 = .ok (.istore 8, 2) := dk_54 8 (dk_at dksX0_drawn_8 11 rfl rfl)
theorem dX0_drawn_201 : decode cX0_drawn 201 = .ok (.iinc 9 1, 3) := dk_132 9 1 (dk_at dksX0_drawn_8 13 rfl rfl)
theorem dX0_drawn_204 : decode cX0_drawn 204 = .ok (.goto (-132), 3) := dk_167 255 124 (dk_at dksX0_drawn_8 16 rfl rfl)
theorem dX0_drawn_207 : decode cX0_drawn 207 = .ok (.iload 4, 2) := dk_21 4 (dk_at dksX0_drawn_8 19 rfl rfl)
theorem dX0_drawn_209 : decode cX0_drawn 209 = .ok (.ifCond .ne 8, 3) := dk_154 0 8 (dk_at dksX0_drawn_8 21 rfl rfl)
theorem dX0_drawn_212 : decode cX0_drawn 212 = .ok (.iload 7, 2) := dk_21 7 (dk_at dksX0_drawn_9 0 rfl rfl)
theorem dX0_drawn_214 : decode cX0_drawn 214 = .ok (.goto 5, 3) := dk_167 0 5 (dk_at dksX0_drawn_9 2 rfl rfl)
theorem dX0_drawn_217 : decode cX0_drawn 217 = .ok (.iload 8, 2) := dk_21 8 (dk_at dksX0_drawn_9 5 rfl rfl)
theorem dX0_drawn_219 : decode cX0_drawn 219 = .ok (.ireturn, 1) := dk_172 (dk_at dksX0_drawn_9 7 rfl rfl)
abbrev cX0_swim : ByteArray := prog_1_method_71_code
def yX0_swim : MethodName := ⟨RX0, "swim", "(I)I"⟩
def dkwX0_swim_7 : List UInt8 := [132, 5, 1, 167, 255, 161, 29, 172]
abbrev dktX0_swim_7 : List UInt8 := dkwX0_swim_7 ++ []
def dkwX0_swim_6 : List UInt8 := [162, 0, 6, 167, 0, 19, 25, 6, 3, 181, 0, 175, 42, 89, 180, 1, 142, 4, 96, 181, 1, 142]
abbrev dktX0_swim_6 : List UInt8 := dkwX0_swim_6 ++ dktX0_swim_7
def dkwX0_swim_5 : List UInt8 := [4, 96, 181, 0, 178, 42, 89, 180, 1, 139, 4, 96, 181, 1, 139, 25, 6, 180, 0, 175, 16, 100]
abbrev dktX0_swim_5 : List UInt8 := dkwX0_swim_5 ++ dktX0_swim_6
def dkwX0_swim_4 : List UInt8 := [42, 182, 1, 136, 96, 181, 0, 175, 21, 4, 21, 5, 184, 1, 59, 153, 0, 24, 25, 6, 89, 180, 0, 178]
abbrev dktX0_swim_4 : List UInt8 := dkwX0_swim_4 ++ dktX0_swim_5
def dkwX0_swim_3 : List UInt8 := [21, 5, 42, 180, 0, 79, 162, 0, 92, 42, 180, 0, 11, 21, 5, 50, 58, 6, 25, 6, 89, 180, 0, 175]
abbrev dktX0_swim_3 : List UInt8 := dkwX0_swim_3 ++ dktX0_swim_4
def dkwX0_swim_2 : List UInt8 := [180, 1, 130, 42, 180, 0, 247, 96, 181, 1, 130, 42, 89, 180, 1, 133, 29, 96, 181, 1, 133, 3, 54, 5]
abbrev dktX0_swim_2 : List UInt8 := dkwX0_swim_2 ++ dktX0_swim_3
def dkwX0_swim_1 : List UInt8 := [182, 1, 22, 62, 42, 182, 1, 49, 54, 4, 42, 89, 180, 1, 127, 4, 96, 181, 1, 127, 42, 89]
abbrev dktX0_swim_1 : List UInt8 := dkwX0_swim_1 ++ dktX0_swim_2
def dkwX0_swim_0 : List UInt8 := [27, 184, 0, 97, 154, 0, 5, 2, 172, 42, 27, 182, 1, 25, 61, 28, 156, 0, 5, 28, 172, 42]
abbrev dktX0_swim_0 : List UInt8 := dkwX0_swim_0 ++ dktX0_swim_1
theorem dksX0_swim_0 : cX0_swim.data.toList.drop 0 = dktX0_swim_0 := by decide +kernel
theorem dksX0_swim_1 : cX0_swim.data.toList.drop 22 = dktX0_swim_1 := dk_seg dksX0_swim_0 22 rfl rfl
theorem dksX0_swim_2 : cX0_swim.data.toList.drop 44 = dktX0_swim_2 := dk_seg dksX0_swim_1 22 rfl rfl
theorem dksX0_swim_3 : cX0_swim.data.toList.drop 68 = dktX0_swim_3 := dk_seg dksX0_swim_2 24 rfl rfl
theorem dksX0_swim_4 : cX0_swim.data.toList.drop 92 = dktX0_swim_4 := dk_seg dksX0_swim_3 24 rfl rfl
theorem dksX0_swim_5 : cX0_swim.data.toList.drop 116 = dktX0_swim_5 := dk_seg dksX0_swim_4 24 rfl rfl
theorem dksX0_swim_6 : cX0_swim.data.toList.drop 138 = dktX0_swim_6 := dk_seg dksX0_swim_5 22 rfl rfl
theorem dksX0_swim_7 : cX0_swim.data.toList.drop 160 = dktX0_swim_7 := dk_seg dksX0_swim_6 22 rfl rfl
theorem dX0_swim_0 : decode cX0_swim 0 = .ok (.iload_n 1, 1) := dk_27 (dk_at dksX0_swim_0 0 rfl rfl)
theorem dX0_swim_1 : decode cX0_swim 1 = .ok (.invokestatic 97, 3) := dk_184 0 97 (dk_at dksX0_swim_0 1 rfl rfl)
theorem dX0_swim_4 : decode cX0_swim 4 = .ok (.ifCond .ne 5, 3) := dk_154 0 5 (dk_at dksX0_swim_0 4 rfl rfl)
theorem dX0_swim_7 : decode cX0_swim 7 = .ok (.iconst (-1), 1) := dk_2 (dk_at dksX0_swim_0 7 rfl rfl)
theorem dX0_swim_8 : decode cX0_swim 8 = .ok (.ireturn, 1) := dk_172 (dk_at dksX0_swim_0 8 rfl rfl)
theorem dX0_swim_9 : decode cX0_swim 9 = .ok (.aload_n 0, 1) := dk_42 (dk_at dksX0_swim_0 9 rfl rfl)
theorem dX0_swim_10 : decode cX0_swim 10 = .ok (.iload_n 1, 1) := dk_27 (dk_at dksX0_swim_0 10 rfl rfl)
theorem dX0_swim_11 : decode cX0_swim 11 = .ok (.invokevirtual 281, 3) := dk_182 1 25 (dk_at dksX0_swim_0 11 rfl rfl)
theorem dX0_swim_14 : decode cX0_swim 14 = .ok (.istore_n 2, 1) := dk_61 (dk_at dksX0_swim_0 14 rfl rfl)
theorem dX0_swim_15 : decode cX0_swim 15 = .ok (.iload_n 2, 1) := dk_28 (dk_at dksX0_swim_0 15 rfl rfl)
theorem dX0_swim_16 : decode cX0_swim 16 = .ok (.ifCond .ge 5, 3) := dk_156 0 5 (dk_at dksX0_swim_0 16 rfl rfl)
theorem dX0_swim_19 : decode cX0_swim 19 = .ok (.iload_n 2, 1) := dk_28 (dk_at dksX0_swim_0 19 rfl rfl)
theorem dX0_swim_20 : decode cX0_swim 20 = .ok (.ireturn, 1) := dk_172 (dk_at dksX0_swim_0 20 rfl rfl)
theorem dX0_swim_21 : decode cX0_swim 21 = .ok (.aload_n 0, 1) := dk_42 (dk_at dksX0_swim_0 21 rfl rfl)
theorem dX0_swim_22 : decode cX0_swim 22 = .ok (.invokevirtual 278, 3) := dk_182 1 22 (dk_at dksX0_swim_1 0 rfl rfl)
theorem dX0_swim_25 : decode cX0_swim 25 = .ok (.istore_n 3, 1) := dk_62 (dk_at dksX0_swim_1 3 rfl rfl)
theorem dX0_swim_26 : decode cX0_swim 26 = .ok (.aload_n 0, 1) := dk_42 (dk_at dksX0_swim_1 4 rfl rfl)
theorem dX0_swim_27 : decode cX0_swim 27 = .ok (.invokevirtual 305, 3) := dk_182 1 49 (dk_at dksX0_swim_1 5 rfl rfl)
theorem dX0_swim_30 : decode cX0_swim 30 = .ok (.istore 4, 2) := dk_54 4 (dk_at dksX0_swim_1 8 rfl rfl)
theorem dX0_swim_32 : decode cX0_swim 32 = .ok (.aload_n 0, 1) := dk_42 (dk_at dksX0_swim_1 10 rfl rfl)
theorem dX0_swim_33 : decode cX0_swim 33 = .ok (.dup, 1) := dk_89 (dk_at dksX0_swim_1 11 rfl rfl)
theorem dX0_swim_34 : decode cX0_swim 34 = .ok (.getfield 383, 3) := dk_180 1 127 (dk_at dksX0_swim_1 12 rfl rfl)
theorem dX0_swim_37 : decode cX0_swim 37 = .ok (.iconst 1, 1) := dk_4 (dk_at dksX0_swim_1 15 rfl rfl)
theorem dX0_swim_38 : decode cX0_swim 38 = .ok (.iadd, 1) := dk_96 (dk_at dksX0_swim_1 16 rfl rfl)
theorem dX0_swim_39 : decode cX0_swim 39 = .ok (.putfield 383, 3) := dk_181 1 127 (dk_at dksX0_swim_1 17 rfl rfl)
theorem dX0_swim_42 : decode cX0_swim 42 = .ok (.aload_n 0, 1) := dk_42 (dk_at dksX0_swim_1 20 rfl rfl)
theorem dX0_swim_43 : decode cX0_swim 43 = .ok (.dup, 1) := dk_89 (dk_at dksX0_swim_1 21 rfl rfl)
theorem dX0_swim_44 : decode cX0_swim 44 = .ok (.getfield 386, 3) := dk_180 1 130 (dk_at dksX0_swim_2 0 rfl rfl)
theorem dX0_swim_47 : decode cX0_swim 47 = .ok (.aload_n 0, 1) := dk_42 (dk_at dksX0_swim_2 3 rfl rfl)
theorem dX0_swim_48 : decode cX0_swim 48 = .ok (.getfield 247, 3) := dk_180 0 247 (dk_at dksX0_swim_2 4 rfl rfl)
theorem dX0_swim_51 : decode cX0_swim 51 = .ok (.iadd, 1) := dk_96 (dk_at dksX0_swim_2 7 rfl rfl)
theorem dX0_swim_52 : decode cX0_swim 52 = .ok (.putfield 386, 3) := dk_181 1 130 (dk_at dksX0_swim_2 8 rfl rfl)
theorem dX0_swim_55 : decode cX0_swim 55 = .ok (.aload_n 0, 1) := dk_42 (dk_at dksX0_swim_2 11 rfl rfl)
theorem dX0_swim_56 : decode cX0_swim 56 = .ok (.dup, 1) := dk_89 (dk_at dksX0_swim_2 12 rfl rfl)
theorem dX0_swim_57 : decode cX0_swim 57 = .ok (.getfield 389, 3) := dk_180 1 133 (dk_at dksX0_swim_2 13 rfl rfl)
theorem dX0_swim_60 : decode cX0_swim 60 = .ok (.iload_n 3, 1) := dk_29 (dk_at dksX0_swim_2 16 rfl rfl)
theorem dX0_swim_61 : decode cX0_swim 61 = .ok (.iadd, 1) := dk_96 (dk_at dksX0_swim_2 17 rfl rfl)
theorem dX0_swim_62 : decode cX0_swim 62 = .ok (.putfield 389, 3) := dk_181 1 133 (dk_at dksX0_swim_2 18 rfl rfl)
theorem dX0_swim_65 : decode cX0_swim 65 = .ok (.iconst 0, 1) := dk_3 (dk_at dksX0_swim_2 21 rfl rfl)
theorem dX0_swim_66 : decode cX0_swim 66 = .ok (.istore 5, 2) := dk_54 5 (dk_at dksX0_swim_2 22 rfl rfl)
theorem dX0_swim_68 : decode cX0_swim 68 = .ok (.iload 5, 2) := dk_21 5 (dk_at dksX0_swim_3 0 rfl rfl)
theorem dX0_swim_70 : decode cX0_swim 70 = .ok (.aload_n 0, 1) := dk_42 (dk_at dksX0_swim_3 2 rfl rfl)
theorem dX0_swim_71 : decode cX0_swim 71 = .ok (.getfield 79, 3) := dk_180 0 79 (dk_at dksX0_swim_3 3 rfl rfl)
theorem dX0_swim_74 : decode cX0_swim 74 = .ok (.if_icmp .ge 92, 3) := dk_162 0 92 (dk_at dksX0_swim_3 6 rfl rfl)
theorem dX0_swim_77 : decode cX0_swim 77 = .ok (.aload_n 0, 1) := dk_42 (dk_at dksX0_swim_3 9 rfl rfl)
theorem dX0_swim_78 : decode cX0_swim 78 = .ok (.getfield 11, 3) := dk_180 0 11 (dk_at dksX0_swim_3 10 rfl rfl)
theorem dX0_swim_81 : decode cX0_swim 81 = .ok (.iload 5, 2) := dk_21 5 (dk_at dksX0_swim_3 13 rfl rfl)
theorem dX0_swim_83 : decode cX0_swim 83 = .ok (.aaload, 1) := dk_50 (dk_at dksX0_swim_3 15 rfl rfl)
theorem dX0_swim_84 : decode cX0_swim 84 = .ok (.astore 6, 2) := dk_58 6 (dk_at dksX0_swim_3 16 rfl rfl)
theorem dX0_swim_86 : decode cX0_swim 86 = .ok (.aload 6, 2) := dk_25 6 (dk_at dksX0_swim_3 18 rfl rfl)
theorem dX0_swim_88 : decode cX0_swim 88 = .ok (.dup, 1) := dk_89 (dk_at dksX0_swim_3 20 rfl rfl)
theorem dX0_swim_89 : decode cX0_swim 89 = .ok (.getfield 175, 3) := dk_180 0 175 (dk_at dksX0_swim_3 21 rfl rfl)
theorem dX0_swim_92 : decode cX0_swim 92 = .ok (.aload_n 0, 1) := dk_42 (dk_at dksX0_swim_4 0 rfl rfl)
theorem dX0_swim_93 : decode cX0_swim 93 = .ok (.invokevirtual 392, 3) := dk_182 1 136 (dk_at dksX0_swim_4 1 rfl rfl)
theorem dX0_swim_96 : decode cX0_swim 96 = .ok (.iadd, 1) := dk_96 (dk_at dksX0_swim_4 4 rfl rfl)
theorem dX0_swim_97 : decode cX0_swim 97 = .ok (.putfield 175, 3) := dk_181 0 175 (dk_at dksX0_swim_4 5 rfl rfl)
theorem dX0_swim_100 : decode cX0_swim 100 = .ok (.iload 4, 2) := dk_21 4 (dk_at dksX0_swim_4 8 rfl rfl)
theorem dX0_swim_102 : decode cX0_swim 102 = .ok (.iload 5, 2) := dk_21 5 (dk_at dksX0_swim_4 10 rfl rfl)
theorem dX0_swim_104 : decode cX0_swim 104 = .ok (.invokestatic 315, 3) := dk_184 1 59 (dk_at dksX0_swim_4 12 rfl rfl)
theorem dX0_swim_107 : decode cX0_swim 107 = .ok (.ifCond .eq 24, 3) := dk_153 0 24 (dk_at dksX0_swim_4 15 rfl rfl)
theorem dX0_swim_110 : decode cX0_swim 110 = .ok (.aload 6, 2) := dk_25 6 (dk_at dksX0_swim_4 18 rfl rfl)
theorem dX0_swim_112 : decode cX0_swim 112 = .ok (.dup, 1) := dk_89 (dk_at dksX0_swim_4 20 rfl rfl)
theorem dX0_swim_113 : decode cX0_swim 113 = .ok (.getfield 178, 3) := dk_180 0 178 (dk_at dksX0_swim_4 21 rfl rfl)
theorem dX0_swim_116 : decode cX0_swim 116 = .ok (.iconst 1, 1) := dk_4 (dk_at dksX0_swim_5 0 rfl rfl)
theorem dX0_swim_117 : decode cX0_swim 117 = .ok (.iadd, 1) := dk_96 (dk_at dksX0_swim_5 1 rfl rfl)
theorem dX0_swim_118 : decode cX0_swim 118 = .ok (.putfield 178, 3) := dk_181 0 178 (dk_at dksX0_swim_5 2 rfl rfl)
theorem dX0_swim_121 : decode cX0_swim 121 = .ok (.aload_n 0, 1) := dk_42 (dk_at dksX0_swim_5 5 rfl rfl)
theorem dX0_swim_122 : decode cX0_swim 122 = .ok (.dup, 1) := dk_89 (dk_at dksX0_swim_5 6 rfl rfl)
theorem dX0_swim_123 : decode cX0_swim 123 = .ok (.getfield 395, 3) := dk_180 1 139 (dk_at dksX0_swim_5 7 rfl rfl)
theorem dX0_swim_126 : decode cX0_swim 126 = .ok (.iconst 1, 1) := dk_4 (dk_at dksX0_swim_5 10 rfl rfl)
theorem dX0_swim_127 : decode cX0_swim 127 = .ok (.iadd, 1) := dk_96 (dk_at dksX0_swim_5 11 rfl rfl)
theorem dX0_swim_128 : decode cX0_swim 128 = .ok (.putfield 395, 3) := dk_181 1 139 (dk_at dksX0_swim_5 12 rfl rfl)
theorem dX0_swim_131 : decode cX0_swim 131 = .ok (.aload 6, 2) := dk_25 6 (dk_at dksX0_swim_5 15 rfl rfl)
theorem dX0_swim_133 : decode cX0_swim 133 = .ok (.getfield 175, 3) := dk_180 0 175 (dk_at dksX0_swim_5 17 rfl rfl)
theorem dX0_swim_136 : decode cX0_swim 136 = .ok (.bipush 100, 2) := dk_16 100 (dk_at dksX0_swim_5 20 rfl rfl)
theorem dX0_swim_138 : decode cX0_swim 138 = .ok (.if_icmp .ge 6, 3) := dk_162 0 6 (dk_at dksX0_swim_6 0 rfl rfl)
theorem dX0_swim_141 : decode cX0_swim 141 = .ok (.goto 19, 3) := dk_167 0 19 (dk_at dksX0_swim_6 3 rfl rfl)
theorem dX0_swim_144 : decode cX0_swim 144 = .ok (.aload 6, 2) := dk_25 6 (dk_at dksX0_swim_6 6 rfl rfl)
theorem dX0_swim_146 : decode cX0_swim 146 = .ok (.iconst 0, 1) := dk_3 (dk_at dksX0_swim_6 8 rfl rfl)
theorem dX0_swim_147 : decode cX0_swim 147 = .ok (.putfield 175, 3) := dk_181 0 175 (dk_at dksX0_swim_6 9 rfl rfl)
theorem dX0_swim_150 : decode cX0_swim 150 = .ok (.aload_n 0, 1) := dk_42 (dk_at dksX0_swim_6 12 rfl rfl)
theorem dX0_swim_151 : decode cX0_swim 151 = .ok (.dup, 1) := dk_89 (dk_at dksX0_swim_6 13 rfl rfl)
theorem dX0_swim_152 : decode cX0_swim 152 = .ok (.getfield 398, 3) := dk_180 1 142 (dk_at dksX0_swim_6 14 rfl rfl)
theorem dX0_swim_155 : decode cX0_swim 155 = .ok (.iconst 1, 1) := dk_4 (dk_at dksX0_swim_6 17 rfl rfl)
theorem dX0_swim_156 : decode cX0_swim 156 = .ok (.iadd, 1) := dk_96 (dk_at dksX0_swim_6 18 rfl rfl)
theorem dX0_swim_157 : decode cX0_swim 157 = .ok (.putfield 398, 3) := dk_181 1 142 (dk_at dksX0_swim_6 19 rfl rfl)
theorem dX0_swim_160 : decode cX0_swim 160 = .ok (.iinc 5 1, 3) := dk_132 5 1 (dk_at dksX0_swim_7 0 rfl rfl)
theorem dX0_swim_163 : decode cX0_swim 163 = .ok (.goto (-95), 3) := dk_167 255 161 (dk_at dksX0_swim_7 3 rfl rfl)
theorem dX0_swim_166 : decode cX0_swim 166 = .ok (.iload_n 3, 1) := dk_29 (dk_at dksX0_swim_7 6 rfl rfl)
theorem dX0_swim_167 : decode cX0_swim 167 = .ok (.ireturn, 1) := dk_172 (dk_at dksX0_swim_7 7 rfl rfl)
abbrev cX0_underMany : ByteArray := prog_1_method_70_code
def yX0_underMany : MethodName := ⟨RX0, "underMany", "()I"⟩
def dkwX0_underMany_1 : List UInt8 := [153, 0, 7, 4, 167, 0, 4, 3, 96, 60, 132, 2, 1, 167, 255, 225, 27, 172]
abbrev dktX0_underMany_1 : List UInt8 := dkwX0_underMany_1 ++ []
def dkwX0_underMany_0 : List UInt8 := [3, 60, 3, 61, 28, 42, 180, 0, 247, 162, 0, 29, 27, 42, 180, 0, 39, 28, 46, 184, 1, 43]
abbrev dktX0_underMany_0 : List UInt8 := dkwX0_underMany_0 ++ dktX0_underMany_1
theorem dksX0_underMany_0 : cX0_underMany.data.toList.drop 0 = dktX0_underMany_0 := by decide +kernel
theorem dksX0_underMany_1 : cX0_underMany.data.toList.drop 22 = dktX0_underMany_1 := dk_seg dksX0_underMany_0 22 rfl rfl
theorem dX0_underMany_0 : decode cX0_underMany 0 = .ok (.iconst 0, 1) := dk_3 (dk_at dksX0_underMany_0 0 rfl rfl)
theorem dX0_underMany_1 : decode cX0_underMany 1 = .ok (.istore_n 1, 1) := dk_60 (dk_at dksX0_underMany_0 1 rfl rfl)
theorem dX0_underMany_2 : decode cX0_underMany 2 = .ok (.iconst 0, 1) := dk_3 (dk_at dksX0_underMany_0 2 rfl rfl)
theorem dX0_underMany_3 : decode cX0_underMany 3 = .ok (.istore_n 2, 1) := dk_61 (dk_at dksX0_underMany_0 3 rfl rfl)
theorem dX0_underMany_4 : decode cX0_underMany 4 = .ok (.iload_n 2, 1) := dk_28 (dk_at dksX0_underMany_0 4 rfl rfl)
theorem dX0_underMany_5 : decode cX0_underMany 5 = .ok (.aload_n 0, 1) := dk_42 (dk_at dksX0_underMany_0 5 rfl rfl)
theorem dX0_underMany_6 : decode cX0_underMany 6 = .ok (.getfield 247, 3) := dk_180 0 247 (dk_at dksX0_underMany_0 6 rfl rfl)
theorem dX0_underMany_9 : decode cX0_underMany 9 = .ok (.if_icmp .ge 29, 3) := dk_162 0 29 (dk_at dksX0_underMany_0 9 rfl rfl)
theorem dX0_underMany_12 : decode cX0_underMany 12 = .ok (.iload_n 1, 1) := dk_27 (dk_at dksX0_underMany_0 12 rfl rfl)
theorem dX0_underMany_13 : decode cX0_underMany 13 = .ok (.aload_n 0, 1) := dk_42 (dk_at dksX0_underMany_0 13 rfl rfl)
theorem dX0_underMany_14 : decode cX0_underMany 14 = .ok (.getfield 39, 3) := dk_180 0 39 (dk_at dksX0_underMany_0 14 rfl rfl)
theorem dX0_underMany_17 : decode cX0_underMany 17 = .ok (.iload_n 2, 1) := dk_28 (dk_at dksX0_underMany_0 17 rfl rfl)
theorem dX0_underMany_18 : decode cX0_underMany 18 = .ok (.iaload, 1) := dk_46 (dk_at dksX0_underMany_0 18 rfl rfl)
theorem dX0_underMany_19 : decode cX0_underMany 19 = .ok (.invokestatic 299, 3) := dk_184 1 43 (dk_at dksX0_underMany_0 19 rfl rfl)
theorem dX0_underMany_22 : decode cX0_underMany 22 = .ok (.ifCond .eq 7, 3) := dk_153 0 7 (dk_at dksX0_underMany_1 0 rfl rfl)
theorem dX0_underMany_25 : decode cX0_underMany 25 = .ok (.iconst 1, 1) := dk_4 (dk_at dksX0_underMany_1 3 rfl rfl)
theorem dX0_underMany_26 : decode cX0_underMany 26 = .ok (.goto 4, 3) := dk_167 0 4 (dk_at dksX0_underMany_1 4 rfl rfl)
theorem dX0_underMany_29 : decode cX0_underMany 29 = .ok (.iconst 0, 1) := dk_3 (dk_at dksX0_underMany_1 7 rfl rfl)
theorem dX0_underMany_30 : decode cX0_underMany 30 = .ok (.iadd, 1) := dk_96 (dk_at dksX0_underMany_1 8 rfl rfl)
theorem dX0_underMany_31 : decode cX0_underMany 31 = .ok (.istore_n 1, 1) := dk_60 (dk_at dksX0_underMany_1 9 rfl rfl)
theorem dX0_underMany_32 : decode cX0_underMany 32 = .ok (.iinc 2 1, 3) := dk_132 2 1 (dk_at dksX0_underMany_1 10 rfl rfl)
theorem dX0_underMany_35 : decode cX0_underMany 35 = .ok (.goto (-31), 3) := dk_167 255 225 (dk_at dksX0_underMany_1 13 rfl rfl)
theorem dX0_underMany_38 : decode cX0_underMany 38 = .ok (.iload_n 1, 1) := dk_27 (dk_at dksX0_underMany_1 16 rfl rfl)
theorem dX0_underMany_39 : decode cX0_underMany 39 = .ok (.ireturn, 1) := dk_172 (dk_at dksX0_underMany_1 17 rfl rfl)
abbrev cX0_led : ByteArray := prog_1_method_72_code
def yX0_led : MethodName := ⟨RX0, "led", "(I)I"⟩
def dkwX0_led_3 : List UInt8 := [172, 2, 172]
abbrev dktX0_led_3 : List UInt8 := dkwX0_led_3 ++ []
def dkwX0_led_2 : List UInt8 := [42, 180, 1, 127, 172, 42, 180, 1, 130, 172, 42, 180, 1, 133, 172, 42, 180, 1, 139, 172, 42, 180, 1, 142]
abbrev dktX0_led_2 : List UInt8 := dkwX0_led_2 ++ dktX0_led_3
def dkwX0_led_1 : List UInt8 := [170, 0, 0, 0, 0, 0, 60, 0, 0, 0, 0, 0, 0, 0, 4, 0, 0, 0, 35, 0, 0, 0, 40, 0, 0, 0, 45, 0, 0, 0, 50, 0, 0, 0, 55]
abbrev dktX0_led_1 : List UInt8 := dkwX0_led_1 ++ dktX0_led_2
def dkwX0_led_0 : List UInt8 := [27]
abbrev dktX0_led_0 : List UInt8 := dkwX0_led_0 ++ dktX0_led_1
theorem dksX0_led_0 : cX0_led.data.toList.drop 0 = dktX0_led_0 := by decide +kernel
theorem dksX0_led_1 : cX0_led.data.toList.drop 1 = dktX0_led_1 := dk_seg dksX0_led_0 1 rfl rfl
theorem dksX0_led_2 : cX0_led.data.toList.drop 36 = dktX0_led_2 := dk_seg dksX0_led_1 35 rfl rfl
theorem dksX0_led_3 : cX0_led.data.toList.drop 60 = dktX0_led_3 := dk_seg dksX0_led_2 24 rfl rfl
theorem dX0_led_0 : decode cX0_led 0 = .ok (.iload_n 1, 1) := dk_27 (dk_at dksX0_led_0 0 rfl rfl)
theorem dX0_led_1 : decode cX0_led 1 = .ok (.tableswitch 60 0 4 #[35, 40, 45, 50, 55], 35) := by decide +kernel
theorem dX0_led_36 : decode cX0_led 36 = .ok (.aload_n 0, 1) := dk_42 (dk_at dksX0_led_2 0 rfl rfl)
theorem dX0_led_37 : decode cX0_led 37 = .ok (.getfield 383, 3) := dk_180 1 127 (dk_at dksX0_led_2 1 rfl rfl)
theorem dX0_led_40 : decode cX0_led 40 = .ok (.ireturn, 1) := dk_172 (dk_at dksX0_led_2 4 rfl rfl)
theorem dX0_led_41 : decode cX0_led 41 = .ok (.aload_n 0, 1) := dk_42 (dk_at dksX0_led_2 5 rfl rfl)
theorem dX0_led_42 : decode cX0_led 42 = .ok (.getfield 386, 3) := dk_180 1 130 (dk_at dksX0_led_2 6 rfl rfl)
theorem dX0_led_45 : decode cX0_led 45 = .ok (.ireturn, 1) := dk_172 (dk_at dksX0_led_2 9 rfl rfl)
theorem dX0_led_46 : decode cX0_led 46 = .ok (.aload_n 0, 1) := dk_42 (dk_at dksX0_led_2 10 rfl rfl)
theorem dX0_led_47 : decode cX0_led 47 = .ok (.getfield 389, 3) := dk_180 1 133 (dk_at dksX0_led_2 11 rfl rfl)
theorem dX0_led_50 : decode cX0_led 50 = .ok (.ireturn, 1) := dk_172 (dk_at dksX0_led_2 14 rfl rfl)
theorem dX0_led_51 : decode cX0_led 51 = .ok (.aload_n 0, 1) := dk_42 (dk_at dksX0_led_2 15 rfl rfl)
theorem dX0_led_52 : decode cX0_led 52 = .ok (.getfield 395, 3) := dk_180 1 139 (dk_at dksX0_led_2 16 rfl rfl)
theorem dX0_led_55 : decode cX0_led 55 = .ok (.ireturn, 1) := dk_172 (dk_at dksX0_led_2 19 rfl rfl)
theorem dX0_led_56 : decode cX0_led 56 = .ok (.aload_n 0, 1) := dk_42 (dk_at dksX0_led_2 20 rfl rfl)
theorem dX0_led_57 : decode cX0_led 57 = .ok (.getfield 398, 3) := dk_180 1 142 (dk_at dksX0_led_2 21 rfl rfl)
theorem dX0_led_60 : decode cX0_led 60 = .ok (.ireturn, 1) := dk_172 (dk_at dksX0_led_3 0 rfl rfl)
theorem dX0_led_61 : decode cX0_led 61 = .ok (.iconst (-1), 1) := dk_2 (dk_at dksX0_led_3 1 rfl rfl)
theorem dX0_led_62 : decode cX0_led 62 = .ok (.ireturn, 1) := dk_172 (dk_at dksX0_led_3 2 rfl rfl)
abbrev cX0_image : ByteArray := prog_1_method_73_code
def yX0_image : MethodName := ⟨RX0, "image", "()I"⟩
def dkwX0_image_4 : List UInt8 := [181, 1, 161, 42, 42, 180, 1, 142, 181, 1, 164, 42, 180, 1, 127, 172]
abbrev dktX0_image_4 : List UInt8 := dkwX0_image_4 ++ []
def dkwX0_image_3 : List UInt8 := [181, 1, 152, 42, 42, 180, 1, 130, 181, 1, 155, 42, 42, 180, 1, 133, 181, 1, 158, 42, 42, 180, 1, 139]
abbrev dktX0_image_3 : List UInt8 := dkwX0_image_3 ++ dktX0_image_4
def dkwX0_image_2 : List UInt8 := [180, 0, 178, 79, 132, 1, 1, 167, 255, 209, 42, 42, 180, 0, 79, 181, 1, 149, 42, 42, 180, 1, 127]
abbrev dktX0_image_2 : List UInt8 := dkwX0_image_2 ++ dktX0_image_3
def dkwX0_image_1 : List UInt8 := [180, 0, 11, 27, 50, 180, 0, 175, 79, 42, 180, 0, 61, 5, 27, 104, 4, 96, 42, 180, 0, 11, 27, 50]
abbrev dktX0_image_1 : List UInt8 := dkwX0_image_1 ++ dktX0_image_2
def dkwX0_image_0 : List UInt8 := [42, 4, 181, 1, 145, 3, 60, 27, 42, 180, 0, 79, 162, 0, 45, 42, 180, 0, 61, 5, 27, 104, 42]
abbrev dktX0_image_0 : List UInt8 := dkwX0_image_0 ++ dktX0_image_1
theorem dksX0_image_0 : cX0_image.data.toList.drop 0 = dktX0_image_0 := by decide +kernel
theorem dksX0_image_1 : cX0_image.data.toList.drop 23 = dktX0_image_1 := dk_seg dksX0_image_0 23 rfl rfl
theorem dksX0_image_2 : cX0_image.data.toList.drop 47 = dktX0_image_2 := dk_seg dksX0_image_1 24 rfl rfl
theorem dksX0_image_3 : cX0_image.data.toList.drop 70 = dktX0_image_3 := dk_seg dksX0_image_2 23 rfl rfl
theorem dksX0_image_4 : cX0_image.data.toList.drop 94 = dktX0_image_4 := dk_seg dksX0_image_3 24 rfl rfl
theorem dX0_image_0 : decode cX0_image 0 = .ok (.aload_n 0, 1) := dk_42 (dk_at dksX0_image_0 0 rfl rfl)
theorem dX0_image_1 : decode cX0_image 1 = .ok (.iconst 1, 1) := dk_4 (dk_at dksX0_image_0 1 rfl rfl)
theorem dX0_image_2 : decode cX0_image 2 = .ok (.putfield 401, 3) := dk_181 1 145 (dk_at dksX0_image_0 2 rfl rfl)
theorem dX0_image_5 : decode cX0_image 5 = .ok (.iconst 0, 1) := dk_3 (dk_at dksX0_image_0 5 rfl rfl)
theorem dX0_image_6 : decode cX0_image 6 = .ok (.istore_n 1, 1) := dk_60 (dk_at dksX0_image_0 6 rfl rfl)
theorem dX0_image_7 : decode cX0_image 7 = .ok (.iload_n 1, 1) := dk_27 (dk_at dksX0_image_0 7 rfl rfl)
theorem dX0_image_8 : decode cX0_image 8 = .ok (.aload_n 0, 1) := dk_42 (dk_at dksX0_image_0 8 rfl rfl)
theorem dX0_image_9 : decode cX0_image 9 = .ok (.getfield 79, 3) := dk_180 0 79 (dk_at dksX0_image_0 9 rfl rfl)
theorem dX0_image_12 : decode cX0_image 12 = .ok (.if_icmp .ge 45, 3) := dk_162 0 45 (dk_at dksX0_image_0 12 rfl rfl)
theorem dX0_image_15 : decode cX0_image 15 = .ok (.aload_n 0, 1) := dk_42 (dk_at dksX0_image_0 15 rfl rfl)
theorem dX0_image_16 : decode cX0_image 16 = .ok (.getfield 61, 3) := dk_180 0 61 (dk_at dksX0_image_0 16 rfl rfl)
theorem dX0_image_19 : decode cX0_image 19 = .ok (.iconst 2, 1) := dk_5 (dk_at dksX0_image_0 19 rfl rfl)
theorem dX0_image_20 : decode cX0_image 20 = .ok (.iload_n 1, 1) := dk_27 (dk_at dksX0_image_0 20 rfl rfl)
theorem dX0_image_21 : decode cX0_image 21 = .ok (.imul, 1) := dk_104 (dk_at dksX0_image_0 21 rfl rfl)
theorem dX0_image_22 : decode cX0_image 22 = .ok (.aload_n 0, 1) := dk_42 (dk_at dksX0_image_0 22 rfl rfl)
theorem dX0_image_23 : decode cX0_image 23 = .ok (.getfield 11, 3) := dk_180 0 11 (dk_at dksX0_image_1 0 rfl rfl)
theorem dX0_image_26 : decode cX0_image 26 = .ok (.iload_n 1, 1) := dk_27 (dk_at dksX0_image_1 3 rfl rfl)
theorem dX0_image_27 : decode cX0_image 27 = .ok (.aaload, 1) := dk_50 (dk_at dksX0_image_1 4 rfl rfl)
theorem dX0_image_28 : decode cX0_image 28 = .ok (.getfield 175, 3) := dk_180 0 175 (dk_at dksX0_image_1 5 rfl rfl)
theorem dX0_image_31 : decode cX0_image 31 = .ok (.iastore, 1) := dk_79 (dk_at dksX0_image_1 8 rfl rfl)
theorem dX0_image_32 : decode cX0_image 32 = .ok (.aload_n 0, 1) := dk_42 (dk_at dksX0_image_1 9 rfl rfl)
theorem dX0_image_33 : decode cX0_image 33 = .ok (.getfield 61, 3) := dk_180 0 61 (dk_at dksX0_image_1 10 rfl rfl)
theorem dX0_image_36 : decode cX0_image 36 = .ok (.iconst 2, 1) := dk_5 (dk_at dksX0_image_1 13 rfl rfl)
theorem dX0_image_37 : decode cX0_image 37 = .ok (.iload_n 1, 1) := dk_27 (dk_at dksX0_image_1 14 rfl rfl)
theorem dX0_image_38 : decode cX0_image 38 = .ok (.imul, 1) := dk_104 (dk_at dksX0_image_1 15 rfl rfl)
theorem dX0_image_39 : decode cX0_image 39 = .ok (.iconst 1, 1) := dk_4 (dk_at dksX0_image_1 16 rfl rfl)
theorem dX0_image_40 : decode cX0_image 40 = .ok (.iadd, 1) := dk_96 (dk_at dksX0_image_1 17 rfl rfl)
theorem dX0_image_41 : decode cX0_image 41 = .ok (.aload_n 0, 1) := dk_42 (dk_at dksX0_image_1 18 rfl rfl)
theorem dX0_image_42 : decode cX0_image 42 = .ok (.getfield 11, 3) := dk_180 0 11 (dk_at dksX0_image_1 19 rfl rfl)
theorem dX0_image_45 : decode cX0_image 45 = .ok (.iload_n 1, 1) := dk_27 (dk_at dksX0_image_1 22 rfl rfl)
theorem dX0_image_46 : decode cX0_image 46 = .ok (.aaload, 1) := dk_50 (dk_at dksX0_image_1 23 rfl rfl)
theorem dX0_image_47 : decode cX0_image 47 = .ok (.getfield 178, 3) := dk_180 0 178 (dk_at dksX0_image_2 0 rfl rfl)
theorem dX0_image_50 : decode cX0_image 50 = .ok (.iastore, 1) := dk_79 (dk_at dksX0_image_2 3 rfl rfl)
theorem dX0_image_51 : decode cX0_image 51 = .ok (.iinc 1 1, 3) := dk_132 1 1 (dk_at dksX0_image_2 4 rfl rfl)
theorem dX0_image_54 : decode cX0_image 54 = .ok (.goto (-47), 3) := dk_167 255 209 (dk_at dksX0_image_2 7 rfl rfl)
theorem dX0_image_57 : decode cX0_image 57 = .ok (.aload_n 0, 1) := dk_42 (dk_at dksX0_image_2 10 rfl rfl)
theorem dX0_image_58 : decode cX0_image 58 = .ok (.aload_n 0, 1) := dk_42 (dk_at dksX0_image_2 11 rfl rfl)
theorem dX0_image_59 : decode cX0_image 59 = .ok (.getfield 79, 3) := dk_180 0 79 (dk_at dksX0_image_2 12 rfl rfl)
theorem dX0_image_62 : decode cX0_image 62 = .ok (.putfield 405, 3) := dk_181 1 149 (dk_at dksX0_image_2 15 rfl rfl)
theorem dX0_image_65 : decode cX0_image 65 = .ok (.aload_n 0, 1) := dk_42 (dk_at dksX0_image_2 18 rfl rfl)
theorem dX0_image_66 : decode cX0_image 66 = .ok (.aload_n 0, 1) := dk_42 (dk_at dksX0_image_2 19 rfl rfl)
theorem dX0_image_67 : decode cX0_image 67 = .ok (.getfield 383, 3) := dk_180 1 127 (dk_at dksX0_image_2 20 rfl rfl)
theorem dX0_image_70 : decode cX0_image 70 = .ok (.putfield 408, 3) := dk_181 1 152 (dk_at dksX0_image_3 0 rfl rfl)
theorem dX0_image_73 : decode cX0_image 73 = .ok (.aload_n 0, 1) := dk_42 (dk_at dksX0_image_3 3 rfl rfl)
theorem dX0_image_74 : decode cX0_image 74 = .ok (.aload_n 0, 1) := dk_42 (dk_at dksX0_image_3 4 rfl rfl)
theorem dX0_image_75 : decode cX0_image 75 = .ok (.getfield 386, 3) := dk_180 1 130 (dk_at dksX0_image_3 5 rfl rfl)
theorem dX0_image_78 : decode cX0_image 78 = .ok (.putfield 411, 3) := dk_181 1 155 (dk_at dksX0_image_3 8 rfl rfl)
theorem dX0_image_81 : decode cX0_image 81 = .ok (.aload_n 0, 1) := dk_42 (dk_at dksX0_image_3 11 rfl rfl)
theorem dX0_image_82 : decode cX0_image 82 = .ok (.aload_n 0, 1) := dk_42 (dk_at dksX0_image_3 12 rfl rfl)
theorem dX0_image_83 : decode cX0_image 83 = .ok (.getfield 389, 3) := dk_180 1 133 (dk_at dksX0_image_3 13 rfl rfl)
theorem dX0_image_86 : decode cX0_image 86 = .ok (.putfield 414, 3) := dk_181 1 158 (dk_at dksX0_image_3 16 rfl rfl)
theorem dX0_image_89 : decode cX0_image 89 = .ok (.aload_n 0, 1) := dk_42 (dk_at dksX0_image_3 19 rfl rfl)
theorem dX0_image_90 : decode cX0_image 90 = .ok (.aload_n 0, 1) := dk_42 (dk_at dksX0_image_3 20 rfl rfl)
theorem dX0_image_91 : decode cX0_image 91 = .ok (.getfield 395, 3) := dk_180 1 139 (dk_at dksX0_image_3 21 rfl rfl)
theorem dX0_image_94 : decode cX0_image 94 = .ok (.putfield 417, 3) := dk_181 1 161 (dk_at dksX0_image_4 0 rfl rfl)
theorem dX0_image_97 : decode cX0_image 97 = .ok (.aload_n 0, 1) := dk_42 (dk_at dksX0_image_4 3 rfl rfl)
theorem dX0_image_98 : decode cX0_image 98 = .ok (.aload_n 0, 1) := dk_42 (dk_at dksX0_image_4 4 rfl rfl)
theorem dX0_image_99 : decode cX0_image 99 = .ok (.getfield 398, 3) := dk_180 1 142 (dk_at dksX0_image_4 5 rfl rfl)
theorem dX0_image_102 : decode cX0_image 102 = .ok (.putfield 420, 3) := dk_181 1 164 (dk_at dksX0_image_4 8 rfl rfl)
theorem dX0_image_105 : decode cX0_image 105 = .ok (.aload_n 0, 1) := dk_42 (dk_at dksX0_image_4 11 rfl rfl)
theorem dX0_image_106 : decode cX0_image 106 = .ok (.getfield 383, 3) := dk_180 1 127 (dk_at dksX0_image_4 12 rfl rfl)
theorem dX0_image_109 : decode cX0_image 109 = .ok (.ireturn, 1) := dk_172 (dk_at dksX0_image_4 15 rfl rfl)
abbrev cX0_back : ByteArray := prog_1_method_74_code
def yX0_back : MethodName := ⟨RX0, "back", "()I"⟩
def dkwX0_back_5 : List UInt8 := [42, 42, 180, 1, 164, 181, 1, 142, 42, 180, 1, 127, 172]
abbrev dktX0_back_5 : List UInt8 := dkwX0_back_5 ++ []
def dkwX0_back_4 : List UInt8 := [42, 42, 180, 1, 155, 181, 1, 130, 42, 42, 180, 1, 158, 181, 1, 133, 42, 42, 180, 1, 161, 181, 1, 139]
abbrev dktX0_back_4 : List UInt8 := dkwX0_back_4 ++ dktX0_back_5
def dkwX0_back_3 : List UInt8 := [4, 96, 46, 167, 0, 4, 3, 181, 0, 178, 132, 1, 1, 167, 255, 185, 42, 42, 180, 1, 152, 181, 1, 127]
abbrev dktX0_back_3 : List UInt8 := dkwX0_back_3 ++ dktX0_back_4
def dkwX0_back_2 : List UInt8 := [181, 0, 175, 42, 180, 0, 11, 27, 50, 27, 42, 180, 1, 149, 162, 0, 16, 42, 180, 0, 61, 5, 27, 104]
abbrev dktX0_back_2 : List UInt8 := dkwX0_back_2 ++ dktX0_back_3
def dkwX0_back_1 : List UInt8 := [27, 50, 27, 42, 180, 1, 149, 162, 0, 14, 42, 180, 0, 61, 5, 27, 104, 46, 167, 0, 4, 3]
abbrev dktX0_back_1 : List UInt8 := dkwX0_back_1 ++ dktX0_back_2
def dkwX0_back_0 : List UInt8 := [42, 180, 1, 145, 154, 0, 6, 16, 251, 172, 3, 60, 27, 42, 180, 0, 79, 162, 0, 69, 42, 180, 0, 11]
abbrev dktX0_back_0 : List UInt8 := dkwX0_back_0 ++ dktX0_back_1
theorem dksX0_back_0 : cX0_back.data.toList.drop 0 = dktX0_back_0 := by decide +kernel
theorem dksX0_back_1 : cX0_back.data.toList.drop 24 = dktX0_back_1 := dk_seg dksX0_back_0 24 rfl rfl
theorem dksX0_back_2 : cX0_back.data.toList.drop 46 = dktX0_back_2 := dk_seg dksX0_back_1 22 rfl rfl
theorem dksX0_back_3 : cX0_back.data.toList.drop 70 = dktX0_back_3 := dk_seg dksX0_back_2 24 rfl rfl
theorem dksX0_back_4 : cX0_back.data.toList.drop 94 = dktX0_back_4 := dk_seg dksX0_back_3 24 rfl rfl
theorem dksX0_back_5 : cX0_back.data.toList.drop 118 = dktX0_back_5 := dk_seg dksX0_back_4 24 rfl rfl
theorem dX0_back_0 : decode cX0_back 0 = .ok (.aload_n 0, 1) := dk_42 (dk_at dksX0_back_0 0 rfl rfl)
theorem dX0_back_1 : decode cX0_back 1 = .ok (.getfield 401, 3) := dk_180 1 145 (dk_at dksX0_back_0 1 rfl rfl)
theorem dX0_back_4 : decode cX0_back 4 = .ok (.ifCond .ne 6, 3) := dk_154 0 6 (dk_at dksX0_back_0 4 rfl rfl)
theorem dX0_back_7 : decode cX0_back 7 = .ok (.bipush (-5), 2) := dk_16 251 (dk_at dksX0_back_0 7 rfl rfl)
theorem dX0_back_9 : decode cX0_back 9 = .ok (.ireturn, 1) := dk_172 (dk_at dksX0_back_0 9 rfl rfl)
theorem dX0_back_10 : decode cX0_back 10 = .ok (.iconst 0, 1) := dk_3 (dk_at dksX0_back_0 10 rfl rfl)
theorem dX0_back_11 : decode cX0_back 11 = .ok (.istore_n 1, 1) := dk_60 (dk_at dksX0_back_0 11 rfl rfl)
theorem dX0_back_12 : decode cX0_back 12 = .ok (.iload_n 1, 1) := dk_27 (dk_at dksX0_back_0 12 rfl rfl)
theorem dX0_back_13 : decode cX0_back 13 = .ok (.aload_n 0, 1) := dk_42 (dk_at dksX0_back_0 13 rfl rfl)
theorem dX0_back_14 : decode cX0_back 14 = .ok (.getfield 79, 3) := dk_180 0 79 (dk_at dksX0_back_0 14 rfl rfl)
theorem dX0_back_17 : decode cX0_back 17 = .ok (.if_icmp .ge 69, 3) := dk_162 0 69 (dk_at dksX0_back_0 17 rfl rfl)
theorem dX0_back_20 : decode cX0_back 20 = .ok (.aload_n 0, 1) := dk_42 (dk_at dksX0_back_0 20 rfl rfl)
theorem dX0_back_21 : decode cX0_back 21 = .ok (.getfield 11, 3) := dk_180 0 11 (dk_at dksX0_back_0 21 rfl rfl)
theorem dX0_back_24 : decode cX0_back 24 = .ok (.iload_n 1, 1) := dk_27 (dk_at dksX0_back_1 0 rfl rfl)
theorem dX0_back_25 : decode cX0_back 25 = .ok (.aaload, 1) := dk_50 (dk_at dksX0_back_1 1 rfl rfl)
theorem dX0_back_26 : decode cX0_back 26 = .ok (.iload_n 1, 1) := dk_27 (dk_at dksX0_back_1 2 rfl rfl)
theorem dX0_back_27 : decode cX0_back 27 = .ok (.aload_n 0, 1) := dk_42 (dk_at dksX0_back_1 3 rfl rfl)
theorem dX0_back_28 : decode cX0_back 28 = .ok (.getfield 405, 3) := dk_180 1 149 (dk_at dksX0_back_1 4 rfl rfl)
theorem dX0_back_31 : decode cX0_back 31 = .ok (.if_icmp .ge 14, 3) := dk_162 0 14 (dk_at dksX0_back_1 7 rfl rfl)
theorem dX0_back_34 : decode cX0_back 34 = .ok (.aload_n 0, 1) := dk_42 (dk_at dksX0_back_1 10 rfl rfl)
theorem dX0_back_35 : decode cX0_back 35 = .ok (.getfield 61, 3) := dk_180 0 61 (dk_at dksX0_back_1 11 rfl rfl)
theorem dX0_back_38 : decode cX0_back 38 = .ok (.iconst 2, 1) := dk_5 (dk_at dksX0_back_1 14 rfl rfl)
theorem dX0_back_39 : decode cX0_back 39 = .ok (.iload_n 1, 1) := dk_27 (dk_at dksX0_back_1 15 rfl rfl)
theorem dX0_back_40 : decode cX0_back 40 = .ok (.imul, 1) := dk_104 (dk_at dksX0_back_1 16 rfl rfl)
theorem dX0_back_41 : decode cX0_back 41 = .ok (.iaload, 1) := dk_46 (dk_at dksX0_back_1 17 rfl rfl)
theorem dX0_back_42 : decode cX0_back 42 = .ok (.goto 4, 3) := dk_167 0 4 (dk_at dksX0_back_1 18 rfl rfl)
theorem dX0_back_45 : decode cX0_back 45 = .ok (.iconst 0, 1) := dk_3 (dk_at dksX0_back_1 21 rfl rfl)
theorem dX0_back_46 : decode cX0_back 46 = .ok (.putfield 175, 3) := dk_181 0 175 (dk_at dksX0_back_2 0 rfl rfl)
theorem dX0_back_49 : decode cX0_back 49 = .ok (.aload_n 0, 1) := dk_42 (dk_at dksX0_back_2 3 rfl rfl)
theorem dX0_back_50 : decode cX0_back 50 = .ok (.getfield 11, 3) := dk_180 0 11 (dk_at dksX0_back_2 4 rfl rfl)
theorem dX0_back_53 : decode cX0_back 53 = .ok (.iload_n 1, 1) := dk_27 (dk_at dksX0_back_2 7 rfl rfl)
theorem dX0_back_54 : decode cX0_back 54 = .ok (.aaload, 1) := dk_50 (dk_at dksX0_back_2 8 rfl rfl)
theorem dX0_back_55 : decode cX0_back 55 = .ok (.iload_n 1, 1) := dk_27 (dk_at dksX0_back_2 9 rfl rfl)
theorem dX0_back_56 : decode cX0_back 56 = .ok (.aload_n 0, 1) := dk_42 (dk_at dksX0_back_2 10 rfl rfl)
theorem dX0_back_57 : decode cX0_back 57 = .ok (.getfield 405, 3) := dk_180 1 149 (dk_at dksX0_back_2 11 rfl rfl)
theorem dX0_back_60 : decode cX0_back 60 = .ok (.if_icmp .ge 16, 3) := dk_162 0 16 (dk_at dksX0_back_2 14 rfl rfl)
theorem dX0_back_63 : decode cX0_back 63 = .ok (.aload_n 0, 1) := dk_42 (dk_at dksX0_back_2 17 rfl rfl)
theorem dX0_back_64 : decode cX0_back 64 = .ok (.getfield 61, 3) := dk_180 0 61 (dk_at dksX0_back_2 18 rfl rfl)
theorem dX0_back_67 : decode cX0_back 67 = .ok (.iconst 2, 1) := dk_5 (dk_at dksX0_back_2 21 rfl rfl)
theorem dX0_back_68 : decode cX0_back 68 = .ok (.iload_n 1, 1) := dk_27 (dk_at dksX0_back_2 22 rfl rfl)
theorem dX0_back_69 : decode cX0_back 69 = .ok (.imul, 1) := dk_104 (dk_at dksX0_back_2 23 rfl rfl)
theorem dX0_back_70 : decode cX0_back 70 = .ok (.iconst 1, 1) := dk_4 (dk_at dksX0_back_3 0 rfl rfl)
theorem dX0_back_71 : decode cX0_back 71 = .ok (.iadd, 1) := dk_96 (dk_at dksX0_back_3 1 rfl rfl)
theorem dX0_back_72 : decode cX0_back 72 = .ok (.iaload, 1) := dk_46 (dk_at dksX0_back_3 2 rfl rfl)
theorem dX0_back_73 : decode cX0_back 73 = .ok (.goto 4, 3) := dk_167 0 4 (dk_at dksX0_back_3 3 rfl rfl)
theorem dX0_back_76 : decode cX0_back 76 = .ok (.iconst 0, 1) := dk_3 (dk_at dksX0_back_3 6 rfl rfl)
theorem dX0_back_77 : decode cX0_back 77 = .ok (.putfield 178, 3) := dk_181 0 178 (dk_at dksX0_back_3 7 rfl rfl)
theorem dX0_back_80 : decode cX0_back 80 = .ok (.iinc 1 1, 3) := dk_132 1 1 (dk_at dksX0_back_3 10 rfl rfl)
theorem dX0_back_83 : decode cX0_back 83 = .ok (.goto (-71), 3) := dk_167 255 185 (dk_at dksX0_back_3 13 rfl rfl)
theorem dX0_back_86 : decode cX0_back 86 = .ok (.aload_n 0, 1) := dk_42 (dk_at dksX0_back_3 16 rfl rfl)
theorem dX0_back_87 : decode cX0_back 87 = .ok (.aload_n 0, 1) := dk_42 (dk_at dksX0_back_3 17 rfl rfl)
theorem dX0_back_88 : decode cX0_back 88 = .ok (.getfield 408, 3) := dk_180 1 152 (dk_at dksX0_back_3 18 rfl rfl)
theorem dX0_back_91 : decode cX0_back 91 = .ok (.putfield 383, 3) := dk_181 1 127 (dk_at dksX0_back_3 21 rfl rfl)
theorem dX0_back_94 : decode cX0_back 94 = .ok (.aload_n 0, 1) := dk_42 (dk_at dksX0_back_4 0 rfl rfl)
theorem dX0_back_95 : decode cX0_back 95 = .ok (.aload_n 0, 1) := dk_42 (dk_at dksX0_back_4 1 rfl rfl)
theorem dX0_back_96 : decode cX0_back 96 = .ok (.getfield 411, 3) := dk_180 1 155 (dk_at dksX0_back_4 2 rfl rfl)
theorem dX0_back_99 : decode cX0_back 99 = .ok (.putfield 386, 3) := dk_181 1 130 (dk_at dksX0_back_4 5 rfl rfl)
theorem dX0_back_102 : decode cX0_back 102 = .ok (.aload_n 0, 1) := dk_42 (dk_at dksX0_back_4 8 rfl rfl)
theorem dX0_back_103 : decode cX0_back 103 = .ok (.aload_n 0, 1) := dk_42 (dk_at dksX0_back_4 9 rfl rfl)
theorem dX0_back_104 : decode cX0_back 104 = .ok (.getfield 414, 3) := dk_180 1 158 (dk_at dksX0_back_4 10 rfl rfl)
theorem dX0_back_107 : decode cX0_back 107 = .ok (.putfield 389, 3) := dk_181 1 133 (dk_at dksX0_back_4 13 rfl rfl)
theorem dX0_back_110 : decode cX0_back 110 = .ok (.aload_n 0, 1) := dk_42 (dk_at dksX0_back_4 16 rfl rfl)
theorem dX0_back_111 : decode cX0_back 111 = .ok (.aload_n 0, 1) := dk_42 (dk_at dksX0_back_4 17 rfl rfl)
theorem dX0_back_112 : decode cX0_back 112 = .ok (.getfield 417, 3) := dk_180 1 161 (dk_at dksX0_back_4 18 rfl rfl)
theorem dX0_back_115 : decode cX0_back 115 = .ok (.putfield 395, 3) := dk_181 1 139 (dk_at dksX0_back_4 21 rfl rfl)
theorem dX0_back_118 : decode cX0_back 118 = .ok (.aload_n 0, 1) := dk_42 (dk_at dksX0_back_5 0 rfl rfl)
theorem dX0_back_119 : decode cX0_back 119 = .ok (.aload_n 0, 1) := dk_42 (dk_at dksX0_back_5 1 rfl rfl)
theorem dX0_back_120 : decode cX0_back 120 = .ok (.getfield 420, 3) := dk_180 1 164 (dk_at dksX0_back_5 2 rfl rfl)
theorem dX0_back_123 : decode cX0_back 123 = .ok (.putfield 398, 3) := dk_181 1 142 (dk_at dksX0_back_5 5 rfl rfl)
theorem dX0_back_126 : decode cX0_back 126 = .ok (.aload_n 0, 1) := dk_42 (dk_at dksX0_back_5 8 rfl rfl)
theorem dX0_back_127 : decode cX0_back 127 = .ok (.getfield 383, 3) := dk_180 1 127 (dk_at dksX0_back_5 9 rfl rfl)
theorem dX0_back_130 : decode cX0_back 130 = .ok (.ireturn, 1) := dk_172 (dk_at dksX0_back_5 12 rfl rfl)
abbrev cX0_body : ByteArray := prog_1_method_78_code
def yX0_body : MethodName := ⟨RX0, "body", "(I)I"⟩
def dkwX0_body_2 : List UInt8 := [42, 180, 1, 170, 4, 100, 172]
abbrev dktX0_body_2 : List UInt8 := dkwX0_body_2 ++ []
def dkwX0_body_1 : List UInt8 := [42, 180, 0, 69, 42, 180, 1, 170, 42, 27, 182, 1, 197, 83, 42, 89, 180, 1, 170, 4, 96, 181, 1, 170]
abbrev dktX0_body_1 : List UInt8 := dkwX0_body_1 ++ dktX0_body_2
def dkwX0_body_0 : List UInt8 := [27, 3, 16, 7, 184, 0, 82, 154, 0, 5, 2, 172, 42, 180, 1, 170, 16, 50, 160, 0, 6, 16, 253, 172]
abbrev dktX0_body_0 : List UInt8 := dkwX0_body_0 ++ dktX0_body_1
theorem dksX0_body_0 : cX0_body.data.toList.drop 0 = dktX0_body_0 := by decide +kernel
theorem dksX0_body_1 : cX0_body.data.toList.drop 24 = dktX0_body_1 := dk_seg dksX0_body_0 24 rfl rfl
theorem dksX0_body_2 : cX0_body.data.toList.drop 48 = dktX0_body_2 := dk_seg dksX0_body_1 24 rfl rfl
theorem dX0_body_0 : decode cX0_body 0 = .ok (.iload_n 1, 1) := dk_27 (dk_at dksX0_body_0 0 rfl rfl)
theorem dX0_body_1 : decode cX0_body 1 = .ok (.iconst 0, 1) := dk_3 (dk_at dksX0_body_0 1 rfl rfl)
theorem dX0_body_2 : decode cX0_body 2 = .ok (.bipush 7, 2) := dk_16 7 (dk_at dksX0_body_0 2 rfl rfl)
theorem dX0_body_4 : decode cX0_body 4 = .ok (.invokestatic 82, 3) := dk_184 0 82 (dk_at dksX0_body_0 4 rfl rfl)
theorem dX0_body_7 : decode cX0_body 7 = .ok (.ifCond .ne 5, 3) := dk_154 0 5 (dk_at dksX0_body_0 7 rfl rfl)
theorem dX0_body_10 : decode cX0_body 10 = .ok (.iconst (-1), 1) := dk_2 (dk_at dksX0_body_0 10 rfl rfl)
theorem dX0_body_11 : decode cX0_body 11 = .ok (.ireturn, 1) := dk_172 (dk_at dksX0_body_0 11 rfl rfl)
theorem dX0_body_12 : decode cX0_body 12 = .ok (.aload_n 0, 1) := dk_42 (dk_at dksX0_body_0 12 rfl rfl)
theorem dX0_body_13 : decode cX0_body 13 = .ok (.getfield 426, 3) := dk_180 1 170 (dk_at dksX0_body_0 13 rfl rfl)
theorem dX0_body_16 : decode cX0_body 16 = .ok (.bipush 50, 2) := dk_16 50 (dk_at dksX0_body_0 16 rfl rfl)
theorem dX0_body_18 : decode cX0_body 18 = .ok (.if_icmp .ne 6, 3) := dk_160 0 6 (dk_at dksX0_body_0 18 rfl rfl)
theorem dX0_body_21 : decode cX0_body 21 = .ok (.bipush (-3), 2) := dk_16 253 (dk_at dksX0_body_0 21 rfl rfl)
theorem dX0_body_23 : decode cX0_body 23 = .ok (.ireturn, 1) := dk_172 (dk_at dksX0_body_0 23 rfl rfl)
theorem dX0_body_24 : decode cX0_body 24 = .ok (.aload_n 0, 1) := dk_42 (dk_at dksX0_body_1 0 rfl rfl)
theorem dX0_body_25 : decode cX0_body 25 = .ok (.getfield 69, 3) := dk_180 0 69 (dk_at dksX0_body_1 1 rfl rfl)
theorem dX0_body_28 : decode cX0_body 28 = .ok (.aload_n 0, 1) := dk_42 (dk_at dksX0_body_1 4 rfl rfl)
theorem dX0_body_29 : decode cX0_body 29 = .ok (.getfield 426, 3) := dk_180 1 170 (dk_at dksX0_body_1 5 rfl rfl)
theorem dX0_body_32 : decode cX0_body 32 = .ok (.aload_n 0, 1) := dk_42 (dk_at dksX0_body_1 8 rfl rfl)
theorem dX0_body_33 : decode cX0_body 33 = .ok (.iload_n 1, 1) := dk_27 (dk_at dksX0_body_1 9 rfl rfl)
theorem dX0_body_34 : decode cX0_body 34 = .ok (.invokevirtual 453, 3) := dk_182 1 197 (dk_at dksX0_body_1 10 rfl rfl)
theorem dX0_body_37 : decode cX0_body 37 = .ok (.aastore, 1) := dk_83 (dk_at dksX0_body_1 13 rfl rfl)
theorem dX0_body_38 : decode cX0_body 38 = .ok (.aload_n 0, 1) := dk_42 (dk_at dksX0_body_1 14 rfl rfl)
theorem dX0_body_39 : decode cX0_body 39 = .ok (.dup, 1) := dk_89 (dk_at dksX0_body_1 15 rfl rfl)
theorem dX0_body_40 : decode cX0_body 40 = .ok (.getfield 426, 3) := dk_180 1 170 (dk_at dksX0_body_1 16 rfl rfl)
theorem dX0_body_43 : decode cX0_body 43 = .ok (.iconst 1, 1) := dk_4 (dk_at dksX0_body_1 19 rfl rfl)
theorem dX0_body_44 : decode cX0_body 44 = .ok (.iadd, 1) := dk_96 (dk_at dksX0_body_1 20 rfl rfl)
theorem dX0_body_45 : decode cX0_body 45 = .ok (.putfield 426, 3) := dk_181 1 170 (dk_at dksX0_body_1 21 rfl rfl)
theorem dX0_body_48 : decode cX0_body 48 = .ok (.aload_n 0, 1) := dk_42 (dk_at dksX0_body_2 0 rfl rfl)
theorem dX0_body_49 : decode cX0_body 49 = .ok (.getfield 426, 3) := dk_180 1 170 (dk_at dksX0_body_2 1 rfl rfl)
theorem dX0_body_52 : decode cX0_body 52 = .ok (.iconst 1, 1) := dk_4 (dk_at dksX0_body_2 4 rfl rfl)
theorem dX0_body_53 : decode cX0_body 53 = .ok (.isub, 1) := dk_100 (dk_at dksX0_body_2 5 rfl rfl)
theorem dX0_body_54 : decode cX0_body 54 = .ok (.ireturn, 1) := dk_172 (dk_at dksX0_body_2 6 rfl rfl)
abbrev cX0_made : ByteArray := prog_1_method_77_code
def yX0_made : MethodName := ⟨RX0, "made", "(I)LEightLegs$Beat;"⟩
def dkwX0_made_6 : List UInt8 := [187, 0, 67, 89, 42, 42, 180, 1, 170, 183, 1, 196, 176]
abbrev dktX0_made_6 : List UInt8 := dkwX0_made_6 ++ []
def dkwX0_made_5 : List UInt8 := [42, 42, 180, 1, 170, 183, 1, 192, 176, 187, 1, 193, 89, 42, 42, 180, 1, 170, 183, 1, 195, 176]
abbrev dktX0_made_5 : List UInt8 := dkwX0_made_5 ++ dktX0_made_6
def dkwX0_made_4 : List UInt8 := [180, 1, 170, 183, 1, 186, 176, 187, 1, 187, 89, 42, 42, 180, 1, 170, 183, 1, 189, 176, 187, 1, 190, 89]
abbrev dktX0_made_4 : List UInt8 := dkwX0_made_4 ++ dktX0_made_5
def dkwX0_made_3 : List UInt8 := [183, 1, 180, 176, 187, 1, 181, 89, 42, 42, 180, 1, 170, 183, 1, 183, 176, 187, 1, 184, 89, 42, 42]
abbrev dktX0_made_3 : List UInt8 := dkwX0_made_3 ++ dktX0_made_4
def dkwX0_made_2 : List UInt8 := [187, 1, 173, 89, 42, 42, 180, 1, 170, 183, 1, 175, 176, 187, 1, 178, 89, 42, 42, 180, 1, 170]
abbrev dktX0_made_2 : List UInt8 := dkwX0_made_2 ++ dktX0_made_3
def dkwX0_made_1 : List UInt8 := [170, 0, 0, 0, 0, 0, 134, 0, 0, 0, 1, 0, 0, 0, 7, 0, 0, 0, 43, 0, 0, 0, 56, 0, 0, 0, 69, 0, 0, 0, 82, 0, 0, 0, 95, 0, 0, 0, 108, 0, 0, 0, 121]
abbrev dktX0_made_1 : List UInt8 := dkwX0_made_1 ++ dktX0_made_2
def dkwX0_made_0 : List UInt8 := [27]
abbrev dktX0_made_0 : List UInt8 := dkwX0_made_0 ++ dktX0_made_1
theorem dksX0_made_0 : cX0_made.data.toList.drop 0 = dktX0_made_0 := by decide +kernel
theorem dksX0_made_1 : cX0_made.data.toList.drop 1 = dktX0_made_1 := dk_seg dksX0_made_0 1 rfl rfl
theorem dksX0_made_2 : cX0_made.data.toList.drop 44 = dktX0_made_2 := dk_seg dksX0_made_1 43 rfl rfl
theorem dksX0_made_3 : cX0_made.data.toList.drop 66 = dktX0_made_3 := dk_seg dksX0_made_2 22 rfl rfl
theorem dksX0_made_4 : cX0_made.data.toList.drop 89 = dktX0_made_4 := dk_seg dksX0_made_3 23 rfl rfl
theorem dksX0_made_5 : cX0_made.data.toList.drop 113 = dktX0_made_5 := dk_seg dksX0_made_4 24 rfl rfl
theorem dksX0_made_6 : cX0_made.data.toList.drop 135 = dktX0_made_6 := dk_seg dksX0_made_5 22 rfl rfl
theorem dX0_made_0 : decode cX0_made 0 = .ok (.iload_n 1, 1) := dk_27 (dk_at dksX0_made_0 0 rfl rfl)
theorem dX0_made_1 : decode cX0_made 1 = .ok (.tableswitch 134 1 7 #[43, 56, 69, 82, 95, 108, 121], 43) := by decide +kernel
theorem dX0_made_44 : decode cX0_made 44 = .ok (.new 429, 3) := dk_187 1 173 (dk_at dksX0_made_2 0 rfl rfl)
theorem dX0_made_47 : decode cX0_made 47 = .ok (.dup, 1) := dk_89 (dk_at dksX0_made_2 3 rfl rfl)
theorem dX0_made_48 : decode cX0_made 48 = .ok (.aload_n 0, 1) := dk_42 (dk_at dksX0_made_2 4 rfl rfl)
theorem dX0_made_49 : decode cX0_made 49 = .ok (.aload_n 0, 1) := dk_42 (dk_at dksX0_made_2 5 rfl rfl)
theorem dX0_made_50 : decode cX0_made 50 = .ok (.getfield 426, 3) := dk_180 1 170 (dk_at dksX0_made_2 6 rfl rfl)
theorem dX0_made_53 : decode cX0_made 53 = .ok (.invokespecial 431, 3) := dk_183 1 175 (dk_at dksX0_made_2 9 rfl rfl)
theorem dX0_made_56 : decode cX0_made 56 = .ok (.areturn, 1) := dk_176 (dk_at dksX0_made_2 12 rfl rfl)
theorem dX0_made_57 : decode cX0_made 57 = .ok (.new 434, 3) := dk_187 1 178 (dk_at dksX0_made_2 13 rfl rfl)
theorem dX0_made_60 : decode cX0_made 60 = .ok (.dup, 1) := dk_89 (dk_at dksX0_made_2 16 rfl rfl)
theorem dX0_made_61 : decode cX0_made 61 = .ok (.aload_n 0, 1) := dk_42 (dk_at dksX0_made_2 17 rfl rfl)
theorem dX0_made_62 : decode cX0_made 62 = .ok (.aload_n 0, 1) := dk_42 (dk_at dksX0_made_2 18 rfl rfl)
theorem dX0_made_63 : decode cX0_made 63 = .ok (.getfield 426, 3) := dk_180 1 170 (dk_at dksX0_made_2 19 rfl rfl)
theorem dX0_made_66 : decode cX0_made 66 = .ok (.invokespecial 436, 3) := dk_183 1 180 (dk_at dksX0_made_3 0 rfl rfl)
theorem dX0_made_69 : decode cX0_made 69 = .ok (.areturn, 1) := dk_176 (dk_at dksX0_made_3 3 rfl rfl)
theorem dX0_made_70 : decode cX0_made 70 = .ok (.new 437, 3) := dk_187 1 181 (dk_at dksX0_made_3 4 rfl rfl)
theorem dX0_made_73 : decode cX0_made 73 = .ok (.dup, 1) := dk_89 (dk_at dksX0_made_3 7 rfl rfl)
theorem dX0_made_74 : decode cX0_made 74 = .ok (.aload_n 0, 1) := dk_42 (dk_at dksX0_made_3 8 rfl rfl)
theorem dX0_made_75 : decode cX0_made 75 = .ok (.aload_n 0, 1) := dk_42 (dk_at dksX0_made_3 9 rfl rfl)
theorem dX0_made_76 : decode cX0_made 76 = .ok (.getfield 426, 3) := dk_180 1 170 (dk_at dksX0_made_3 10 rfl rfl)
theorem dX0_made_79 : decode cX0_made 79 = .ok (.invokespecial 439, 3) := dk_183 1 183 (dk_at dksX0_made_3 13 rfl rfl)
theorem dX0_made_82 : decode cX0_made 82 = .ok (.areturn, 1) := dk_176 (dk_at dksX0_made_3 16 rfl rfl)
theorem dX0_made_83 : decode cX0_made 83 = .ok (.new 440, 3) := dk_187 1 184 (dk_at dksX0_made_3 17 rfl rfl)
theorem dX0_made_86 : decode cX0_made 86 = .ok (.dup, 1) := dk_89 (dk_at dksX0_made_3 20 rfl rfl)
theorem dX0_made_87 : decode cX0_made 87 = .ok (.aload_n 0, 1) := dk_42 (dk_at dksX0_made_3 21 rfl rfl)
theorem dX0_made_88 : decode cX0_made 88 = .ok (.aload_n 0, 1) := dk_42 (dk_at dksX0_made_3 22 rfl rfl)
theorem dX0_made_89 : decode cX0_made 89 = .ok (.getfield 426, 3) := dk_180 1 170 (dk_at dksX0_made_4 0 rfl rfl)
theorem dX0_made_92 : decode cX0_made 92 = .ok (.invokespecial 442, 3) := dk_183 1 186 (dk_at dksX0_made_4 3 rfl rfl)
theorem dX0_made_95 : decode cX0_made 95 = .ok (.areturn, 1) := dk_176 (dk_at dksX0_made_4 6 rfl rfl)
theorem dX0_made_96 : decode cX0_made 96 = .ok (.new 443, 3) := dk_187 1 187 (dk_at dksX0_made_4 7 rfl rfl)
theorem dX0_made_99 : decode cX0_made 99 = .ok (.dup, 1) := dk_89 (dk_at dksX0_made_4 10 rfl rfl)
theorem dX0_made_100 : decode cX0_made 100 = .ok (.aload_n 0, 1) := dk_42 (dk_at dksX0_made_4 11 rfl rfl)
theorem dX0_made_101 : decode cX0_made 101 = .ok (.aload_n 0, 1) := dk_42 (dk_at dksX0_made_4 12 rfl rfl)
theorem dX0_made_102 : decode cX0_made 102 = .ok (.getfield 426, 3) := dk_180 1 170 (dk_at dksX0_made_4 13 rfl rfl)
theorem dX0_made_105 : decode cX0_made 105 = .ok (.invokespecial 445, 3) := dk_183 1 189 (dk_at dksX0_made_4 16 rfl rfl)
theorem dX0_made_108 : decode cX0_made 108 = .ok (.areturn, 1) := dk_176 (dk_at dksX0_made_4 19 rfl rfl)
theorem dX0_made_109 : decode cX0_made 109 = .ok (.new 446, 3) := dk_187 1 190 (dk_at dksX0_made_4 20 rfl rfl)
theorem dX0_made_112 : decode cX0_made 112 = .ok (.dup, 1) := dk_89 (dk_at dksX0_made_4 23 rfl rfl)
theorem dX0_made_113 : decode cX0_made 113 = .ok (.aload_n 0, 1) := dk_42 (dk_at dksX0_made_5 0 rfl rfl)
theorem dX0_made_114 : decode cX0_made 114 = .ok (.aload_n 0, 1) := dk_42 (dk_at dksX0_made_5 1 rfl rfl)
theorem dX0_made_115 : decode cX0_made 115 = .ok (.getfield 426, 3) := dk_180 1 170 (dk_at dksX0_made_5 2 rfl rfl)
theorem dX0_made_118 : decode cX0_made 118 = .ok (.invokespecial 448, 3) := dk_183 1 192 (dk_at dksX0_made_5 5 rfl rfl)
theorem dX0_made_121 : decode cX0_made 121 = .ok (.areturn, 1) := dk_176 (dk_at dksX0_made_5 8 rfl rfl)
theorem dX0_made_122 : decode cX0_made 122 = .ok (.new 449, 3) := dk_187 1 193 (dk_at dksX0_made_5 9 rfl rfl)
theorem dX0_made_125 : decode cX0_made 125 = .ok (.dup, 1) := dk_89 (dk_at dksX0_made_5 12 rfl rfl)
theorem dX0_made_126 : decode cX0_made 126 = .ok (.aload_n 0, 1) := dk_42 (dk_at dksX0_made_5 13 rfl rfl)
theorem dX0_made_127 : decode cX0_made 127 = .ok (.aload_n 0, 1) := dk_42 (dk_at dksX0_made_5 14 rfl rfl)
theorem dX0_made_128 : decode cX0_made 128 = .ok (.getfield 426, 3) := dk_180 1 170 (dk_at dksX0_made_5 15 rfl rfl)
theorem dX0_made_131 : decode cX0_made 131 = .ok (.invokespecial 451, 3) := dk_183 1 195 (dk_at dksX0_made_5 18 rfl rfl)
theorem dX0_made_134 : decode cX0_made 134 = .ok (.areturn, 1) := dk_176 (dk_at dksX0_made_5 21 rfl rfl)
theorem dX0_made_135 : decode cX0_made 135 = .ok (.new 67, 3) := dk_187 0 67 (dk_at dksX0_made_6 0 rfl rfl)
theorem dX0_made_138 : decode cX0_made 138 = .ok (.dup, 1) := dk_89 (dk_at dksX0_made_6 3 rfl rfl)
theorem dX0_made_139 : decode cX0_made 139 = .ok (.aload_n 0, 1) := dk_42 (dk_at dksX0_made_6 4 rfl rfl)
theorem dX0_made_140 : decode cX0_made 140 = .ok (.aload_n 0, 1) := dk_42 (dk_at dksX0_made_6 5 rfl rfl)
theorem dX0_made_141 : decode cX0_made 141 = .ok (.getfield 426, 3) := dk_180 1 170 (dk_at dksX0_made_6 6 rfl rfl)
theorem dX0_made_144 : decode cX0_made 144 = .ok (.invokespecial 452, 3) := dk_183 1 196 (dk_at dksX0_made_6 9 rfl rfl)
theorem dX0_made_147 : decode cX0_made 147 = .ok (.areturn, 1) := dk_176 (dk_at dksX0_made_6 12 rfl rfl)
abbrev cX0_act : ByteArray := prog_1_method_80_code
def yX0_act : MethodName := ⟨RX0, "act", "(III)I"⟩
def dkwX0_act_3 : List UInt8 := [25, 4, 29, 182, 1, 214, 167, 0, 9, 25, 4, 29, 182, 1, 217, 172]
abbrev dktX0_act_3 : List UInt8 := dkwX0_act_3 ++ []
def dkwX0_act_2 : List UInt8 := [172, 28, 6, 160, 0, 16, 25, 4, 58, 5, 25, 5, 29, 185, 1, 209, 2, 0, 172, 28, 4, 160, 0, 12]
abbrev dktX0_act_2 : List UInt8 := dkwX0_act_2 ++ dktX0_act_3
def dkwX0_act_1 : List UInt8 := [42, 180, 0, 69, 27, 50, 58, 4, 28, 154, 0, 16, 25, 4, 58, 5, 25, 5, 29, 185, 1, 204, 2, 0]
abbrev dktX0_act_1 : List UInt8 := dkwX0_act_1 ++ dktX0_act_2
def dkwX0_act_0 : List UInt8 := [42, 3, 181, 1, 167, 42, 27, 182, 1, 201, 153, 0, 12, 28, 3, 6, 184, 0, 82, 154, 0, 5, 3, 172]
abbrev dktX0_act_0 : List UInt8 := dkwX0_act_0 ++ dktX0_act_1
theorem dksX0_act_0 : cX0_act.data.toList.drop 0 = dktX0_act_0 := by decide +kernel
theorem dksX0_act_1 : cX0_act.data.toList.drop 24 = dktX0_act_1 := dk_seg dksX0_act_0 24 rfl rfl
theorem dksX0_act_2 : cX0_act.data.toList.drop 48 = dktX0_act_2 := dk_seg dksX0_act_1 24 rfl rfl
theorem dksX0_act_3 : cX0_act.data.toList.drop 72 = dktX0_act_3 := dk_seg dksX0_act_2 24 rfl rfl
theorem dX0_act_0 : decode cX0_act 0 = .ok (.aload_n 0, 1) := dk_42 (dk_at dksX0_act_0 0 rfl rfl)
theorem dX0_act_1 : decode cX0_act 1 = .ok (.iconst 0, 1) := dk_3 (dk_at dksX0_act_0 1 rfl rfl)
theorem dX0_act_2 : decode cX0_act 2 = .ok (.putfield 423, 3) := dk_181 1 167 (dk_at dksX0_act_0 2 rfl rfl)
theorem dX0_act_5 : decode cX0_act 5 = .ok (.aload_n 0, 1) := dk_42 (dk_at dksX0_act_0 5 rfl rfl)
theorem dX0_act_6 : decode cX0_act 6 = .ok (.iload_n 1, 1) := dk_27 (dk_at dksX0_act_0 6 rfl rfl)
theorem dX0_act_7 : decode cX0_act 7 = .ok (.invokevirtual 457, 3) := dk_182 1 201 (dk_at dksX0_act_0 7 rfl rfl)
theorem dX0_act_10 : decode cX0_act 10 = .ok (.ifCond .eq 12, 3) := dk_153 0 12 (dk_at dksX0_act_0 10 rfl rfl)
theorem dX0_act_13 : decode cX0_act 13 = .ok (.iload_n 2, 1) := dk_28 (dk_at dksX0_act_0 13 rfl rfl)
theorem dX0_act_14 : decode cX0_act 14 = .ok (.iconst 0, 1) := dk_3 (dk_at dksX0_act_0 14 rfl rfl)
theorem dX0_act_15 : decode cX0_act 15 = .ok (.iconst 3, 1) := dk_6 (dk_at dksX0_act_0 15 rfl rfl)
theorem dX0_act_16 : decode cX0_act 16 = .ok (.invokestatic 82, 3) := dk_184 0 82 (dk_at dksX0_act_0 16 rfl rfl)
theorem dX0_act_19 : decode cX0_act 19 = .ok (.ifCond .ne 5, 3) := dk_154 0 5 (dk_at dksX0_act_0 19 rfl rfl)
theorem dX0_act_22 : decode cX0_act 22 = .ok (.iconst 0, 1) := dk_3 (dk_at dksX0_act_0 22 rfl rfl)
theorem dX0_act_23 : decode cX0_act 23 = .ok (.ireturn, 1) := dk_172 (dk_at dksX0_act_0 23 rfl rfl)
theorem dX0_act_24 : decode cX0_act 24 = .ok (.aload_n 0, 1) := dk_42 (dk_at dksX0_act_1 0 rfl rfl)
theorem dX0_act_25 : decode cX0_act 25 = .ok (.getfield 69, 3) := dk_180 0 69 (dk_at dksX0_act_1 1 rfl rfl)
theorem dX0_act_28 : decode cX0_act 28 = .ok (.iload_n 1, 1) := dk_27 (dk_at dksX0_act_1 4 rfl rfl)
theorem dX0_act_29 : decode cX0_act 29 = .ok (.aaload, 1) := dk_50 (dk_at dksX0_act_1 5 rfl rfl)
theorem dX0_act_30 : decode cX0_act 30 = .ok (.astore 4, 2) := dk_58 4 (dk_at dksX0_act_1 6 rfl rfl)
theorem dX0_act_32 : decode cX0_act 32 = .ok (.iload_n 2, 1) := dk_28 (dk_at dksX0_act_1 8 rfl rfl)
theorem dX0_act_33 : decode cX0_act 33 = .ok (.ifCond .ne 16, 3) := dk_154 0 16 (dk_at dksX0_act_1 9 rfl rfl)
theorem dX0_act_36 : decode cX0_act 36 = .ok (.aload 4, 2) := dk_25 4 (dk_at dksX0_act_1 12 rfl rfl)
theorem dX0_act_38 : decode cX0_act 38 = .ok (.astore 5, 2) := dk_58 5 (dk_at dksX0_act_1 14 rfl rfl)
theorem dX0_act_40 : decode cX0_act 40 = .ok (.aload 5, 2) := dk_25 5 (dk_at dksX0_act_1 16 rfl rfl)
theorem dX0_act_42 : decode cX0_act 42 = .ok (.iload_n 3, 1) := dk_29 (dk_at dksX0_act_1 18 rfl rfl)
theorem dX0_act_43 : decode cX0_act 43 = .ok (.invokeinterface 460 2, 5) := by decide +kernel
theorem dX0_act_48 : decode cX0_act 48 = .ok (.ireturn, 1) := dk_172 (dk_at dksX0_act_2 0 rfl rfl)
theorem dX0_act_49 : decode cX0_act 49 = .ok (.iload_n 2, 1) := dk_28 (dk_at dksX0_act_2 1 rfl rfl)
theorem dX0_act_50 : decode cX0_act 50 = .ok (.iconst 3, 1) := dk_6 (dk_at dksX0_act_2 2 rfl rfl)
theorem dX0_act_51 : decode cX0_act 51 = .ok (.if_icmp .ne 16, 3) := dk_160 0 16 (dk_at dksX0_act_2 3 rfl rfl)
theorem dX0_act_54 : decode cX0_act 54 = .ok (.aload 4, 2) := dk_25 4 (dk_at dksX0_act_2 6 rfl rfl)
theorem dX0_act_56 : decode cX0_act 56 = .ok (.astore 5, 2) := dk_58 5 (dk_at dksX0_act_2 8 rfl rfl)
theorem dX0_act_58 : decode cX0_act 58 = .ok (.aload 5, 2) := dk_25 5 (dk_at dksX0_act_2 10 rfl rfl)
theorem dX0_act_60 : decode cX0_act 60 = .ok (.iload_n 3, 1) := dk_29 (dk_at dksX0_act_2 12 rfl rfl)
theorem dX0_act_61 : decode cX0_act 61 = .ok (.invokeinterface 465 2, 5) := by decide +kernel
theorem dX0_act_66 : decode cX0_act 66 = .ok (.ireturn, 1) := dk_172 (dk_at dksX0_act_2 18 rfl rfl)
theorem dX0_act_67 : decode cX0_act 67 = .ok (.iload_n 2, 1) := dk_28 (dk_at dksX0_act_2 19 rfl rfl)
theorem dX0_act_68 : decode cX0_act 68 = .ok (.iconst 1, 1) := dk_4 (dk_at dksX0_act_2 20 rfl rfl)
theorem dX0_act_69 : decode cX0_act 69 = .ok (.if_icmp .ne 12, 3) := dk_160 0 12 (dk_at dksX0_act_2 21 rfl rfl)
theorem dX0_act_72 : decode cX0_act 72 = .ok (.aload 4, 2) := dk_25 4 (dk_at dksX0_act_3 0 rfl rfl)
theorem dX0_act_74 : decode cX0_act 74 = .ok (.iload_n 3, 1) := dk_29 (dk_at dksX0_act_3 2 rfl rfl)
theorem dX0_act_75 : decode cX0_act 75 = .ok (.invokevirtual 470, 3) := dk_182 1 214 (dk_at dksX0_act_3 3 rfl rfl)
theorem dX0_act_78 : decode cX0_act 78 = .ok (.goto 9, 3) := dk_167 0 9 (dk_at dksX0_act_3 6 rfl rfl)
theorem dX0_act_81 : decode cX0_act 81 = .ok (.aload 4, 2) := dk_25 4 (dk_at dksX0_act_3 9 rfl rfl)
theorem dX0_act_83 : decode cX0_act 83 = .ok (.iload_n 3, 1) := dk_29 (dk_at dksX0_act_3 11 rfl rfl)
theorem dX0_act_84 : decode cX0_act 84 = .ok (.invokevirtual 473, 3) := dk_182 1 217 (dk_at dksX0_act_3 12 rfl rfl)
theorem dX0_act_87 : decode cX0_act 87 = .ok (.ireturn, 1) := dk_172 (dk_at dksX0_act_3 15 rfl rfl)
abbrev cX0_isBody : ByteArray := prog_1_method_76_code
def yX0_isBody : MethodName := ⟨RX0, "isBody", "(I)Z"⟩
def dkwX0_isBody_0 : List UInt8 := [27, 3, 42, 180, 1, 170, 4, 100, 184, 0, 82, 172]
abbrev dktX0_isBody_0 : List UInt8 := dkwX0_isBody_0 ++ []
theorem dksX0_isBody_0 : cX0_isBody.data.toList.drop 0 = dktX0_isBody_0 := by decide +kernel
theorem dX0_isBody_0 : decode cX0_isBody 0 = .ok (.iload_n 1, 1) := dk_27 (dk_at dksX0_isBody_0 0 rfl rfl)
theorem dX0_isBody_1 : decode cX0_isBody 1 = .ok (.iconst 0, 1) := dk_3 (dk_at dksX0_isBody_0 1 rfl rfl)
theorem dX0_isBody_2 : decode cX0_isBody 2 = .ok (.aload_n 0, 1) := dk_42 (dk_at dksX0_isBody_0 2 rfl rfl)
theorem dX0_isBody_3 : decode cX0_isBody 3 = .ok (.getfield 426, 3) := dk_180 1 170 (dk_at dksX0_isBody_0 3 rfl rfl)
theorem dX0_isBody_6 : decode cX0_isBody 6 = .ok (.iconst 1, 1) := dk_4 (dk_at dksX0_isBody_0 6 rfl rfl)
theorem dX0_isBody_7 : decode cX0_isBody 7 = .ok (.isub, 1) := dk_100 (dk_at dksX0_isBody_0 7 rfl rfl)
theorem dX0_isBody_8 : decode cX0_isBody 8 = .ok (.invokestatic 82, 3) := dk_184 0 82 (dk_at dksX0_isBody_0 8 rfl rfl)
theorem dX0_isBody_11 : decode cX0_isBody 11 = .ok (.ireturn, 1) := dk_172 (dk_at dksX0_isBody_0 11 rfl rfl)
abbrev cX0_ran : ByteArray := prog_1_method_75_code
def yX0_ran : MethodName := ⟨RX0, "ran", "(I)V"⟩
def dkwX0_ran_1 : List UInt8 := [180, 1, 167, 4, 96, 181, 1, 167, 177]
abbrev dktX0_ran_1 : List UInt8 := dkwX0_ran_1 ++ []
def dkwX0_ran_0 : List UInt8 := [42, 180, 1, 167, 16, 24, 162, 0, 14, 42, 180, 0, 64, 42, 180, 1, 167, 27, 145, 84, 42, 89]
abbrev dktX0_ran_0 : List UInt8 := dkwX0_ran_0 ++ dktX0_ran_1
theorem dksX0_ran_0 : cX0_ran.data.toList.drop 0 = dktX0_ran_0 := by decide +kernel
theorem dksX0_ran_1 : cX0_ran.data.toList.drop 22 = dktX0_ran_1 := dk_seg dksX0_ran_0 22 rfl rfl
theorem dX0_ran_0 : decode cX0_ran 0 = .ok (.aload_n 0, 1) := dk_42 (dk_at dksX0_ran_0 0 rfl rfl)
theorem dX0_ran_1 : decode cX0_ran 1 = .ok (.getfield 423, 3) := dk_180 1 167 (dk_at dksX0_ran_0 1 rfl rfl)
theorem dX0_ran_4 : decode cX0_ran 4 = .ok (.bipush 24, 2) := dk_16 24 (dk_at dksX0_ran_0 4 rfl rfl)
theorem dX0_ran_6 : decode cX0_ran 6 = .ok (.if_icmp .ge 14, 3) := dk_162 0 14 (dk_at dksX0_ran_0 6 rfl rfl)
theorem dX0_ran_9 : decode cX0_ran 9 = .ok (.aload_n 0, 1) := dk_42 (dk_at dksX0_ran_0 9 rfl rfl)
theorem dX0_ran_10 : decode cX0_ran 10 = .ok (.getfield 64, 3) := dk_180 0 64 (dk_at dksX0_ran_0 10 rfl rfl)
theorem dX0_ran_13 : decode cX0_ran 13 = .ok (.aload_n 0, 1) := dk_42 (dk_at dksX0_ran_0 13 rfl rfl)
theorem dX0_ran_14 : decode cX0_ran 14 = .ok (.getfield 423, 3) := dk_180 1 167 (dk_at dksX0_ran_0 14 rfl rfl)
theorem dX0_ran_17 : decode cX0_ran 17 = .ok (.iload_n 1, 1) := dk_27 (dk_at dksX0_ran_0 17 rfl rfl)
theorem dX0_ran_18 : decode cX0_ran 18 = .ok (.i2b, 1) := dk_145 (dk_at dksX0_ran_0 18 rfl rfl)
theorem dX0_ran_19 : decode cX0_ran 19 = .ok (.bastore, 1) := dk_84 (dk_at dksX0_ran_0 19 rfl rfl)
theorem dX0_ran_20 : decode cX0_ran 20 = .ok (.aload_n 0, 1) := dk_42 (dk_at dksX0_ran_0 20 rfl rfl)
theorem dX0_ran_21 : decode cX0_ran 21 = .ok (.dup, 1) := dk_89 (dk_at dksX0_ran_0 21 rfl rfl)
theorem dX0_ran_22 : decode cX0_ran 22 = .ok (.getfield 423, 3) := dk_180 1 167 (dk_at dksX0_ran_1 0 rfl rfl)
theorem dX0_ran_25 : decode cX0_ran 25 = .ok (.iconst 1, 1) := dk_4 (dk_at dksX0_ran_1 3 rfl rfl)
theorem dX0_ran_26 : decode cX0_ran 26 = .ok (.iadd, 1) := dk_96 (dk_at dksX0_ran_1 4 rfl rfl)
theorem dX0_ran_27 : decode cX0_ran 27 = .ok (.putfield 423, 3) := dk_181 1 167 (dk_at dksX0_ran_1 5 rfl rfl)
theorem dX0_ran_30 : decode cX0_ran 30 = .ok (.return_, 1) := dk_177 (dk_at dksX0_ran_1 8 rfl rfl)
abbrev cX0_trace : ByteArray := prog_1_method_81_code
def yX0_trace : MethodName := ⟨RX0, "trace", "(I)I"⟩
def dkwX0_trace_1 : List UInt8 := [167, 0, 4, 2, 172]
abbrev dktX0_trace_1 : List UInt8 := dkwX0_trace_1 ++ []
def dkwX0_trace_0 : List UInt8 := [27, 155, 0, 26, 27, 42, 180, 1, 167, 162, 0, 18, 27, 16, 24, 162, 0, 12, 42, 180, 0, 64, 27, 51]
abbrev dktX0_trace_0 : List UInt8 := dkwX0_trace_0 ++ dktX0_trace_1
theorem dksX0_trace_0 : cX0_trace.data.toList.drop 0 = dktX0_trace_0 := by decide +kernel
theorem dksX0_trace_1 : cX0_trace.data.toList.drop 24 = dktX0_trace_1 := dk_seg dksX0_trace_0 24 rfl rfl
theorem dX0_trace_0 : decode cX0_trace 0 = .ok (.iload_n 1, 1) := dk_27 (dk_at dksX0_trace_0 0 rfl rfl)
theorem dX0_trace_1 : decode cX0_trace 1 = .ok (.ifCond .lt 26, 3) := dk_155 0 26 (dk_at dksX0_trace_0 1 rfl rfl)
theorem dX0_trace_4 : decode cX0_trace 4 = .ok (.iload_n 1, 1) := dk_27 (dk_at dksX0_trace_0 4 rfl rfl)
theorem dX0_trace_5 : decode cX0_trace 5 = .ok (.aload_n 0, 1) := dk_42 (dk_at dksX0_trace_0 5 rfl rfl)
theorem dX0_trace_6 : decode cX0_trace 6 = .ok (.getfield 423, 3) := dk_180 1 167 (dk_at dksX0_trace_0 6 rfl rfl)
theorem dX0_trace_9 : decode cX0_trace 9 = .ok (.if_icmp .ge 18, 3) := dk_162 0 18 (dk_at dksX0_trace_0 9 rfl rfl)
theorem dX0_trace_12 : decode cX0_trace 12 = .ok (.iload_n 1, 1) := dk_27 (dk_at dksX0_trace_0 12 rfl rfl)
theorem dX0_trace_13 : decode cX0_trace 13 = .ok (.bipush 24, 2) := dk_16 24 (dk_at dksX0_trace_0 13 rfl rfl)
theorem dX0_trace_15 : decode cX0_trace 15 = .ok (.if_icmp .ge 12, 3) := dk_162 0 12 (dk_at dksX0_trace_0 15 rfl rfl)
theorem dX0_trace_18 : decode cX0_trace 18 = .ok (.aload_n 0, 1) := dk_42 (dk_at dksX0_trace_0 18 rfl rfl)
theorem dX0_trace_19 : decode cX0_trace 19 = .ok (.getfield 64, 3) := dk_180 0 64 (dk_at dksX0_trace_0 19 rfl rfl)
theorem dX0_trace_22 : decode cX0_trace 22 = .ok (.iload_n 1, 1) := dk_27 (dk_at dksX0_trace_0 22 rfl rfl)
theorem dX0_trace_23 : decode cX0_trace 23 = .ok (.baload, 1) := dk_51 (dk_at dksX0_trace_0 23 rfl rfl)
theorem dX0_trace_24 : decode cX0_trace 24 = .ok (.goto 4, 3) := dk_167 0 4 (dk_at dksX0_trace_1 0 rfl rfl)
theorem dX0_trace_27 : decode cX0_trace 27 = .ok (.iconst (-1), 1) := dk_2 (dk_at dksX0_trace_1 3 rfl rfl)
theorem dX0_trace_28 : decode cX0_trace 28 = .ok (.ireturn, 1) := dk_172 (dk_at dksX0_trace_1 4 rfl rfl)
abbrev cX0_keep : ByteArray := prog_1_method_82_code
def yX0_keep : MethodName := ⟨RX0, "keep", "(II)I"⟩
def dkwX0_keep_1 : List UInt8 := [180, 0, 75, 27, 28, 156, 0, 7, 1, 167, 0, 9, 42, 180, 0, 69, 28, 50, 83, 4, 172]
abbrev dktX0_keep_1 : List UInt8 := dkwX0_keep_1 ++ []
def dkwX0_keep_0 : List UInt8 := [27, 184, 0, 97, 153, 0, 16, 28, 2, 159, 0, 13, 42, 28, 182, 1, 201, 154, 0, 5, 2, 172, 42]
abbrev dktX0_keep_0 : List UInt8 := dkwX0_keep_0 ++ dktX0_keep_1
theorem dksX0_keep_0 : cX0_keep.data.toList.drop 0 = dktX0_keep_0 := by decide +kernel
theorem dksX0_keep_1 : cX0_keep.data.toList.drop 23 = dktX0_keep_1 := dk_seg dksX0_keep_0 23 rfl rfl
theorem dX0_keep_0 : decode cX0_keep 0 = .ok (.iload_n 1, 1) := dk_27 (dk_at dksX0_keep_0 0 rfl rfl)
theorem dX0_keep_1 : decode cX0_keep 1 = .ok (.invokestatic 97, 3) := dk_184 0 97 (dk_at dksX0_keep_0 1 rfl rfl)
theorem dX0_keep_4 : decode cX0_keep 4 = .ok (.ifCond .eq 16, 3) := dk_153 0 16 (dk_at dksX0_keep_0 4 rfl rfl)
theorem dX0_keep_7 : decode cX0_keep 7 = .ok (.iload_n 2, 1) := dk_28 (dk_at dksX0_keep_0 7 rfl rfl)
theorem dX0_keep_8 : decode cX0_keep 8 = .ok (.iconst (-1), 1) := dk_2 (dk_at dksX0_keep_0 8 rfl rfl)
theorem dX0_keep_9 : decode cX0_keep 9 = .ok (.if_icmp .eq 13, 3) := dk_159 0 13 (dk_at dksX0_keep_0 9 rfl rfl)
theorem dX0_keep_12 : decode cX0_keep 12 = .ok (.aload_n 0, 1) := dk_42 (dk_at dksX0_keep_0 12 rfl rfl)
theorem dX0_keep_13 : decode cX0_keep 13 = .ok (.iload_n 2, 1) := dk_28 (dk_at dksX0_keep_0 13 rfl rfl)
theorem dX0_keep_14 : decode cX0_keep 14 = .ok (.invokevirtual 457, 3) := dk_182 1 201 (dk_at dksX0_keep_0 14 rfl rfl)
theorem dX0_keep_17 : decode cX0_keep 17 = .ok (.ifCond .ne 5, 3) := dk_154 0 5 (dk_at dksX0_keep_0 17 rfl rfl)
theorem dX0_keep_20 : decode cX0_keep 20 = .ok (.iconst (-1), 1) := dk_2 (dk_at dksX0_keep_0 20 rfl rfl)
theorem dX0_keep_21 : decode cX0_keep 21 = .ok (.ireturn, 1) := dk_172 (dk_at dksX0_keep_0 21 rfl rfl)
theorem dX0_keep_22 : decode cX0_keep 22 = .ok (.aload_n 0, 1) := dk_42 (dk_at dksX0_keep_0 22 rfl rfl)
theorem dX0_keep_23 : decode cX0_keep 23 = .ok (.getfield 75, 3) := dk_180 0 75 (dk_at dksX0_keep_1 0 rfl rfl)
theorem dX0_keep_26 : decode cX0_keep 26 = .ok (.iload_n 1, 1) := dk_27 (dk_at dksX0_keep_1 3 rfl rfl)
theorem dX0_keep_27 : decode cX0_keep 27 = .ok (.iload_n 2, 1) := dk_28 (dk_at dksX0_keep_1 4 rfl rfl)
theorem dX0_keep_28 : decode cX0_keep 28 = .ok (.ifCond .ge 7, 3) := dk_156 0 7 (dk_at dksX0_keep_1 5 rfl rfl)
theorem dX0_keep_31 : decode cX0_keep 31 = .ok (.aconst_null, 1) := dk_1 (dk_at dksX0_keep_1 8 rfl rfl)
theorem dX0_keep_32 : decode cX0_keep 32 = .ok (.goto 9, 3) := dk_167 0 9 (dk_at dksX0_keep_1 9 rfl rfl)
theorem dX0_keep_35 : decode cX0_keep 35 = .ok (.aload_n 0, 1) := dk_42 (dk_at dksX0_keep_1 12 rfl rfl)
theorem dX0_keep_36 : decode cX0_keep 36 = .ok (.getfield 69, 3) := dk_180 0 69 (dk_at dksX0_keep_1 13 rfl rfl)
theorem dX0_keep_39 : decode cX0_keep 39 = .ok (.iload_n 2, 1) := dk_28 (dk_at dksX0_keep_1 16 rfl rfl)
theorem dX0_keep_40 : decode cX0_keep 40 = .ok (.aaload, 1) := dk_50 (dk_at dksX0_keep_1 17 rfl rfl)
theorem dX0_keep_41 : decode cX0_keep 41 = .ok (.aastore, 1) := dk_83 (dk_at dksX0_keep_1 18 rfl rfl)
theorem dX0_keep_42 : decode cX0_keep 42 = .ok (.iconst 1, 1) := dk_4 (dk_at dksX0_keep_1 19 rfl rfl)
theorem dX0_keep_43 : decode cX0_keep 43 = .ok (.ireturn, 1) := dk_172 (dk_at dksX0_keep_1 20 rfl rfl)
abbrev cX0_row : ByteArray := prog_1_method_84_code
def yX0_row : MethodName := ⟨RX0, "row", "(III)I"⟩
def dkwX0_row_1 : List UInt8 := [42, 180, 0, 75, 27, 28, 29, 184, 1, 232, 83, 167, 0, 8, 58, 4, 16, 242, 172, 4, 172]
abbrev dktX0_row_1 : List UInt8 := dkwX0_row_1 ++ []
def dkwX0_row_0 : List UInt8 := [27, 184, 0, 97, 153, 0, 18, 28, 3, 7, 184, 0, 82, 153, 0, 9, 29, 16, 60, 164, 0, 5, 2, 172]
abbrev dktX0_row_0 : List UInt8 := dkwX0_row_0 ++ dktX0_row_1
theorem dksX0_row_0 : cX0_row.data.toList.drop 0 = dktX0_row_0 := by decide +kernel
theorem dksX0_row_1 : cX0_row.data.toList.drop 24 = dktX0_row_1 := dk_seg dksX0_row_0 24 rfl rfl
theorem dX0_row_0 : decode cX0_row 0 = .ok (.iload_n 1, 1) := dk_27 (dk_at dksX0_row_0 0 rfl rfl)
theorem dX0_row_1 : decode cX0_row 1 = .ok (.invokestatic 97, 3) := dk_184 0 97 (dk_at dksX0_row_0 1 rfl rfl)
theorem dX0_row_4 : decode cX0_row 4 = .ok (.ifCond .eq 18, 3) := dk_153 0 18 (dk_at dksX0_row_0 4 rfl rfl)
theorem dX0_row_7 : decode cX0_row 7 = .ok (.iload_n 2, 1) := dk_28 (dk_at dksX0_row_0 7 rfl rfl)
theorem dX0_row_8 : decode cX0_row 8 = .ok (.iconst 0, 1) := dk_3 (dk_at dksX0_row_0 8 rfl rfl)
theorem dX0_row_9 : decode cX0_row 9 = .ok (.iconst 4, 1) := dk_7 (dk_at dksX0_row_0 9 rfl rfl)
theorem dX0_row_10 : decode cX0_row 10 = .ok (.invokestatic 82, 3) := dk_184 0 82 (dk_at dksX0_row_0 10 rfl rfl)
theorem dX0_row_13 : decode cX0_row 13 = .ok (.ifCond .eq 9, 3) := dk_153 0 9 (dk_at dksX0_row_0 13 rfl rfl)
theorem dX0_row_16 : decode cX0_row 16 = .ok (.iload_n 3, 1) := dk_29 (dk_at dksX0_row_0 16 rfl rfl)
theorem dX0_row_17 : decode cX0_row 17 = .ok (.bipush 60, 2) := dk_16 60 (dk_at dksX0_row_0 17 rfl rfl)
theorem dX0_row_19 : decode cX0_row 19 = .ok (.if_icmp .le 5, 3) := dk_164 0 5 (dk_at dksX0_row_0 19 rfl rfl)
theorem dX0_row_22 : decode cX0_row 22 = .ok (.iconst (-1), 1) := dk_2 (dk_at dksX0_row_0 22 rfl rfl)
theorem dX0_row_23 : decode cX0_row 23 = .ok (.ireturn, 1) := dk_172 (dk_at dksX0_row_0 23 rfl rfl)
theorem dX0_row_24 : decode cX0_row 24 = .ok (.aload_n 0, 1) := dk_42 (dk_at dksX0_row_1 0 rfl rfl)
theorem dX0_row_25 : decode cX0_row 25 = .ok (.getfield 75, 3) := dk_180 0 75 (dk_at dksX0_row_1 1 rfl rfl)
theorem dX0_row_28 : decode cX0_row 28 = .ok (.iload_n 1, 1) := dk_27 (dk_at dksX0_row_1 4 rfl rfl)
theorem dX0_row_29 : decode cX0_row 29 = .ok (.iload_n 2, 1) := dk_28 (dk_at dksX0_row_1 5 rfl rfl)
theorem dX0_row_30 : decode cX0_row 30 = .ok (.iload_n 3, 1) := dk_29 (dk_at dksX0_row_1 6 rfl rfl)
theorem dX0_row_31 : decode cX0_row 31 = .ok (.invokestatic 488, 3) := dk_184 1 232 (dk_at dksX0_row_1 7 rfl rfl)
theorem dX0_row_34 : decode cX0_row 34 = .ok (.aastore, 1) := dk_83 (dk_at dksX0_row_1 10 rfl rfl)
theorem dX0_row_35 : decode cX0_row 35 = .ok (.goto 8, 3) := dk_167 0 8 (dk_at dksX0_row_1 11 rfl rfl)
theorem dX0_row_38 : decode cX0_row 38 = .ok (.astore 4, 2) := dk_58 4 (dk_at dksX0_row_1 14 rfl rfl)
theorem dX0_row_40 : decode cX0_row 40 = .ok (.bipush (-14), 2) := dk_16 242 (dk_at dksX0_row_1 16 rfl rfl)
theorem dX0_row_42 : decode cX0_row 42 = .ok (.ireturn, 1) := dk_172 (dk_at dksX0_row_1 18 rfl rfl)
theorem dX0_row_43 : decode cX0_row 43 = .ok (.iconst 1, 1) := dk_4 (dk_at dksX0_row_1 19 rfl rfl)
theorem dX0_row_44 : decode cX0_row 44 = .ok (.ireturn, 1) := dk_172 (dk_at dksX0_row_1 20 rfl rfl)
abbrev cX0_newRow : ByteArray := prog_1_method_83_code
def yX0_newRow : MethodName := ⟨RX0, "newRow", "(II)LEightLegs$Row;"⟩
def dkwX0_newRow_3 : List UInt8 := [183, 1, 225, 176, 187, 1, 226, 89, 27, 183, 1, 228, 176, 187, 1, 229, 89, 27, 183, 1, 231, 176]
abbrev dktX0_newRow_3 : List UInt8 := dkwX0_newRow_3 ++ []
def dkwX0_newRow_2 : List UInt8 := [187, 0, 100, 89, 27, 183, 1, 220, 176, 187, 1, 110, 89, 27, 183, 1, 222, 176, 187, 1, 223, 89, 27]
abbrev dktX0_newRow_2 : List UInt8 := dkwX0_newRow_2 ++ dktX0_newRow_3
def dkwX0_newRow_1 : List UInt8 := [170, 0, 0, 0, 0, 0, 67, 0, 0, 0, 0, 0, 0, 0, 3, 0, 0, 0, 31, 0, 0, 0, 40, 0, 0, 0, 49, 0, 0, 0, 58]
abbrev dktX0_newRow_1 : List UInt8 := dkwX0_newRow_1 ++ dktX0_newRow_2
def dkwX0_newRow_0 : List UInt8 := [26]
abbrev dktX0_newRow_0 : List UInt8 := dkwX0_newRow_0 ++ dktX0_newRow_1
theorem dksX0_newRow_0 : cX0_newRow.data.toList.drop 0 = dktX0_newRow_0 := by decide +kernel
theorem dksX0_newRow_1 : cX0_newRow.data.toList.drop 1 = dktX0_newRow_1 := dk_seg dksX0_newRow_0 1 rfl rfl
theorem dksX0_newRow_2 : cX0_newRow.data.toList.drop 32 = dktX0_newRow_2 := dk_seg dksX0_newRow_1 31 rfl rfl
theorem dksX0_newRow_3 : cX0_newRow.data.toList.drop 55 = dktX0_newRow_3 := dk_seg dksX0_newRow_2 23 rfl rfl
theorem dX0_newRow_0 : decode cX0_newRow 0 = .ok (.iload_n 0, 1) := dk_26 (dk_at dksX0_newRow_0 0 rfl rfl)
theorem dX0_newRow_1 : decode cX0_newRow 1 = .ok (.tableswitch 67 0 3 #[31, 40, 49, 58], 31) := by decide +kernel
theorem dX0_newRow_32 : decode cX0_newRow 32 = .ok (.new 100, 3) := dk_187 0 100 (dk_at dksX0_newRow_2 0 rfl rfl)
theorem dX0_newRow_35 : decode cX0_newRow 35 = .ok (.dup, 1) := dk_89 (dk_at dksX0_newRow_2 3 rfl rfl)
theorem dX0_newRow_36 : decode cX0_newRow 36 = .ok (.iload_n 1, 1) := dk_27 (dk_at dksX0_newRow_2 4 rfl rfl)
theorem dX0_newRow_37 : decode cX0_newRow 37 = .ok (.invokespecial 476, 3) := dk_183 1 220 (dk_at dksX0_newRow_2 5 rfl rfl)
theorem dX0_newRow_40 : decode cX0_newRow 40 = .ok (.areturn, 1) := dk_176 (dk_at dksX0_newRow_2 8 rfl rfl)
theorem dX0_newRow_41 : decode cX0_newRow 41 = .ok (.new 366, 3) := dk_187 1 110 (dk_at dksX0_newRow_2 9 rfl rfl)
theorem dX0_newRow_44 : decode cX0_newRow 44 = .ok (.dup, 1) := dk_89 (dk_at dksX0_newRow_2 12 rfl rfl)
theorem dX0_newRow_45 : decode cX0_newRow 45 = .ok (.iload_n 1, 1) := dk_27 (dk_at dksX0_newRow_2 13 rfl rfl)
theorem dX0_newRow_46 : decode cX0_newRow 46 = .ok (.invokespecial 478, 3) := dk_183 1 222 (dk_at dksX0_newRow_2 14 rfl rfl)
theorem dX0_newRow_49 : decode cX0_newRow 49 = .ok (.areturn, 1) := dk_176 (dk_at dksX0_newRow_2 17 rfl rfl)
theorem dX0_newRow_50 : decode cX0_newRow 50 = .ok (.new 479, 3) := dk_187 1 223 (dk_at dksX0_newRow_2 18 rfl rfl)
theorem dX0_newRow_53 : decode cX0_newRow 53 = .ok (.dup, 1) := dk_89 (dk_at dksX0_newRow_2 21 rfl rfl)
theorem dX0_newRow_54 : decode cX0_newRow 54 = .ok (.iload_n 1, 1) := dk_27 (dk_at dksX0_newRow_2 22 rfl rfl)
theorem dX0_newRow_55 : decode cX0_newRow 55 = .ok (.invokespecial 481, 3) := dk_183 1 225 (dk_at dksX0_newRow_3 0 rfl rfl)
theorem dX0_newRow_58 : decode cX0_newRow 58 = .ok (.areturn, 1) := dk_176 (dk_at dksX0_newRow_3 3 rfl rfl)
theorem dX0_newRow_59 : decode cX0_newRow 59 = .ok (.new 482, 3) := dk_187 1 226 (dk_at dksX0_newRow_3 4 rfl rfl)
theorem dX0_newRow_62 : decode cX0_newRow 62 = .ok (.dup, 1) := dk_89 (dk_at dksX0_newRow_3 7 rfl rfl)
theorem dX0_newRow_63 : decode cX0_newRow 63 = .ok (.iload_n 1, 1) := dk_27 (dk_at dksX0_newRow_3 8 rfl rfl)
theorem dX0_newRow_64 : decode cX0_newRow 64 = .ok (.invokespecial 484, 3) := dk_183 1 228 (dk_at dksX0_newRow_3 9 rfl rfl)
theorem dX0_newRow_67 : decode cX0_newRow 67 = .ok (.areturn, 1) := dk_176 (dk_at dksX0_newRow_3 12 rfl rfl)
theorem dX0_newRow_68 : decode cX0_newRow 68 = .ok (.new 485, 3) := dk_187 1 229 (dk_at dksX0_newRow_3 13 rfl rfl)
theorem dX0_newRow_71 : decode cX0_newRow 71 = .ok (.dup, 1) := dk_89 (dk_at dksX0_newRow_3 16 rfl rfl)
theorem dX0_newRow_72 : decode cX0_newRow 72 = .ok (.iload_n 1, 1) := dk_27 (dk_at dksX0_newRow_3 17 rfl rfl)
theorem dX0_newRow_73 : decode cX0_newRow 73 = .ok (.invokespecial 487, 3) := dk_183 1 231 (dk_at dksX0_newRow_3 18 rfl rfl)
theorem dX0_newRow_76 : decode cX0_newRow 76 = .ok (.areturn, 1) := dk_176 (dk_at dksX0_newRow_3 21 rfl rfl)
abbrev cX0_put : ByteArray := prog_1_method_85_code
def yX0_put : MethodName := ⟨RX0, "put", "(IIJ)I"⟩
def dkwX0_put_1 : List UInt8 := [153, 0, 7, 4, 167, 0, 4, 2, 172, 58, 5, 16, 245, 172, 58, 5, 16, 244, 172, 58, 5, 16, 243, 172]
abbrev dktX0_put_1 : List UInt8 := dkwX0_put_1 ++ []
def dkwX0_put_0 : List UInt8 := [27, 184, 0, 97, 154, 0, 5, 2, 172, 42, 180, 0, 75, 27, 50, 192, 1, 238, 28, 33, 182, 1, 240]
abbrev dktX0_put_0 : List UInt8 := dkwX0_put_0 ++ dktX0_put_1
theorem dksX0_put_0 : cX0_put.data.toList.drop 0 = dktX0_put_0 := by decide +kernel
theorem dksX0_put_1 : cX0_put.data.toList.drop 23 = dktX0_put_1 := dk_seg dksX0_put_0 23 rfl rfl
theorem dX0_put_0 : decode cX0_put 0 = .ok (.iload_n 1, 1) := dk_27 (dk_at dksX0_put_0 0 rfl rfl)
theorem dX0_put_1 : decode cX0_put 1 = .ok (.invokestatic 97, 3) := dk_184 0 97 (dk_at dksX0_put_0 1 rfl rfl)
theorem dX0_put_4 : decode cX0_put 4 = .ok (.ifCond .ne 5, 3) := dk_154 0 5 (dk_at dksX0_put_0 4 rfl rfl)
theorem dX0_put_7 : decode cX0_put 7 = .ok (.iconst (-1), 1) := dk_2 (dk_at dksX0_put_0 7 rfl rfl)
theorem dX0_put_8 : decode cX0_put 8 = .ok (.ireturn, 1) := dk_172 (dk_at dksX0_put_0 8 rfl rfl)
theorem dX0_put_9 : decode cX0_put 9 = .ok (.aload_n 0, 1) := dk_42 (dk_at dksX0_put_0 9 rfl rfl)
theorem dX0_put_10 : decode cX0_put 10 = .ok (.getfield 75, 3) := dk_180 0 75 (dk_at dksX0_put_0 10 rfl rfl)
theorem dX0_put_13 : decode cX0_put 13 = .ok (.iload_n 1, 1) := dk_27 (dk_at dksX0_put_0 13 rfl rfl)
theorem dX0_put_14 : decode cX0_put 14 = .ok (.aaload, 1) := dk_50 (dk_at dksX0_put_0 14 rfl rfl)
theorem dX0_put_15 : decode cX0_put 15 = .ok (.checkcast 494, 3) := dk_192 1 238 (dk_at dksX0_put_0 15 rfl rfl)
theorem dX0_put_18 : decode cX0_put 18 = .ok (.iload_n 2, 1) := dk_28 (dk_at dksX0_put_0 18 rfl rfl)
theorem dX0_put_19 : decode cX0_put 19 = .ok (.lload_n 3, 1) := dk_33 (dk_at dksX0_put_0 19 rfl rfl)
theorem dX0_put_20 : decode cX0_put 20 = .ok (.invokevirtual 496, 3) := dk_182 1 240 (dk_at dksX0_put_0 20 rfl rfl)
theorem dX0_put_23 : decode cX0_put 23 = .ok (.ifCond .eq 7, 3) := dk_153 0 7 (dk_at dksX0_put_1 0 rfl rfl)
theorem dX0_put_26 : decode cX0_put 26 = .ok (.iconst 1, 1) := dk_4 (dk_at dksX0_put_1 3 rfl rfl)
theorem dX0_put_27 : decode cX0_put 27 = .ok (.goto 4, 3) := dk_167 0 4 (dk_at dksX0_put_1 4 rfl rfl)
theorem dX0_put_30 : decode cX0_put 30 = .ok (.iconst (-1), 1) := dk_2 (dk_at dksX0_put_1 7 rfl rfl)
theorem dX0_put_31 : decode cX0_put 31 = .ok (.ireturn, 1) := dk_172 (dk_at dksX0_put_1 8 rfl rfl)
theorem dX0_put_32 : decode cX0_put 32 = .ok (.astore 5, 2) := dk_58 5 (dk_at dksX0_put_1 9 rfl rfl)
theorem dX0_put_34 : decode cX0_put 34 = .ok (.bipush (-11), 2) := dk_16 245 (dk_at dksX0_put_1 11 rfl rfl)
theorem dX0_put_36 : decode cX0_put 36 = .ok (.ireturn, 1) := dk_172 (dk_at dksX0_put_1 13 rfl rfl)
theorem dX0_put_37 : decode cX0_put 37 = .ok (.astore 5, 2) := dk_58 5 (dk_at dksX0_put_1 14 rfl rfl)
theorem dX0_put_39 : decode cX0_put 39 = .ok (.bipush (-12), 2) := dk_16 244 (dk_at dksX0_put_1 16 rfl rfl)
theorem dX0_put_41 : decode cX0_put 41 = .ok (.ireturn, 1) := dk_172 (dk_at dksX0_put_1 18 rfl rfl)
theorem dX0_put_42 : decode cX0_put 42 = .ok (.astore 5, 2) := dk_58 5 (dk_at dksX0_put_1 19 rfl rfl)
theorem dX0_put_44 : decode cX0_put 44 = .ok (.bipush (-13), 2) := dk_16 243 (dk_at dksX0_put_1 21 rfl rfl)
theorem dX0_put_46 : decode cX0_put 46 = .ok (.ireturn, 1) := dk_172 (dk_at dksX0_put_1 23 rfl rfl)
abbrev cX0_element : ByteArray := prog_1_method_86_code
def yX0_element : MethodName := ⟨RX0, "element", "(II)J"⟩
def dkwX0_element_1 : List UInt8 := [173, 78, 20, 1, 246, 173, 78, 20, 1, 246, 173, 78, 20, 1, 246, 173]
abbrev dktX0_element_1 : List UInt8 := dkwX0_element_1 ++ []
def dkwX0_element_0 : List UInt8 := [27, 184, 0, 97, 154, 0, 7, 20, 1, 246, 173, 42, 180, 0, 75, 27, 50, 192, 1, 238, 28, 182, 1, 248]
abbrev dktX0_element_0 : List UInt8 := dkwX0_element_0 ++ dktX0_element_1
theorem dksX0_element_0 : cX0_element.data.toList.drop 0 = dktX0_element_0 := by decide +kernel
theorem dksX0_element_1 : cX0_element.data.toList.drop 24 = dktX0_element_1 := dk_seg dksX0_element_0 24 rfl rfl
theorem dX0_element_0 : decode cX0_element 0 = .ok (.iload_n 1, 1) := dk_27 (dk_at dksX0_element_0 0 rfl rfl)
theorem dX0_element_1 : decode cX0_element 1 = .ok (.invokestatic 97, 3) := dk_184 0 97 (dk_at dksX0_element_0 1 rfl rfl)
theorem dX0_element_4 : decode cX0_element 4 = .ok (.ifCond .ne 7, 3) := dk_154 0 7 (dk_at dksX0_element_0 4 rfl rfl)
theorem dX0_element_7 : decode cX0_element 7 = .ok (.ldc2_w 502, 3) := dk_20 1 246 (dk_at dksX0_element_0 7 rfl rfl)
theorem dX0_element_10 : decode cX0_element 10 = .ok (.lreturn, 1) := dk_173 (dk_at dksX0_element_0 10 rfl rfl)
theorem dX0_element_11 : decode cX0_element 11 = .ok (.aload_n 0, 1) := dk_42 (dk_at dksX0_element_0 11 rfl rfl)
theorem dX0_element_12 : decode cX0_element 12 = .ok (.getfield 75, 3) := dk_180 0 75 (dk_at dksX0_element_0 12 rfl rfl)
theorem dX0_element_15 : decode cX0_element 15 = .ok (.iload_n 1, 1) := dk_27 (dk_at dksX0_element_0 15 rfl rfl)
theorem dX0_element_16 : decode cX0_element 16 = .ok (.aaload, 1) := dk_50 (dk_at dksX0_element_0 16 rfl rfl)
theorem dX0_element_17 : decode cX0_element 17 = .ok (.checkcast 494, 3) := dk_192 1 238 (dk_at dksX0_element_0 17 rfl rfl)
theorem dX0_element_20 : decode cX0_element 20 = .ok (.iload_n 2, 1) := dk_28 (dk_at dksX0_element_0 20 rfl rfl)
theorem dX0_element_21 : decode cX0_element 21 = .ok (.invokevirtual 504, 3) := dk_182 1 248 (dk_at dksX0_element_0 21 rfl rfl)
theorem dX0_element_24 : decode cX0_element 24 = .ok (.lreturn, 1) := dk_173 (dk_at dksX0_element_1 0 rfl rfl)
theorem dX0_element_25 : decode cX0_element 25 = .ok (.astore_n 3, 1) := dk_78 (dk_at dksX0_element_1 1 rfl rfl)
theorem dX0_element_26 : decode cX0_element 26 = .ok (.ldc2_w 502, 3) := dk_20 1 246 (dk_at dksX0_element_1 2 rfl rfl)
theorem dX0_element_29 : decode cX0_element 29 = .ok (.lreturn, 1) := dk_173 (dk_at dksX0_element_1 5 rfl rfl)
theorem dX0_element_30 : decode cX0_element 30 = .ok (.astore_n 3, 1) := dk_78 (dk_at dksX0_element_1 6 rfl rfl)
theorem dX0_element_31 : decode cX0_element 31 = .ok (.ldc2_w 502, 3) := dk_20 1 246 (dk_at dksX0_element_1 7 rfl rfl)
theorem dX0_element_34 : decode cX0_element 34 = .ok (.lreturn, 1) := dk_173 (dk_at dksX0_element_1 10 rfl rfl)
theorem dX0_element_35 : decode cX0_element 35 = .ok (.astore_n 3, 1) := dk_78 (dk_at dksX0_element_1 11 rfl rfl)
theorem dX0_element_36 : decode cX0_element 36 = .ok (.ldc2_w 502, 3) := dk_20 1 246 (dk_at dksX0_element_1 12 rfl rfl)
theorem dX0_element_39 : decode cX0_element 39 = .ok (.lreturn, 1) := dk_173 (dk_at dksX0_element_1 15 rfl rfl)
abbrev cX0_shift : ByteArray := prog_1_method_87_code
def yX0_shift : MethodName := ⟨RX0, "shift", "(IIIII)I"⟩
def dkwX0_shift_3 : List UInt8 := [172, 58, 6, 16, 243, 172, 21, 5, 172]
abbrev dktX0_shift_3 : List UInt8 := dkwX0_shift_3 ++ []
def dkwX0_shift_2 : List UInt8 := [28, 42, 180, 0, 75, 29, 50, 192, 1, 238, 21, 4, 21, 5, 182, 1, 249, 167, 0, 13, 58, 6, 16, 244]
abbrev dktX0_shift_2 : List UInt8 := dkwX0_shift_2 ++ dktX0_shift_3
def dkwX0_shift_1 : List UInt8 := [198, 0, 12, 42, 180, 0, 75, 29, 50, 199, 0, 6, 16, 245, 172, 42, 180, 0, 75, 27, 50, 192, 1, 238]
abbrev dktX0_shift_1 : List UInt8 := dkwX0_shift_1 ++ dktX0_shift_2
def dkwX0_shift_0 : List UInt8 := [27, 184, 0, 97, 153, 0, 10, 29, 184, 0, 97, 154, 0, 5, 2, 172, 42, 180, 0, 75, 27, 50]
abbrev dktX0_shift_0 : List UInt8 := dkwX0_shift_0 ++ dktX0_shift_1
theorem dksX0_shift_0 : cX0_shift.data.toList.drop 0 = dktX0_shift_0 := by decide +kernel
theorem dksX0_shift_1 : cX0_shift.data.toList.drop 22 = dktX0_shift_1 := dk_seg dksX0_shift_0 22 rfl rfl
theorem dksX0_shift_2 : cX0_shift.data.toList.drop 46 = dktX0_shift_2 := dk_seg dksX0_shift_1 24 rfl rfl
theorem dksX0_shift_3 : cX0_shift.data.toList.drop 70 = dktX0_shift_3 := dk_seg dksX0_shift_2 24 rfl rfl
theorem dX0_shift_0 : decode cX0_shift 0 = .ok (.iload_n 1, 1) := dk_27 (dk_at dksX0_shift_0 0 rfl rfl)
theorem dX0_shift_1 : decode cX0_shift 1 = .ok (.invokestatic 97, 3) := dk_184 0 97 (dk_at dksX0_shift_0 1 rfl rfl)
theorem dX0_shift_4 : decode cX0_shift 4 = .ok (.ifCond .eq 10, 3) := dk_153 0 10 (dk_at dksX0_shift_0 4 rfl rfl)
theorem dX0_shift_7 : decode cX0_shift 7 = .ok (.iload_n 3, 1) := dk_29 (dk_at dksX0_shift_0 7 rfl rfl)
theorem dX0_shift_8 : decode cX0_shift 8 = .ok (.invokestatic 97, 3) := dk_184 0 97 (dk_at dksX0_shift_0 8 rfl rfl)
theorem dX0_shift_11 : decode cX0_shift 11 = .ok (.ifCond .ne 5, 3) := dk_154 0 5 (dk_at dksX0_shift_0 11 rfl rfl)
theorem dX0_shift_14 : decode cX0_shift 14 = .ok (.iconst (-1), 1) := dk_2 (dk_at dksX0_shift_0 14 rfl rfl)
theorem dX0_shift_15 : decode cX0_shift 15 = .ok (.ireturn, 1) := dk_172 (dk_at dksX0_shift_0 15 rfl rfl)
theorem dX0_shift_16 : decode cX0_shift 16 = .ok (.aload_n 0, 1) := dk_42 (dk_at dksX0_shift_0 16 rfl rfl)
theorem dX0_shift_17 : decode cX0_shift 17 = .ok (.getfield 75, 3) := dk_180 0 75 (dk_at dksX0_shift_0 17 rfl rfl)
theorem dX0_shift_20 : decode cX0_shift 20 = .ok (.iload_n 1, 1) := dk_27 (dk_at dksX0_shift_0 20 rfl rfl)
theorem dX0_shift_21 : decode cX0_shift 21 = .ok (.aaload, 1) := dk_50 (dk_at dksX0_shift_0 21 rfl rfl)
theorem dX0_shift_22 : decode cX0_shift 22 = .ok (.ifnull 12, 3) := dk_198 0 12 (dk_at dksX0_shift_1 0 rfl rfl)
theorem dX0_shift_25 : decode cX0_shift 25 = .ok (.aload_n 0, 1) := dk_42 (dk_at dksX0_shift_1 3 rfl rfl)
theorem dX0_shift_26 : decode cX0_shift 26 = .ok (.getfield 75, 3) := dk_180 0 75 (dk_at dksX0_shift_1 4 rfl rfl)
theorem dX0_shift_29 : decode cX0_shift 29 = .ok (.iload_n 3, 1) := dk_29 (dk_at dksX0_shift_1 7 rfl rfl)
theorem dX0_shift_30 : decode cX0_shift 30 = .ok (.aaload, 1) := dk_50 (dk_at dksX0_shift_1 8 rfl rfl)
theorem dX0_shift_31 : decode cX0_shift 31 = .ok (.ifnonnull 6, 3) := dk_199 0 6 (dk_at dksX0_shift_1 9 rfl rfl)
theorem dX0_shift_34 : decode cX0_shift 34 = .ok (.bipush (-11), 2) := dk_16 245 (dk_at dksX0_shift_1 12 rfl rfl)
theorem dX0_shift_36 : decode cX0_shift 36 = .ok (.ireturn, 1) := dk_172 (dk_at dksX0_shift_1 14 rfl rfl)
theorem dX0_shift_37 : decode cX0_shift 37 = .ok (.aload_n 0, 1) := dk_42 (dk_at dksX0_shift_1 15 rfl rfl)
theorem dX0_shift_38 : decode cX0_shift 38 = .ok (.getfield 75, 3) := dk_180 0 75 (dk_at dksX0_shift_1 16 rfl rfl)
theorem dX0_shift_41 : decode cX0_shift 41 = .ok (.iload_n 1, 1) := dk_27 (dk_at dksX0_shift_1 19 rfl rfl)
theorem dX0_shift_42 : decode cX0_shift 42 = .ok (.aaload, 1) := dk_50 (dk_at dksX0_shift_1 20 rfl rfl)
theorem dX0_shift_43 : decode cX0_shift 43 = .ok (.checkcast 494, 3) := dk_192 1 238 (dk_at dksX0_shift_1 21 rfl rfl)
theorem dX0_shift_46 : decode cX0_shift 46 = .ok (.iload_n 2, 1) := dk_28 (dk_at dksX0_shift_2 0 rfl rfl)
theorem dX0_shift_47 : decode cX0_shift 47 = .ok (.aload_n 0, 1) := dk_42 (dk_at dksX0_shift_2 1 rfl rfl)
theorem dX0_shift_48 : decode cX0_shift 48 = .ok (.getfield 75, 3) := dk_180 0 75 (dk_at dksX0_shift_2 2 rfl rfl)
theorem dX0_shift_51 : decode cX0_shift 51 = .ok (.iload_n 3, 1) := dk_29 (dk_at dksX0_shift_2 5 rfl rfl)
theorem dX0_shift_52 : decode cX0_shift 52 = .ok (.aaload, 1) := dk_50 (dk_at dksX0_shift_2 6 rfl rfl)
theorem dX0_shift_53 : decode cX0_shift 53 = .ok (.checkcast 494, 3) := dk_192 1 238 (dk_at dksX0_shift_2 7 rfl rfl)
theorem dX0_shift_56 : decode cX0_shift 56 = .ok (.iload 4, 2) := dk_21 4 (dk_at dksX0_shift_2 10 rfl rfl)
theorem dX0_shift_58 : decode cX0_shift 58 = .ok (.iload 5, 2) := dk_21 5 (dk_at dksX0_shift_2 12 rfl rfl)
theorem dX0_shift_60 : decode cX0_shift 60 = .ok (.invokevirtual 505, 3) := dk_182 1 249 (dk_at dksX0_shift_2 14 rfl rfl)
theorem dX0_shift_63 : decode cX0_shift 63 = .ok (.goto 13, 3) := dk_167 0 13 (dk_at dksX0_shift_2 17 rfl rfl)
theorem dX0_shift_66 : decode cX0_shift 66 = .ok (.astore 6, 2) := dk_58 6 (dk_at dksX0_shift_2 20 rfl rfl)
theorem dX0_shift_68 : decode cX0_shift 68 = .ok (.bipush (-12), 2) := dk_16 244 (dk_at dksX0_shift_2 22 rfl rfl)
theorem dX0_shift_70 : decode cX0_shift 70 = .ok (.ireturn, 1) := dk_172 (dk_at dksX0_shift_3 0 rfl rfl)
theorem dX0_shift_71 : decode cX0_shift 71 = .ok (.astore 6, 2) := dk_58 6 (dk_at dksX0_shift_3 1 rfl rfl)
theorem dX0_shift_73 : decode cX0_shift 73 = .ok (.bipush (-13), 2) := dk_16 243 (dk_at dksX0_shift_3 3 rfl rfl)
theorem dX0_shift_75 : decode cX0_shift 75 = .ok (.ireturn, 1) := dk_172 (dk_at dksX0_shift_3 5 rfl rfl)
theorem dX0_shift_76 : decode cX0_shift 76 = .ok (.iload 5, 2) := dk_21 5 (dk_at dksX0_shift_3 6 rfl rfl)
theorem dX0_shift_78 : decode cX0_shift 78 = .ok (.ireturn, 1) := dk_172 (dk_at dksX0_shift_3 8 rfl rfl)
abbrev cX0_taken : ByteArray := prog_1_method_88_code
def yX0_taken : MethodName := ⟨RX0, "taken", "(II)I"⟩
def dkwX0_taken_2 : List UInt8 := [16, 245, 172, 78, 16, 244, 172]
abbrev dktX0_taken_2 : List UInt8 := dkwX0_taken_2 ++ []
def dkwX0_taken_1 : List UInt8 := [50, 192, 0, 67, 78, 45, 28, 182, 1, 253, 153, 0, 10, 45, 182, 2, 0, 167, 0, 5, 16, 244, 172, 78]
abbrev dktX0_taken_1 : List UInt8 := dkwX0_taken_1 ++ dktX0_taken_2
def dkwX0_taken_0 : List UInt8 := [27, 184, 0, 97, 153, 0, 13, 28, 3, 16, 7, 184, 0, 82, 154, 0, 5, 2, 172, 42, 180, 0, 75, 27]
abbrev dktX0_taken_0 : List UInt8 := dkwX0_taken_0 ++ dktX0_taken_1
theorem dksX0_taken_0 : cX0_taken.data.toList.drop 0 = dktX0_taken_0 := by decide +kernel
theorem dksX0_taken_1 : cX0_taken.data.toList.drop 24 = dktX0_taken_1 := dk_seg dksX0_taken_0 24 rfl rfl
theorem dksX0_taken_2 : cX0_taken.data.toList.drop 48 = dktX0_taken_2 := dk_seg dksX0_taken_1 24 rfl rfl
theorem dX0_taken_0 : decode cX0_taken 0 = .ok (.iload_n 1, 1) := dk_27 (dk_at dksX0_taken_0 0 rfl rfl)
theorem dX0_taken_1 : decode cX0_taken 1 = .ok (.invokestatic 97, 3) := dk_184 0 97 (dk_at dksX0_taken_0 1 rfl rfl)
theorem dX0_taken_4 : decode cX0_taken 4 = .ok (.ifCond .eq 13, 3) := dk_153 0 13 (dk_at dksX0_taken_0 4 rfl rfl)
theorem dX0_taken_7 : decode cX0_taken 7 = .ok (.iload_n 2, 1) := dk_28 (dk_at dksX0_taken_0 7 rfl rfl)
theorem dX0_taken_8 : decode cX0_taken 8 = .ok (.iconst 0, 1) := dk_3 (dk_at dksX0_taken_0 8 rfl rfl)
theorem dX0_taken_9 : decode cX0_taken 9 = .ok (.bipush 7, 2) := dk_16 7 (dk_at dksX0_taken_0 9 rfl rfl)
theorem dX0_taken_11 : decode cX0_taken 11 = .ok (.invokestatic 82, 3) := dk_184 0 82 (dk_at dksX0_taken_0 11 rfl rfl)
theorem dX0_taken_14 : decode cX0_taken 14 = .ok (.ifCond .ne 5, 3) := dk_154 0 5 (dk_at dksX0_taken_0 14 rfl rfl)
theorem dX0_taken_17 : decode cX0_taken 17 = .ok (.iconst (-1), 1) := dk_2 (dk_at dksX0_taken_0 17 rfl rfl)
theorem dX0_taken_18 : decode cX0_taken 18 = .ok (.ireturn, 1) := dk_172 (dk_at dksX0_taken_0 18 rfl rfl)
theorem dX0_taken_19 : decode cX0_taken 19 = .ok (.aload_n 0, 1) := dk_42 (dk_at dksX0_taken_0 19 rfl rfl)
theorem dX0_taken_20 : decode cX0_taken 20 = .ok (.getfield 75, 3) := dk_180 0 75 (dk_at dksX0_taken_0 20 rfl rfl)
theorem dX0_taken_23 : decode cX0_taken 23 = .ok (.iload_n 1, 1) := dk_27 (dk_at dksX0_taken_0 23 rfl rfl)
theorem dX0_taken_24 : decode cX0_taken 24 = .ok (.aaload, 1) := dk_50 (dk_at dksX0_taken_1 0 rfl rfl)
theorem dX0_taken_25 : decode cX0_taken 25 = .ok (.checkcast 67, 3) := dk_192 0 67 (dk_at dksX0_taken_1 1 rfl rfl)
theorem dX0_taken_28 : decode cX0_taken 28 = .ok (.astore_n 3, 1) := dk_78 (dk_at dksX0_taken_1 4 rfl rfl)
theorem dX0_taken_29 : decode cX0_taken 29 = .ok (.aload_n 3, 1) := dk_45 (dk_at dksX0_taken_1 5 rfl rfl)
theorem dX0_taken_30 : decode cX0_taken 30 = .ok (.iload_n 2, 1) := dk_28 (dk_at dksX0_taken_1 6 rfl rfl)
theorem dX0_taken_31 : decode cX0_taken 31 = .ok (.invokevirtual 509, 3) := dk_182 1 253 (dk_at dksX0_taken_1 7 rfl rfl)
theorem dX0_taken_34 : decode cX0_taken 34 = .ok (.ifCond .eq 10, 3) := dk_153 0 10 (dk_at dksX0_taken_1 10 rfl rfl)
theorem dX0_taken_37 : decode cX0_taken 37 = .ok (.aload_n 3, 1) := dk_45 (dk_at dksX0_taken_1 13 rfl rfl)
theorem dX0_taken_38 : decode cX0_taken 38 = .ok (.invokevirtual 512, 3) := dk_182 2 0 (dk_at dksX0_taken_1 14 rfl rfl)
theorem dX0_taken_41 : decode cX0_taken 41 = .ok (.goto 5, 3) := dk_167 0 5 (dk_at dksX0_taken_1 17 rfl rfl)
theorem dX0_taken_44 : decode cX0_taken 44 = .ok (.bipush (-12), 2) := dk_16 244 (dk_at dksX0_taken_1 20 rfl rfl)
theorem dX0_taken_46 : decode cX0_taken 46 = .ok (.ireturn, 1) := dk_172 (dk_at dksX0_taken_1 22 rfl rfl)
theorem dX0_taken_47 : decode cX0_taken 47 = .ok (.astore_n 3, 1) := dk_78 (dk_at dksX0_taken_1 23 rfl rfl)
theorem dX0_taken_48 : decode cX0_taken 48 = .ok (.bipush (-11), 2) := dk_16 245 (dk_at dksX0_taken_2 0 rfl rfl)
theorem dX0_taken_50 : decode cX0_taken 50 = .ok (.ireturn, 1) := dk_172 (dk_at dksX0_taken_2 2 rfl rfl)
theorem dX0_taken_51 : decode cX0_taken 51 = .ok (.astore_n 3, 1) := dk_78 (dk_at dksX0_taken_2 3 rfl rfl)
theorem dX0_taken_52 : decode cX0_taken 52 = .ok (.bipush (-12), 2) := dk_16 244 (dk_at dksX0_taken_2 4 rfl rfl)
theorem dX0_taken_54 : decode cX0_taken 54 = .ok (.ireturn, 1) := dk_172 (dk_at dksX0_taken_2 6 rfl rfl)
abbrev cX0_count : ByteArray := prog_1_method_89_code
def yX0_count : MethodName := ⟨RX0, "count", "(I)I"⟩
def dkwX0_count_3 : List UInt8 := [172, 2, 172]
abbrev dktX0_count_3 : List UInt8 := dkwX0_count_3 ++ []
def dkwX0_count_2 : List UInt8 := [42, 180, 0, 79, 172, 42, 180, 0, 181, 172, 42, 180, 0, 136, 172, 42, 180, 1, 170, 172, 42, 180, 1, 167]
abbrev dktX0_count_2 : List UInt8 := dkwX0_count_2 ++ dktX0_count_3
def dkwX0_count_1 : List UInt8 := [170, 0, 0, 0, 0, 0, 60, 0, 0, 0, 0, 0, 0, 0, 4, 0, 0, 0, 35, 0, 0, 0, 40, 0, 0, 0, 45, 0, 0, 0, 50, 0, 0, 0, 55]
abbrev dktX0_count_1 : List UInt8 := dkwX0_count_1 ++ dktX0_count_2
def dkwX0_count_0 : List UInt8 := [27]
abbrev dktX0_count_0 : List UInt8 := dkwX0_count_0 ++ dktX0_count_1
theorem dksX0_count_0 : cX0_count.data.toList.drop 0 = dktX0_count_0 := by decide +kernel
theorem dksX0_count_1 : cX0_count.data.toList.drop 1 = dktX0_count_1 := dk_seg dksX0_count_0 1 rfl rfl
theorem dksX0_count_2 : cX0_count.data.toList.drop 36 = dktX0_count_2 := dk_seg dksX0_count_1 35 rfl rfl
theorem dksX0_count_3 : cX0_count.data.toList.drop 60 = dktX0_count_3 := dk_seg dksX0_count_2 24 rfl rfl
theorem dX0_count_0 : decode cX0_count 0 = .ok (.iload_n 1, 1) := dk_27 (dk_at dksX0_count_0 0 rfl rfl)
theorem dX0_count_1 : decode cX0_count 1 = .ok (.tableswitch 60 0 4 #[35, 40, 45, 50, 55], 35) := by decide +kernel
theorem dX0_count_36 : decode cX0_count 36 = .ok (.aload_n 0, 1) := dk_42 (dk_at dksX0_count_2 0 rfl rfl)
theorem dX0_count_37 : decode cX0_count 37 = .ok (.getfield 79, 3) := dk_180 0 79 (dk_at dksX0_count_2 1 rfl rfl)
theorem dX0_count_40 : decode cX0_count 40 = .ok (.ireturn, 1) := dk_172 (dk_at dksX0_count_2 4 rfl rfl)
theorem dX0_count_41 : decode cX0_count 41 = .ok (.aload_n 0, 1) := dk_42 (dk_at dksX0_count_2 5 rfl rfl)
theorem dX0_count_42 : decode cX0_count 42 = .ok (.getfield 181, 3) := dk_180 0 181 (dk_at dksX0_count_2 6 rfl rfl)
theorem dX0_count_45 : decode cX0_count 45 = .ok (.ireturn, 1) := dk_172 (dk_at dksX0_count_2 9 rfl rfl)
theorem dX0_count_46 : decode cX0_count 46 = .ok (.aload_n 0, 1) := dk_42 (dk_at dksX0_count_2 10 rfl rfl)
theorem dX0_count_47 : decode cX0_count 47 = .ok (.getfield 136, 3) := dk_180 0 136 (dk_at dksX0_count_2 11 rfl rfl)
theorem dX0_count_50 : decode cX0_count 50 = .ok (.ireturn, 1) := dk_172 (dk_at dksX0_count_2 14 rfl rfl)
theorem dX0_count_51 : decode cX0_count 51 = .ok (.aload_n 0, 1) := dk_42 (dk_at dksX0_count_2 15 rfl rfl)
theorem dX0_count_52 : decode cX0_count 52 = .ok (.getfield 426, 3) := dk_180 1 170 (dk_at dksX0_count_2 16 rfl rfl)
theorem dX0_count_55 : decode cX0_count 55 = .ok (.ireturn, 1) := dk_172 (dk_at dksX0_count_2 19 rfl rfl)
theorem dX0_count_56 : decode cX0_count 56 = .ok (.aload_n 0, 1) := dk_42 (dk_at dksX0_count_2 20 rfl rfl)
theorem dX0_count_57 : decode cX0_count 57 = .ok (.getfield 423, 3) := dk_180 1 167 (dk_at dksX0_count_2 21 rfl rfl)
theorem dX0_count_60 : decode cX0_count 60 = .ok (.ireturn, 1) := dk_172 (dk_at dksX0_count_3 0 rfl rfl)
theorem dX0_count_61 : decode cX0_count 61 = .ok (.iconst (-1), 1) := dk_2 (dk_at dksX0_count_3 1 rfl rfl)
theorem dX0_count_62 : decode cX0_count 62 = .ok (.ireturn, 1) := dk_172 (dk_at dksX0_count_3 2 rfl rfl)
theorem q100 : (Jvm.Cond.initialized "EightLegs") ∈ lw_all := lw_g (lw_at lw_m1 1 rfl) rfl
theorem q145 : (Jvm.Cond.instantiable "EightLegs" (44 : Nat)) ∈ lw_all := lw_g (lw_at lw_m1 46 rfl) rfl
theorem q147 : (Jvm.Cond.instanceMethod ({ cls := "EightLegs", name := "<init>", desc := "()V" } : Jvm.MethodName)) ∈ lw_all := lw_g (lw_at lw_m1 48 rfl) rfl
theorem q148 : (Jvm.Cond.code ({ cls := "EightLegs", name := "<init>", desc := "()V" } : Jvm.MethodName) prog_1_method_1_code (1 : Nat) (Option.none : Option Jvm.ClassFile.FieldType)) ∈ lw_all := lw_g (lw_at lw_m1 49 rfl) rfl
theorem q149 : (Jvm.Cond.methodLink "EightLegs" (1 : Nat) ({ cls := "java/lang/Object", name := "<init>", desc := "()V" } : Jvm.MethodName)) ∈ lw_all := lw_g (lw_at lw_m1 50 rfl) rfl
theorem q152 : (Jvm.Cond.classLink "EightLegs" (9 : Nat) "EightLegs$Swimmer") ∈ lw_all := lw_g (lw_at lw_m1 53 rfl) rfl
theorem q154 : (Jvm.Cond.classLink "EightLegs" (22 : Nat) "EightLegs$Change") ∈ lw_all := lw_g (lw_at lw_m1 55 rfl) rfl
theorem q156 : (Jvm.Cond.classLink "EightLegs" (32 : Nat) "EightLegs$Facts") ∈ lw_all := lw_g (lw_at lw_m1 57 rfl) rfl
theorem q158 : (Jvm.Cond.methodLinkNest "EightLegs" (34 : Nat) ({ cls := "EightLegs$Facts", name := "<init>", desc := "()V" } : Jvm.MethodName) "EightLegs") ∈ lw_tbl := lw_at lw_m1 59 rfl
theorem q164 : (Jvm.Cond.fieldLinkNest "EightLegs" (221 : Nat) "EightLegs$Facts" "named" "[I" "EightLegs") ∈ lw_tbl := lw_at lw_m1 65 rfl
theorem q170 : (Jvm.Cond.classLink "EightLegs" (67 : Nat) "EightLegs$Beat") ∈ lw_all := lw_g (lw_at lw_m1 71 rfl) rfl
theorem q172 : (Jvm.Cond.classLink "EightLegs" (73 : Nat) "EightLegs$Held") ∈ lw_all := lw_g (lw_at lw_m1 73 rfl) rfl
theorem q174 : (Jvm.Cond.fieldLink "EightLegs" (11 : Nat) "EightLegs" "swimmers" "[LEightLegs$Swimmer;") ∈ lw_all := lw_g (lw_at lw_m1 75 rfl) rfl
theorem q175 : (Jvm.Cond.fieldLink "EightLegs" (79 : Nat) "EightLegs" "many" "I") ∈ lw_all := lw_g (lw_at lw_m1 76 rfl) rfl
theorem q176 : (Jvm.Cond.fieldLink "EightLegs" (130 : Nat) "EightLegs" "leader" "I") ∈ lw_all := lw_g (lw_at lw_m1 77 rfl) rfl
theorem q177 : (Jvm.Cond.fieldLink "EightLegs" (15 : Nat) "EightLegs" "seen" "I") ∈ lw_all := lw_g (lw_at lw_m1 78 rfl) rfl
theorem q178 : (Jvm.Cond.fieldLink "EightLegs" (19 : Nat) "EightLegs" "gasp" "I") ∈ lw_all := lw_g (lw_at lw_m1 79 rfl) rfl
theorem q179 : (Jvm.Cond.fieldLink "EightLegs" (24 : Nat) "EightLegs" "changes" "[LEightLegs$Change;") ∈ lw_all := lw_g (lw_at lw_m1 80 rfl) rfl
theorem q180 : (Jvm.Cond.fieldLink "EightLegs" (136 : Nat) "EightLegs" "doneMany" "I") ∈ lw_all := lw_g (lw_at lw_m1 81 rfl) rfl
theorem q181 : (Jvm.Cond.fieldLink "EightLegs" (133 : Nat) "EightLegs" "undoneMany" "I") ∈ lw_all := lw_g (lw_at lw_m1 82 rfl) rfl
theorem q182 : (Jvm.Cond.fieldLink "EightLegs" (28 : Nat) "EightLegs" "tape" "[B") ∈ lw_all := lw_g (lw_at lw_m1 83 rfl) rfl
theorem q185 : (Jvm.Cond.fieldLink "EightLegs" (181 : Nat) "EightLegs" "taped" "I") ∈ lw_all := lw_g (lw_at lw_m1 86 rfl) rfl
theorem q186 : (Jvm.Cond.fieldLink "EightLegs" (196 : Nat) "EightLegs" "law" "LEightLegs$Line;") ∈ lw_all := lw_g (lw_at lw_m1 87 rfl) rfl
theorem q187 : (Jvm.Cond.fieldLink "EightLegs" (35 : Nat) "EightLegs" "facts" "LEightLegs$Facts;") ∈ lw_all := lw_g (lw_at lw_m1 88 rfl) rfl
theorem q188 : (Jvm.Cond.fieldLink "EightLegs" (39 : Nat) "EightLegs" "does" "[I") ∈ lw_all := lw_g (lw_at lw_m1 89 rfl) rfl
theorem q189 : (Jvm.Cond.fieldLink "EightLegs" (43 : Nat) "EightLegs" "drift" "[I") ∈ lw_all := lw_g (lw_at lw_m1 90 rfl) rfl
theorem q190 : (Jvm.Cond.fieldLink "EightLegs" (46 : Nat) "EightLegs" "lostBy" "[I") ∈ lw_all := lw_g (lw_at lw_m1 91 rfl) rfl
theorem q191 : (Jvm.Cond.fieldLink "EightLegs" (247 : Nat) "EightLegs" "long0" "I") ∈ lw_all := lw_g (lw_at lw_m1 92 rfl) rfl
theorem q192 : (Jvm.Cond.fieldLink "EightLegs" (253 : Nat) "EightLegs" "slipOf" "I") ∈ lw_all := lw_g (lw_at lw_m1 93 rfl) rfl
theorem q193 : (Jvm.Cond.fieldLink "EightLegs" (49 : Nat) "EightLegs" "slipAt" "I") ∈ lw_all := lw_g (lw_at lw_m1 94 rfl) rfl
theorem q194 : (Jvm.Cond.fieldLink "EightLegs" (256 : Nat) "EightLegs" "slipBy" "I") ∈ lw_all := lw_g (lw_at lw_m1 95 rfl) rfl
theorem q195 : (Jvm.Cond.fieldLink "EightLegs" (296 : Nat) "EightLegs" "greatestNeed" "I") ∈ lw_all := lw_g (lw_at lw_m1 96 rfl) rfl
theorem q196 : (Jvm.Cond.fieldLink "EightLegs" (312 : Nat) "EightLegs" "chosen" "I") ∈ lw_all := lw_g (lw_at lw_m1 97 rfl) rfl
theorem q197 : (Jvm.Cond.fieldLink "EightLegs" (52 : Nat) "EightLegs" "order" "[I") ∈ lw_all := lw_g (lw_at lw_m1 98 rfl) rfl
theorem q198 : (Jvm.Cond.fieldLink "EightLegs" (55 : Nat) "EightLegs" "bestOrder" "[I") ∈ lw_all := lw_g (lw_at lw_m1 99 rfl) rfl
theorem q199 : (Jvm.Cond.fieldLink "EightLegs" (334 : Nat) "EightLegs" "bestSpread" "I") ∈ lw_all := lw_g (lw_at lw_m1 100 rfl) rfl
theorem q200 : (Jvm.Cond.fieldLink "EightLegs" (58 : Nat) "EightLegs" "told" "[I") ∈ lw_all := lw_g (lw_at lw_m1 101 rfl) rfl
theorem q201 : (Jvm.Cond.fieldLink "EightLegs" (363 : Nat) "EightLegs" "toldMany" "I") ∈ lw_all := lw_g (lw_at lw_m1 102 rfl) rfl
theorem q202 : (Jvm.Cond.fieldLink "EightLegs" (383 : Nat) "EightLegs" "ledRoutines" "I") ∈ lw_all := lw_g (lw_at lw_m1 103 rfl) rfl
theorem q203 : (Jvm.Cond.fieldLink "EightLegs" (386 : Nat) "EightLegs" "ledCounts" "I") ∈ lw_all := lw_g (lw_at lw_m1 104 rfl) rfl
theorem q204 : (Jvm.Cond.fieldLink "EightLegs" (389 : Nat) "EightLegs" "ledMarks" "I") ∈ lw_all := lw_g (lw_at lw_m1 105 rfl) rfl
theorem q205 : (Jvm.Cond.fieldLink "EightLegs" (395 : Nat) "EightLegs" "ledGasps" "I") ∈ lw_all := lw_g (lw_at lw_m1 106 rfl) rfl
theorem q206 : (Jvm.Cond.fieldLink "EightLegs" (398 : Nat) "EightLegs" "ledRests" "I") ∈ lw_all := lw_g (lw_at lw_m1 107 rfl) rfl
theorem q207 : (Jvm.Cond.fieldLink "EightLegs" (401 : Nat) "EightLegs" "hasImage" "Z") ∈ lw_all := lw_g (lw_at lw_m1 108 rfl) rfl
theorem q208 : (Jvm.Cond.fieldLink "EightLegs" (61 : Nat) "EightLegs" "kept" "[I") ∈ lw_all := lw_g (lw_at lw_m1 109 rfl) rfl
theorem q209 : (Jvm.Cond.fieldLink "EightLegs" (405 : Nat) "EightLegs" "keptMany" "I") ∈ lw_all := lw_g (lw_at lw_m1 110 rfl) rfl
theorem q210 : (Jvm.Cond.fieldLink "EightLegs" (408 : Nat) "EightLegs" "keptRoutines" "I") ∈ lw_all := lw_g (lw_at lw_m1 111 rfl) rfl
theorem q211 : (Jvm.Cond.fieldLink "EightLegs" (411 : Nat) "EightLegs" "keptCounts" "I") ∈ lw_all := lw_g (lw_at lw_m1 112 rfl) rfl
theorem q212 : (Jvm.Cond.fieldLink "EightLegs" (414 : Nat) "EightLegs" "keptMarks" "I") ∈ lw_all := lw_g (lw_at lw_m1 113 rfl) rfl
theorem q213 : (Jvm.Cond.fieldLink "EightLegs" (417 : Nat) "EightLegs" "keptGasps" "I") ∈ lw_all := lw_g (lw_at lw_m1 114 rfl) rfl
theorem q214 : (Jvm.Cond.fieldLink "EightLegs" (420 : Nat) "EightLegs" "keptRests" "I") ∈ lw_all := lw_g (lw_at lw_m1 115 rfl) rfl
theorem q215 : (Jvm.Cond.fieldLink "EightLegs" (423 : Nat) "EightLegs" "traces" "I") ∈ lw_all := lw_g (lw_at lw_m1 116 rfl) rfl
theorem q216 : (Jvm.Cond.fieldLink "EightLegs" (64 : Nat) "EightLegs" "traced" "[B") ∈ lw_all := lw_g (lw_at lw_m1 117 rfl) rfl
theorem q217 : (Jvm.Cond.fieldLink "EightLegs" (69 : Nat) "EightLegs" "bodies" "[LEightLegs$Beat;") ∈ lw_all := lw_g (lw_at lw_m1 118 rfl) rfl
theorem q218 : (Jvm.Cond.fieldLink "EightLegs" (426 : Nat) "EightLegs" "bodyMany" "I") ∈ lw_all := lw_g (lw_at lw_m1 119 rfl) rfl
theorem q219 : (Jvm.Cond.fieldLink "EightLegs" (75 : Nat) "EightLegs" "shelves" "[LEightLegs$Held;") ∈ lw_all := lw_g (lw_at lw_m1 120 rfl) rfl
theorem q220 : (Jvm.Cond.laysFinal "EightLegs" "EightLegs" "swimmers" "[LEightLegs$Swimmer;") ∈ lw_all := lw_g (lw_at lw_m1 121 rfl) rfl
theorem q221 : (Jvm.Cond.soleField "EightLegs" "swimmers") ∈ lw_all := lw_g (lw_at lw_m1 122 rfl) rfl
theorem q222 : (Jvm.Cond.lays "EightLegs" "EightLegs" "many" "I") ∈ lw_all := lw_g (lw_at lw_m1 123 rfl) rfl
theorem q223 : (Jvm.Cond.soleField "EightLegs" "many") ∈ lw_all := lw_g (lw_at lw_m1 124 rfl) rfl
theorem q224 : (Jvm.Cond.lays "EightLegs" "EightLegs" "leader" "I") ∈ lw_all := lw_g (lw_at lw_m1 125 rfl) rfl
theorem q225 : (Jvm.Cond.soleField "EightLegs" "leader") ∈ lw_all := lw_g (lw_at lw_m1 126 rfl) rfl
theorem q226 : (Jvm.Cond.lays "EightLegs" "EightLegs" "seen" "I") ∈ lw_all := lw_g (lw_at lw_m1 127 rfl) rfl
theorem q227 : (Jvm.Cond.soleField "EightLegs" "seen") ∈ lw_all := lw_g (lw_at lw_m1 128 rfl) rfl
theorem q228 : (Jvm.Cond.lays "EightLegs" "EightLegs" "gasp" "I") ∈ lw_all := lw_g (lw_at lw_m1 129 rfl) rfl
theorem q229 : (Jvm.Cond.soleField "EightLegs" "gasp") ∈ lw_all := lw_g (lw_at lw_m1 130 rfl) rfl
theorem q230 : (Jvm.Cond.laysFinal "EightLegs" "EightLegs" "changes" "[LEightLegs$Change;") ∈ lw_all := lw_g (lw_at lw_m1 131 rfl) rfl
theorem q231 : (Jvm.Cond.soleField "EightLegs" "changes") ∈ lw_all := lw_g (lw_at lw_m1 132 rfl) rfl
theorem q232 : (Jvm.Cond.lays "EightLegs" "EightLegs" "doneMany" "I") ∈ lw_all := lw_g (lw_at lw_m1 133 rfl) rfl
theorem q233 : (Jvm.Cond.soleField "EightLegs" "doneMany") ∈ lw_all := lw_g (lw_at lw_m1 134 rfl) rfl
theorem q234 : (Jvm.Cond.lays "EightLegs" "EightLegs" "undoneMany" "I") ∈ lw_all := lw_g (lw_at lw_m1 135 rfl) rfl
theorem q235 : (Jvm.Cond.soleField "EightLegs" "undoneMany") ∈ lw_all := lw_g (lw_at lw_m1 136 rfl) rfl
theorem q236 : (Jvm.Cond.laysFinal "EightLegs" "EightLegs" "tape" "[B") ∈ lw_all := lw_g (lw_at lw_m1 137 rfl) rfl
theorem q237 : (Jvm.Cond.soleField "EightLegs" "tape") ∈ lw_all := lw_g (lw_at lw_m1 138 rfl) rfl
theorem q238 : (Jvm.Cond.lays "EightLegs" "EightLegs" "taped" "I") ∈ lw_all := lw_g (lw_at lw_m1 139 rfl) rfl
theorem q239 : (Jvm.Cond.soleField "EightLegs" "taped") ∈ lw_all := lw_g (lw_at lw_m1 140 rfl) rfl
theorem q240 : (Jvm.Cond.lays "EightLegs" "EightLegs" "law" "LEightLegs$Line;") ∈ lw_all := lw_g (lw_at lw_m1 141 rfl) rfl
theorem q241 : (Jvm.Cond.soleField "EightLegs" "law") ∈ lw_all := lw_g (lw_at lw_m1 142 rfl) rfl
theorem q242 : (Jvm.Cond.laysFinal "EightLegs" "EightLegs" "facts" "LEightLegs$Facts;") ∈ lw_all := lw_g (lw_at lw_m1 143 rfl) rfl
theorem q243 : (Jvm.Cond.soleField "EightLegs" "facts") ∈ lw_all := lw_g (lw_at lw_m1 144 rfl) rfl
theorem q244 : (Jvm.Cond.laysFinal "EightLegs" "EightLegs" "does" "[I") ∈ lw_all := lw_g (lw_at lw_m1 145 rfl) rfl
theorem q245 : (Jvm.Cond.soleField "EightLegs" "does") ∈ lw_all := lw_g (lw_at lw_m1 146 rfl) rfl
theorem q246 : (Jvm.Cond.laysFinal "EightLegs" "EightLegs" "drift" "[I") ∈ lw_all := lw_g (lw_at lw_m1 147 rfl) rfl
theorem q247 : (Jvm.Cond.soleField "EightLegs" "drift") ∈ lw_all := lw_g (lw_at lw_m1 148 rfl) rfl
theorem q248 : (Jvm.Cond.laysFinal "EightLegs" "EightLegs" "lostBy" "[I") ∈ lw_all := lw_g (lw_at lw_m1 149 rfl) rfl
theorem q249 : (Jvm.Cond.soleField "EightLegs" "lostBy") ∈ lw_all := lw_g (lw_at lw_m1 150 rfl) rfl
theorem q250 : (Jvm.Cond.lays "EightLegs" "EightLegs" "long0" "I") ∈ lw_all := lw_g (lw_at lw_m1 151 rfl) rfl
theorem q251 : (Jvm.Cond.soleField "EightLegs" "long0") ∈ lw_all := lw_g (lw_at lw_m1 152 rfl) rfl
theorem q252 : (Jvm.Cond.lays "EightLegs" "EightLegs" "slipOf" "I") ∈ lw_all := lw_g (lw_at lw_m1 153 rfl) rfl
theorem q253 : (Jvm.Cond.soleField "EightLegs" "slipOf") ∈ lw_all := lw_g (lw_at lw_m1 154 rfl) rfl
theorem q254 : (Jvm.Cond.lays "EightLegs" "EightLegs" "slipAt" "I") ∈ lw_all := lw_g (lw_at lw_m1 155 rfl) rfl
theorem q255 : (Jvm.Cond.soleField "EightLegs" "slipAt") ∈ lw_all := lw_g (lw_at lw_m1 156 rfl) rfl
theorem q256 : (Jvm.Cond.lays "EightLegs" "EightLegs" "slipBy" "I") ∈ lw_all := lw_g (lw_at lw_m1 157 rfl) rfl
theorem q257 : (Jvm.Cond.soleField "EightLegs" "slipBy") ∈ lw_all := lw_g (lw_at lw_m1 158 rfl) rfl
theorem q258 : (Jvm.Cond.lays "EightLegs" "EightLegs" "greatestNeed" "I") ∈ lw_all := lw_g (lw_at lw_m1 159 rfl) rfl
theorem q259 : (Jvm.Cond.soleField "EightLegs" "greatestNeed") ∈ lw_all := lw_g (lw_at lw_m1 160 rfl) rfl
theorem q260 : (Jvm.Cond.lays "EightLegs" "EightLegs" "chosen" "I") ∈ lw_all := lw_g (lw_at lw_m1 161 rfl) rfl
theorem q261 : (Jvm.Cond.soleField "EightLegs" "chosen") ∈ lw_all := lw_g (lw_at lw_m1 162 rfl) rfl
theorem q262 : (Jvm.Cond.laysFinal "EightLegs" "EightLegs" "order" "[I") ∈ lw_all := lw_g (lw_at lw_m1 163 rfl) rfl
theorem q263 : (Jvm.Cond.soleField "EightLegs" "order") ∈ lw_all := lw_g (lw_at lw_m1 164 rfl) rfl
theorem q264 : (Jvm.Cond.laysFinal "EightLegs" "EightLegs" "bestOrder" "[I") ∈ lw_all := lw_g (lw_at lw_m1 165 rfl) rfl
theorem q265 : (Jvm.Cond.soleField "EightLegs" "bestOrder") ∈ lw_all := lw_g (lw_at lw_m1 166 rfl) rfl
theorem q266 : (Jvm.Cond.lays "EightLegs" "EightLegs" "bestSpread" "I") ∈ lw_all := lw_g (lw_at lw_m1 167 rfl) rfl
theorem q267 : (Jvm.Cond.soleField "EightLegs" "bestSpread") ∈ lw_all := lw_g (lw_at lw_m1 168 rfl) rfl
theorem q268 : (Jvm.Cond.laysFinal "EightLegs" "EightLegs" "told" "[I") ∈ lw_all := lw_g (lw_at lw_m1 169 rfl) rfl
theorem q269 : (Jvm.Cond.soleField "EightLegs" "told") ∈ lw_all := lw_g (lw_at lw_m1 170 rfl) rfl
theorem q270 : (Jvm.Cond.lays "EightLegs" "EightLegs" "toldMany" "I") ∈ lw_all := lw_g (lw_at lw_m1 171 rfl) rfl
theorem q271 : (Jvm.Cond.soleField "EightLegs" "toldMany") ∈ lw_all := lw_g (lw_at lw_m1 172 rfl) rfl
theorem q272 : (Jvm.Cond.lays "EightLegs" "EightLegs" "ledRoutines" "I") ∈ lw_all := lw_g (lw_at lw_m1 173 rfl) rfl
theorem q273 : (Jvm.Cond.soleField "EightLegs" "ledRoutines") ∈ lw_all := lw_g (lw_at lw_m1 174 rfl) rfl
theorem q274 : (Jvm.Cond.lays "EightLegs" "EightLegs" "ledCounts" "I") ∈ lw_all := lw_g (lw_at lw_m1 175 rfl) rfl
theorem q275 : (Jvm.Cond.soleField "EightLegs" "ledCounts") ∈ lw_all := lw_g (lw_at lw_m1 176 rfl) rfl
theorem q276 : (Jvm.Cond.lays "EightLegs" "EightLegs" "ledMarks" "I") ∈ lw_all := lw_g (lw_at lw_m1 177 rfl) rfl
theorem q277 : (Jvm.Cond.soleField "EightLegs" "ledMarks") ∈ lw_all := lw_g (lw_at lw_m1 178 rfl) rfl
theorem q278 : (Jvm.Cond.lays "EightLegs" "EightLegs" "ledGasps" "I") ∈ lw_all := lw_g (lw_at lw_m1 179 rfl) rfl
theorem q279 : (Jvm.Cond.soleField "EightLegs" "ledGasps") ∈ lw_all := lw_g (lw_at lw_m1 180 rfl) rfl
theorem q280 : (Jvm.Cond.lays "EightLegs" "EightLegs" "ledRests" "I") ∈ lw_all := lw_g (lw_at lw_m1 181 rfl) rfl
theorem q281 : (Jvm.Cond.soleField "EightLegs" "ledRests") ∈ lw_all := lw_g (lw_at lw_m1 182 rfl) rfl
theorem q282 : (Jvm.Cond.lays "EightLegs" "EightLegs" "hasImage" "Z") ∈ lw_all := lw_g (lw_at lw_m1 183 rfl) rfl
theorem q283 : (Jvm.Cond.soleField "EightLegs" "hasImage") ∈ lw_all := lw_g (lw_at lw_m1 184 rfl) rfl
theorem q284 : (Jvm.Cond.laysFinal "EightLegs" "EightLegs" "kept" "[I") ∈ lw_all := lw_g (lw_at lw_m1 185 rfl) rfl
theorem q285 : (Jvm.Cond.soleField "EightLegs" "kept") ∈ lw_all := lw_g (lw_at lw_m1 186 rfl) rfl
theorem q286 : (Jvm.Cond.lays "EightLegs" "EightLegs" "keptMany" "I") ∈ lw_all := lw_g (lw_at lw_m1 187 rfl) rfl
theorem q287 : (Jvm.Cond.soleField "EightLegs" "keptMany") ∈ lw_all := lw_g (lw_at lw_m1 188 rfl) rfl
theorem q288 : (Jvm.Cond.lays "EightLegs" "EightLegs" "keptRoutines" "I") ∈ lw_all := lw_g (lw_at lw_m1 189 rfl) rfl
theorem q289 : (Jvm.Cond.soleField "EightLegs" "keptRoutines") ∈ lw_all := lw_g (lw_at lw_m1 190 rfl) rfl
theorem q290 : (Jvm.Cond.lays "EightLegs" "EightLegs" "keptCounts" "I") ∈ lw_all := lw_g (lw_at lw_m1 191 rfl) rfl
theorem q291 : (Jvm.Cond.soleField "EightLegs" "keptCounts") ∈ lw_all := lw_g (lw_at lw_m1 192 rfl) rfl
theorem q292 : (Jvm.Cond.lays "EightLegs" "EightLegs" "keptMarks" "I") ∈ lw_all := lw_g (lw_at lw_m1 193 rfl) rfl
theorem q293 : (Jvm.Cond.soleField "EightLegs" "keptMarks") ∈ lw_all := lw_g (lw_at lw_m1 194 rfl) rfl
theorem q294 : (Jvm.Cond.lays "EightLegs" "EightLegs" "keptGasps" "I") ∈ lw_all := lw_g (lw_at lw_m1 195 rfl) rfl
theorem q295 : (Jvm.Cond.soleField "EightLegs" "keptGasps") ∈ lw_all := lw_g (lw_at lw_m1 196 rfl) rfl
theorem q296 : (Jvm.Cond.lays "EightLegs" "EightLegs" "keptRests" "I") ∈ lw_all := lw_g (lw_at lw_m1 197 rfl) rfl
theorem q297 : (Jvm.Cond.soleField "EightLegs" "keptRests") ∈ lw_all := lw_g (lw_at lw_m1 198 rfl) rfl
theorem q298 : (Jvm.Cond.lays "EightLegs" "EightLegs" "traces" "I") ∈ lw_all := lw_g (lw_at lw_m1 199 rfl) rfl
theorem q299 : (Jvm.Cond.soleField "EightLegs" "traces") ∈ lw_all := lw_g (lw_at lw_m1 200 rfl) rfl
theorem q300 : (Jvm.Cond.laysFinal "EightLegs" "EightLegs" "traced" "[B") ∈ lw_all := lw_g (lw_at lw_m1 201 rfl) rfl
theorem q301 : (Jvm.Cond.soleField "EightLegs" "traced") ∈ lw_all := lw_g (lw_at lw_m1 202 rfl) rfl
theorem q302 : (Jvm.Cond.laysFinal "EightLegs" "EightLegs" "bodies" "[LEightLegs$Beat;") ∈ lw_all := lw_g (lw_at lw_m1 203 rfl) rfl
theorem q303 : (Jvm.Cond.soleField "EightLegs" "bodies") ∈ lw_all := lw_g (lw_at lw_m1 204 rfl) rfl
theorem q304 : (Jvm.Cond.lays "EightLegs" "EightLegs" "bodyMany" "I") ∈ lw_all := lw_g (lw_at lw_m1 205 rfl) rfl
theorem q305 : (Jvm.Cond.soleField "EightLegs" "bodyMany") ∈ lw_all := lw_g (lw_at lw_m1 206 rfl) rfl
theorem q306 : (Jvm.Cond.laysFinal "EightLegs" "EightLegs" "shelves" "[LEightLegs$Held;") ∈ lw_all := lw_g (lw_at lw_m1 207 rfl) rfl
theorem q307 : (Jvm.Cond.soleField "EightLegs" "shelves") ∈ lw_all := lw_g (lw_at lw_m1 208 rfl) rfl
theorem q308 : (Jvm.Cond.superclass "EightLegs" "java/lang/Object") ∈ lw_all := lw_g (lw_at lw_m1 209 rfl) rfl
theorem q310 : (Jvm.Cond.instanceMethod ({ cls := "EightLegs", name := "swimmer", desc := "(II)I" } : Jvm.MethodName)) ∈ lw_all := lw_g (lw_at lw_m1 211 rfl) rfl
theorem q311 : (Jvm.Cond.selects "EightLegs" ({ cls := "EightLegs", name := "swimmer", desc := "(II)I" } : Jvm.MethodName) ({ cls := "EightLegs", name := "swimmer", desc := "(II)I" } : Jvm.MethodName)) ∈ lw_all := lw_g (lw_at lw_m1 212 rfl) rfl
theorem q312 : (Jvm.Cond.code ({ cls := "EightLegs", name := "swimmer", desc := "(II)I" } : Jvm.MethodName) prog_1_method_7_code (3 : Nat) (Option.some Jvm.ClassFile.FieldType.int)) ∈ lw_all := lw_g (lw_at lw_m1 213 rfl) rfl
theorem q313 : (Jvm.Cond.methodLink "EightLegs" (89 : Nat) ({ cls := "EightLegs", name := "isCell", desc := "(I)Z" } : Jvm.MethodName)) ∈ lw_all := lw_g (lw_at lw_m1 214 rfl) rfl
theorem q314 : (Jvm.Cond.static ({ cls := "EightLegs", name := "isCell", desc := "(I)Z" } : Jvm.MethodName)) ∈ lw_all := lw_g (lw_at lw_m1 215 rfl) rfl
theorem q315 : (Jvm.Cond.code ({ cls := "EightLegs", name := "isCell", desc := "(I)Z" } : Jvm.MethodName) prog_1_method_5_code (1 : Nat) (Option.some Jvm.ClassFile.FieldType.boolean)) ∈ lw_all := lw_g (lw_at lw_m1 216 rfl) rfl
theorem q316 : (Jvm.Cond.methodLink "EightLegs" (82 : Nat) ({ cls := "EightLegs", name := "in", desc := "(III)Z" } : Jvm.MethodName)) ∈ lw_all := lw_g (lw_at lw_m1 217 rfl) rfl
theorem q317 : (Jvm.Cond.static ({ cls := "EightLegs", name := "in", desc := "(III)Z" } : Jvm.MethodName)) ∈ lw_all := lw_g (lw_at lw_m1 218 rfl) rfl
theorem q318 : (Jvm.Cond.code ({ cls := "EightLegs", name := "in", desc := "(III)Z" } : Jvm.MethodName) prog_1_method_2_code (3 : Nat) (Option.some Jvm.ClassFile.FieldType.boolean)) ∈ lw_all := lw_g (lw_at lw_m1 219 rfl) rfl
theorem q319 : (Jvm.Cond.methodLink "EightLegs" (93 : Nat) ({ cls := "EightLegs", name := "addOne", desc := "(III)LEightLegs$Swimmer;" } : Jvm.MethodName)) ∈ lw_all := lw_g (lw_at lw_m1 220 rfl) rfl
theorem q320 : (Jvm.Cond.privateMethod ({ cls := "EightLegs", name := "addOne", desc := "(III)LEightLegs$Swimmer;" } : Jvm.MethodName)) ∈ lw_tbl := lw_at lw_m1 221 rfl
theorem q321 : (Jvm.Cond.instanceMethod ({ cls := "EightLegs", name := "addOne", desc := "(III)LEightLegs$Swimmer;" } : Jvm.MethodName)) ∈ lw_all := lw_g (lw_at lw_m1 222 rfl) rfl
theorem q322 : (Jvm.Cond.code ({ cls := "EightLegs", name := "addOne", desc := "(III)LEightLegs$Swimmer;" } : Jvm.MethodName) prog_1_method_6_code (4 : Nat) (Option.some (Jvm.ClassFile.FieldType.object "EightLegs$Swimmer"))) ∈ lw_all := lw_g (lw_at lw_m1 223 rfl) rfl
theorem q324 : (Jvm.Cond.methodLink "EightLegs" (86 : Nat) ({ cls := "EightLegs$Swimmer", name := "<init>", desc := "(III)V" } : Jvm.MethodName)) ∈ lw_all := lw_g (lw_at lw_m1 225 rfl) rfl
theorem q329 : (Jvm.Cond.fieldLinkNest "EightLegs" (115 : Nat) "EightLegs$Swimmer" "x" "I" "EightLegs") ∈ lw_tbl := lw_at lw_m1 230 rfl
theorem q331 : (Jvm.Cond.fieldLinkNest "EightLegs" (118 : Nat) "EightLegs$Swimmer" "y" "I" "EightLegs") ∈ lw_tbl := lw_at lw_m1 232 rfl
theorem q333 : (Jvm.Cond.fieldLinkNest "EightLegs" (121 : Nat) "EightLegs$Swimmer" "tall" "I" "EightLegs") ∈ lw_tbl := lw_at lw_m1 234 rfl
theorem q335 : (Jvm.Cond.fieldLinkNest "EightLegs" (124 : Nat) "EightLegs$Swimmer" "breath" "I" "EightLegs") ∈ lw_tbl := lw_at lw_m1 236 rfl
theorem q336 : (Jvm.Cond.fieldLinkNest "EightLegs" (106 : Nat) "EightLegs$Swimmer" "quick" "I" "EightLegs") ∈ lw_tbl := lw_at lw_m1 237 rfl
theorem q337 : (Jvm.Cond.fieldLinkNest "EightLegs" (127 : Nat) "EightLegs$Swimmer" "late" "I" "EightLegs") ∈ lw_tbl := lw_at lw_m1 238 rfl
theorem q338 : (Jvm.Cond.fieldLinkNest "EightLegs" (175 : Nat) "EightLegs$Swimmer" "tired" "I" "EightLegs") ∈ lw_tbl := lw_at lw_m1 239 rfl
theorem q339 : (Jvm.Cond.fieldLinkNest "EightLegs" (178 : Nat) "EightLegs$Swimmer" "gasped" "I" "EightLegs") ∈ lw_tbl := lw_at lw_m2 0 rfl
theorem q358 : (Jvm.Cond.instanceMethod ({ cls := "EightLegs", name := "swimmers", desc := "(III)I" } : Jvm.MethodName)) ∈ lw_all := lw_g (lw_at lw_m2 19 rfl) rfl
theorem q359 : (Jvm.Cond.selects "EightLegs" ({ cls := "EightLegs", name := "swimmers", desc := "(III)I" } : Jvm.MethodName) ({ cls := "EightLegs", name := "swimmers", desc := "(III)I" } : Jvm.MethodName)) ∈ lw_all := lw_g (lw_at lw_m2 20 rfl) rfl
theorem q360 : (Jvm.Cond.codeWith ({ cls := "EightLegs", name := "swimmers", desc := "(III)I" } : Jvm.MethodName) prog_1_method_8_code (11 : Nat) (Option.some Jvm.ClassFile.FieldType.int) [((22 : Nat), (154 : Nat), (182 : Nat), (109 : Nat)), ((155 : Nat), (179 : Nat), (182 : Nat), (109 : Nat)), ((22 : Nat), (154 : Nat), (187 : Nat), (111 : Nat)), ((155 : Nat), (179 : Nat), (187 : Nat), (111 : Nat)), ((22 : Nat), (154 : Nat), (192 : Nat), (113 : Nat)), ((155 : Nat), (179 : Nat), (192 : Nat), (113 : Nat))]) ∈ lw_all := lw_g (lw_at lw_m2 21 rfl) rfl
theorem q361 : (Jvm.Cond.classLink "EightLegs" (109 : Nat) "java/lang/ClassCastException") ∈ lw_all := lw_g (lw_at lw_m2 22 rfl) rfl
theorem q445 : (Jvm.Cond.classLink "EightLegs" (111 : Nat) "java/lang/NullPointerException") ∈ lw_all := lw_g (lw_at lw_m2 106 rfl) rfl
theorem q470 : (Jvm.Cond.classLink "EightLegs" (113 : Nat) "java/lang/IndexOutOfBoundsException") ∈ lw_all := lw_g (lw_at lw_m2 131 rfl) rfl
theorem q489 : (Jvm.Cond.methodLink "EightLegs" (97 : Nat) ({ cls := "EightLegs", name := "isShelf", desc := "(I)Z" } : Jvm.MethodName)) ∈ lw_all := lw_g (lw_at lw_m2 150 rfl) rfl
theorem q490 : (Jvm.Cond.static ({ cls := "EightLegs", name := "isShelf", desc := "(I)Z" } : Jvm.MethodName)) ∈ lw_all := lw_g (lw_at lw_m2 151 rfl) rfl
theorem q491 : (Jvm.Cond.code ({ cls := "EightLegs", name := "isShelf", desc := "(I)Z" } : Jvm.MethodName) prog_1_method_79_code (1 : Nat) (Option.some Jvm.ClassFile.FieldType.boolean)) ∈ lw_all := lw_g (lw_at lw_m2 152 rfl) rfl
theorem q492 : (Jvm.Cond.classLink "EightLegs" (100 : Nat) "EightLegs$ByteRow") ∈ lw_all := lw_g (lw_at lw_m2 153 rfl) rfl
theorem q493 : (Jvm.Cond.methodLink "EightLegs" (102 : Nat) ({ cls := "EightLegs$ByteRow", name := "at", desc := "(I)J" } : Jvm.MethodName)) ∈ lw_all := lw_g (lw_at lw_m2 154 rfl) rfl
theorem q498 : (Jvm.Cond.instanceMethod ({ cls := "EightLegs", name := "undo", desc := "()I" } : Jvm.MethodName)) ∈ lw_all := lw_g (lw_at lw_m2 159 rfl) rfl
theorem q499 : (Jvm.Cond.selects "EightLegs" ({ cls := "EightLegs", name := "undo", desc := "()I" } : Jvm.MethodName) ({ cls := "EightLegs", name := "undo", desc := "()I" } : Jvm.MethodName)) ∈ lw_all := lw_g (lw_at lw_m2 160 rfl) rfl
theorem q500 : (Jvm.Cond.code ({ cls := "EightLegs", name := "undo", desc := "()I" } : Jvm.MethodName) prog_1_method_11_code (1 : Nat) (Option.some Jvm.ClassFile.FieldType.int)) ∈ lw_all := lw_g (lw_at lw_m2 161 rfl) rfl
theorem q501 : (Jvm.Cond.methodLink "EightLegs" (142 : Nat) ({ cls := "EightLegs", name := "setTo", desc := "(III)V" } : Jvm.MethodName)) ∈ lw_all := lw_g (lw_at lw_m2 162 rfl) rfl
theorem q502 : (Jvm.Cond.privateMethod ({ cls := "EightLegs", name := "setTo", desc := "(III)V" } : Jvm.MethodName)) ∈ lw_tbl := lw_at lw_m2 163 rfl
theorem q503 : (Jvm.Cond.instanceMethod ({ cls := "EightLegs", name := "setTo", desc := "(III)V" } : Jvm.MethodName)) ∈ lw_all := lw_g (lw_at lw_m2 164 rfl) rfl
theorem q504 : (Jvm.Cond.code ({ cls := "EightLegs", name := "setTo", desc := "(III)V" } : Jvm.MethodName) prog_1_method_9_code (4 : Nat) (Option.none : Option Jvm.ClassFile.FieldType)) ∈ lw_all := lw_g (lw_at lw_m2 165 rfl) rfl
theorem q506 : (Jvm.Cond.instanceMethod ({ cls := "EightLegs", name := "redo", desc := "()I" } : Jvm.MethodName)) ∈ lw_all := lw_g (lw_at lw_m2 167 rfl) rfl
theorem q507 : (Jvm.Cond.selects "EightLegs" ({ cls := "EightLegs", name := "redo", desc := "()I" } : Jvm.MethodName) ({ cls := "EightLegs", name := "redo", desc := "()I" } : Jvm.MethodName)) ∈ lw_all := lw_g (lw_at lw_m2 168 rfl) rfl
theorem q508 : (Jvm.Cond.code ({ cls := "EightLegs", name := "redo", desc := "()I" } : Jvm.MethodName) prog_1_method_12_code (1 : Nat) (Option.some Jvm.ClassFile.FieldType.int)) ∈ lw_all := lw_g (lw_at lw_m2 169 rfl) rfl
theorem q510 : (Jvm.Cond.instanceMethod ({ cls := "EightLegs", name := "mend", desc := "(III)I" } : Jvm.MethodName)) ∈ lw_all := lw_g (lw_at lw_m2 171 rfl) rfl
theorem q511 : (Jvm.Cond.selects "EightLegs" ({ cls := "EightLegs", name := "mend", desc := "(III)I" } : Jvm.MethodName) ({ cls := "EightLegs", name := "mend", desc := "(III)I" } : Jvm.MethodName)) ∈ lw_all := lw_g (lw_at lw_m2 172 rfl) rfl
theorem q512 : (Jvm.Cond.code ({ cls := "EightLegs", name := "mend", desc := "(III)I" } : Jvm.MethodName) prog_1_method_16_code (4 : Nat) (Option.some Jvm.ClassFile.FieldType.int)) ∈ lw_all := lw_g (lw_at lw_m2 173 rfl) rfl
theorem q513 : (Jvm.Cond.methodLink "EightLegs" (159 : Nat) ({ cls := "EightLegs", name := "isOf", desc := "(II)Z" } : Jvm.MethodName)) ∈ lw_all := lw_g (lw_at lw_m2 174 rfl) rfl
theorem q514 : (Jvm.Cond.privateMethod ({ cls := "EightLegs", name := "isOf", desc := "(II)Z" } : Jvm.MethodName)) ∈ lw_tbl := lw_at lw_m2 175 rfl
theorem q515 : (Jvm.Cond.instanceMethod ({ cls := "EightLegs", name := "isOf", desc := "(II)Z" } : Jvm.MethodName)) ∈ lw_all := lw_g (lw_at lw_m2 176 rfl) rfl
theorem q516 : (Jvm.Cond.code ({ cls := "EightLegs", name := "isOf", desc := "(II)Z" } : Jvm.MethodName) prog_1_method_13_code (3 : Nat) (Option.some Jvm.ClassFile.FieldType.boolean)) ∈ lw_all := lw_g (lw_at lw_m2 177 rfl) rfl
theorem q517 : (Jvm.Cond.methodLink "EightLegs" (156 : Nat) ({ cls := "EightLegs", name := "isOne", desc := "(I)Z" } : Jvm.MethodName)) ∈ lw_all := lw_g (lw_at lw_m2 178 rfl) rfl
theorem q518 : (Jvm.Cond.privateMethod ({ cls := "EightLegs", name := "isOne", desc := "(I)Z" } : Jvm.MethodName)) ∈ lw_tbl := lw_at lw_m2 179 rfl
theorem q519 : (Jvm.Cond.instanceMethod ({ cls := "EightLegs", name := "isOne", desc := "(I)Z" } : Jvm.MethodName)) ∈ lw_all := lw_g (lw_at lw_m2 180 rfl) rfl
theorem q520 : (Jvm.Cond.code ({ cls := "EightLegs", name := "isOne", desc := "(I)Z" } : Jvm.MethodName) prog_1_method_4_code (2 : Nat) (Option.some Jvm.ClassFile.FieldType.boolean)) ∈ lw_all := lw_g (lw_at lw_m2 181 rfl) rfl
theorem q521 : (Jvm.Cond.methodLink "EightLegs" (163 : Nat) ({ cls := "EightLegs", name := "mayBe", desc := "(II)Z" } : Jvm.MethodName)) ∈ lw_all := lw_g (lw_at lw_m2 182 rfl) rfl
theorem q522 : (Jvm.Cond.static ({ cls := "EightLegs", name := "mayBe", desc := "(II)Z" } : Jvm.MethodName)) ∈ lw_all := lw_g (lw_at lw_m2 183 rfl) rfl
theorem q523 : (Jvm.Cond.code ({ cls := "EightLegs", name := "mayBe", desc := "(II)Z" } : Jvm.MethodName) prog_1_method_15_code (2 : Nat) (Option.some Jvm.ClassFile.FieldType.boolean)) ∈ lw_all := lw_g (lw_at lw_m2 184 rfl) rfl
theorem q524 : (Jvm.Cond.methodLink "EightLegs" (166 : Nat) ({ cls := "EightLegs", name := "valueOf", desc := "(II)I" } : Jvm.MethodName)) ∈ lw_all := lw_g (lw_at lw_m2 185 rfl) rfl
theorem q525 : (Jvm.Cond.privateMethod ({ cls := "EightLegs", name := "valueOf", desc := "(II)I" } : Jvm.MethodName)) ∈ lw_tbl := lw_at lw_m2 186 rfl
theorem q526 : (Jvm.Cond.instanceMethod ({ cls := "EightLegs", name := "valueOf", desc := "(II)I" } : Jvm.MethodName)) ∈ lw_all := lw_g (lw_at lw_m2 187 rfl) rfl
theorem q527 : (Jvm.Cond.code ({ cls := "EightLegs", name := "valueOf", desc := "(II)I" } : Jvm.MethodName) prog_1_method_14_code (3 : Nat) (Option.some Jvm.ClassFile.FieldType.int)) ∈ lw_all := lw_g (lw_at lw_m2 188 rfl) rfl
theorem q528 : (Jvm.Cond.methodLink "EightLegs" (170 : Nat) ({ cls := "EightLegs", name := "become", desc := "(IIII)I" } : Jvm.MethodName)) ∈ lw_all := lw_g (lw_at lw_m2 189 rfl) rfl
theorem q529 : (Jvm.Cond.privateMethod ({ cls := "EightLegs", name := "become", desc := "(IIII)I" } : Jvm.MethodName)) ∈ lw_tbl := lw_at lw_m2 190 rfl
theorem q530 : (Jvm.Cond.instanceMethod ({ cls := "EightLegs", name := "become", desc := "(IIII)I" } : Jvm.MethodName)) ∈ lw_all := lw_g (lw_at lw_m2 191 rfl) rfl
theorem q531 : (Jvm.Cond.code ({ cls := "EightLegs", name := "become", desc := "(IIII)I" } : Jvm.MethodName) prog_1_method_10_code (6 : Nat) (Option.some Jvm.ClassFile.FieldType.int)) ∈ lw_all := lw_g (lw_at lw_m2 192 rfl) rfl
theorem q533 : (Jvm.Cond.methodLink "EightLegs" (139 : Nat) ({ cls := "EightLegs$Change", name := "<init>", desc := "(IIII)V" } : Jvm.MethodName)) ∈ lw_all := lw_g (lw_at lw_m2 194 rfl) rfl
theorem q538 : (Jvm.Cond.fieldLinkNest "EightLegs" (145 : Nat) "EightLegs$Change" "of" "I" "EightLegs") ∈ lw_tbl := lw_at lw_m2 199 rfl
theorem q540 : (Jvm.Cond.fieldLinkNest "EightLegs" (148 : Nat) "EightLegs$Change" "at" "I" "EightLegs") ∈ lw_tbl := lw_at lw_m2 201 rfl
theorem q542 : (Jvm.Cond.fieldLinkNest "EightLegs" (150 : Nat) "EightLegs$Change" "before" "I" "EightLegs") ∈ lw_tbl := lw_at lw_m2 203 rfl
theorem q544 : (Jvm.Cond.fieldLinkNest "EightLegs" (153 : Nat) "EightLegs$Change" "behind" "I" "EightLegs") ∈ lw_tbl := lw_at lw_m2 205 rfl
theorem q554 : (Jvm.Cond.constant "EightLegs" (174 : Nat) (-2000000000 : Int32)) ∈ lw_all := lw_g (lw_at lw_m2 215 rfl) rfl
theorem q556 : (Jvm.Cond.instanceMethod ({ cls := "EightLegs", name := "of", desc := "(II)I" } : Jvm.MethodName)) ∈ lw_all := lw_g (lw_at lw_m2 217 rfl) rfl
theorem q557 : (Jvm.Cond.selects "EightLegs" ({ cls := "EightLegs", name := "of", desc := "(II)I" } : Jvm.MethodName) ({ cls := "EightLegs", name := "of", desc := "(II)I" } : Jvm.MethodName)) ∈ lw_all := lw_g (lw_at lw_m2 218 rfl) rfl
theorem q558 : (Jvm.Cond.code ({ cls := "EightLegs", name := "of", desc := "(II)I" } : Jvm.MethodName) prog_1_method_17_code (3 : Nat) (Option.some Jvm.ClassFile.FieldType.int)) ∈ lw_all := lw_g (lw_at lw_m2 219 rfl) rfl
theorem q560 : (Jvm.Cond.instanceMethod ({ cls := "EightLegs", name := "feed", desc := "(I)I" } : Jvm.MethodName)) ∈ lw_all := lw_g (lw_at lw_m2 221 rfl) rfl
theorem q561 : (Jvm.Cond.selects "EightLegs" ({ cls := "EightLegs", name := "feed", desc := "(I)I" } : Jvm.MethodName) ({ cls := "EightLegs", name := "feed", desc := "(I)I" } : Jvm.MethodName)) ∈ lw_all := lw_g (lw_at lw_m2 222 rfl) rfl
theorem q562 : (Jvm.Cond.code ({ cls := "EightLegs", name := "feed", desc := "(I)I" } : Jvm.MethodName) prog_1_method_18_code (2 : Nat) (Option.some Jvm.ClassFile.FieldType.int)) ∈ lw_all := lw_g (lw_at lw_m2 223 rfl) rfl
theorem q564 : (Jvm.Cond.instanceMethod ({ cls := "EightLegs", name := "law", desc := "()I" } : Jvm.MethodName)) ∈ lw_all := lw_g (lw_at lw_m2 225 rfl) rfl
theorem q565 : (Jvm.Cond.selects "EightLegs" ({ cls := "EightLegs", name := "law", desc := "()I" } : Jvm.MethodName) ({ cls := "EightLegs", name := "law", desc := "()I" } : Jvm.MethodName)) ∈ lw_all := lw_g (lw_at lw_m2 226 rfl) rfl
theorem q566 : (Jvm.Cond.code ({ cls := "EightLegs", name := "law", desc := "()I" } : Jvm.MethodName) prog_1_method_19_code (3 : Nat) (Option.some Jvm.ClassFile.FieldType.int)) ∈ lw_all := lw_g (lw_at lw_m2 227 rfl) rfl
theorem q567 : (Jvm.Cond.classLink "EightLegs" (184 : Nat) "EightLegs$Reader") ∈ lw_all := lw_g (lw_at lw_m2 228 rfl) rfl
theorem q569 : (Jvm.Cond.methodLinkNest "EightLegs" (186 : Nat) ({ cls := "EightLegs$Reader", name := "<init>", desc := "(LEightLegs;)V" } : Jvm.MethodName) "EightLegs") ∈ lw_tbl := lw_at lw_m2 230 rfl
theorem q575 : (Jvm.Cond.fieldLinkNest "EightLegs" (193 : Nat) "EightLegs$Reader" "fault" "I" "EightLegs") ∈ lw_tbl := lw_at lw_m2 236 rfl
theorem q587 : (Jvm.Cond.methodLink "EightLegs" (189 : Nat) ({ cls := "EightLegs$Reader", name := "lines", desc := "()LEightLegs$Line;" } : Jvm.MethodName)) ∈ lw_all := lw_g (lw_at lw_m3 8 rfl) rfl
theorem q602 : (Jvm.Cond.fieldLinkNest "EightLegs" (200 : Nat) "EightLegs$Line" "test" "LEightLegs$Node;" "EightLegs") ∈ lw_tbl := lw_at lw_m3 23 rfl
theorem q604 : (Jvm.Cond.fieldLinkNest "EightLegs" (212 : Nat) "EightLegs$Line" "gives" "LEightLegs$Node;" "EightLegs") ∈ lw_tbl := lw_at lw_m3 25 rfl
theorem q606 : (Jvm.Cond.fieldLinkNest "EightLegs" (215 : Nat) "EightLegs$Line" "next" "LEightLegs$Line;" "EightLegs") ∈ lw_tbl := lw_at lw_m3 27 rfl
theorem q809 : (Jvm.Cond.instanceMethod ({ cls := "EightLegs", name := "loses", desc := "(III)I" } : Jvm.MethodName)) ∈ lw_all := lw_g (lw_at lw_m3 230 rfl) rfl
theorem q810 : (Jvm.Cond.selects "EightLegs" ({ cls := "EightLegs", name := "loses", desc := "(III)I" } : Jvm.MethodName) ({ cls := "EightLegs", name := "loses", desc := "(III)I" } : Jvm.MethodName)) ∈ lw_all := lw_g (lw_at lw_m3 231 rfl) rfl
theorem q811 : (Jvm.Cond.code ({ cls := "EightLegs", name := "loses", desc := "(III)I" } : Jvm.MethodName) prog_1_method_22_code (4 : Nat) (Option.some Jvm.ClassFile.FieldType.int)) ∈ lw_all := lw_g (lw_at lw_m3 232 rfl) rfl
theorem q812 : (Jvm.Cond.methodLink "EightLegs" (243 : Nat) ({ cls := "EightLegs", name := "losesBy", desc := "(LEightLegs$Swimmer;LEightLegs$Swimmer;III)I" } : Jvm.MethodName)) ∈ lw_all := lw_g (lw_at lw_m3 233 rfl) rfl
theorem q813 : (Jvm.Cond.privateMethod ({ cls := "EightLegs", name := "losesBy", desc := "(LEightLegs$Swimmer;LEightLegs$Swimmer;III)I" } : Jvm.MethodName)) ∈ lw_tbl := lw_at lw_m3 234 rfl
theorem q814 : (Jvm.Cond.instanceMethod ({ cls := "EightLegs", name := "losesBy", desc := "(LEightLegs$Swimmer;LEightLegs$Swimmer;III)I" } : Jvm.MethodName)) ∈ lw_all := lw_g (lw_at lw_m3 235 rfl) rfl
theorem q815 : (Jvm.Cond.code ({ cls := "EightLegs", name := "losesBy", desc := "(LEightLegs$Swimmer;LEightLegs$Swimmer;III)I" } : Jvm.MethodName) prog_1_method_21_code (7 : Nat) (Option.some Jvm.ClassFile.FieldType.int)) ∈ lw_all := lw_g (lw_at lw_m3 236 rfl) rfl
theorem q816 : (Jvm.Cond.methodLink "EightLegs" (218 : Nat) ({ cls := "EightLegs$Facts", name := "clear", desc := "()V" } : Jvm.MethodName)) ∈ lw_all := lw_g (lw_at lw_m3 237 rfl) rfl
theorem q820 : (Jvm.Cond.methodLink "EightLegs" (224 : Nat) ({ cls := "EightLegs$Swimmer", name := "farFrom", desc := "(LEightLegs$Swimmer;)I" } : Jvm.MethodName)) ∈ lw_all := lw_g (lw_at lw_m4 1 rfl) rfl
theorem q827 : (Jvm.Cond.methodLink "EightLegs" (228 : Nat) ({ cls := "java/lang/Math", name := "abs", desc := "(I)I" } : Jvm.MethodName)) ∈ lw_all := lw_g (lw_at lw_m4 8 rfl) rfl
theorem q828 : (Jvm.Cond.methodLink "EightLegs" (234 : Nat) ({ cls := "EightLegs", name := "gives", desc := "()I" } : Jvm.MethodName)) ∈ lw_all := lw_g (lw_at lw_m4 9 rfl) rfl
theorem q829 : (Jvm.Cond.privateMethod ({ cls := "EightLegs", name := "gives", desc := "()I" } : Jvm.MethodName)) ∈ lw_tbl := lw_at lw_m4 10 rfl
theorem q830 : (Jvm.Cond.instanceMethod ({ cls := "EightLegs", name := "gives", desc := "()I" } : Jvm.MethodName)) ∈ lw_all := lw_g (lw_at lw_m4 11 rfl) rfl
theorem q831 : (Jvm.Cond.code ({ cls := "EightLegs", name := "gives", desc := "()I" } : Jvm.MethodName) prog_1_method_20_code (2 : Nat) (Option.some Jvm.ClassFile.FieldType.int)) ∈ lw_all := lw_g (lw_at lw_m4 12 rfl) rfl
theorem q832 : (Jvm.Cond.methodLink "EightLegs" (206 : Nat) ({ cls := "EightLegs$Node", name := "value", desc := "(LEightLegs$Facts;)I" } : Jvm.MethodName)) ∈ lw_all := lw_g (lw_at lw_m4 13 rfl) rfl
theorem q856 : (Jvm.Cond.methodLink "EightLegs" (237 : Nat) ({ cls := "java/lang/Math", name := "min", desc := "(II)I" } : Jvm.MethodName)) ∈ lw_all := lw_g (lw_at lw_m4 37 rfl) rfl
theorem q857 : (Jvm.Cond.methodLink "EightLegs" (240 : Nat) ({ cls := "java/lang/Math", name := "max", desc := "(II)I" } : Jvm.MethodName)) ∈ lw_all := lw_g (lw_at lw_m4 38 rfl) rfl
theorem q859 : (Jvm.Cond.instanceMethod ({ cls := "EightLegs", name := "routine", desc := "(II)I" } : Jvm.MethodName)) ∈ lw_all := lw_g (lw_at lw_m4 40 rfl) rfl
theorem q860 : (Jvm.Cond.selects "EightLegs" ({ cls := "EightLegs", name := "routine", desc := "(II)I" } : Jvm.MethodName) ({ cls := "EightLegs", name := "routine", desc := "(II)I" } : Jvm.MethodName)) ∈ lw_all := lw_g (lw_at lw_m4 41 rfl) rfl
theorem q861 : (Jvm.Cond.code ({ cls := "EightLegs", name := "routine", desc := "(II)I" } : Jvm.MethodName) prog_1_method_34_code (4 : Nat) (Option.some Jvm.ClassFile.FieldType.int)) ∈ lw_all := lw_g (lw_at lw_m4 42 rfl) rfl
theorem q862 : (Jvm.Cond.methodLink "EightLegs" (281 : Nat) ({ cls := "EightLegs", name := "layRoutine", desc := "(I)I" } : Jvm.MethodName)) ∈ lw_all := lw_g (lw_at lw_m4 43 rfl) rfl
theorem q863 : (Jvm.Cond.privateMethod ({ cls := "EightLegs", name := "layRoutine", desc := "(I)I" } : Jvm.MethodName)) ∈ lw_tbl := lw_at lw_m4 44 rfl
theorem q864 : (Jvm.Cond.instanceMethod ({ cls := "EightLegs", name := "layRoutine", desc := "(I)I" } : Jvm.MethodName)) ∈ lw_all := lw_g (lw_at lw_m4 45 rfl) rfl
theorem q865 : (Jvm.Cond.codeWith ({ cls := "EightLegs", name := "layRoutine", desc := "(I)I" } : Jvm.MethodName) prog_1_method_23_code (5 : Nat) (Option.some Jvm.ClassFile.FieldType.int) [((5 : Nat), (50 : Nat), (78 : Nat), (109 : Nat)), ((51 : Nat), (75 : Nat), (78 : Nat), (109 : Nat)), ((5 : Nat), (50 : Nat), (82 : Nat), (111 : Nat)), ((51 : Nat), (75 : Nat), (82 : Nat), (111 : Nat))]) ∈ lw_all := lw_g (lw_at lw_m4 46 rfl) rfl
theorem q866 : (Jvm.Cond.methodLink "EightLegs" (250 : Nat) ({ cls := "EightLegs$ByteRow", name := "size", desc := "()I" } : Jvm.MethodName)) ∈ lw_all := lw_g (lw_at lw_m4 47 rfl) rfl
theorem q870 : (Jvm.Cond.methodLink "EightLegs" (278 : Nat) ({ cls := "EightLegs", name := "marks", desc := "()I" } : Jvm.MethodName)) ∈ lw_all := lw_g (lw_at lw_m4 51 rfl) rfl
theorem q871 : (Jvm.Cond.privateMethod ({ cls := "EightLegs", name := "marks", desc := "()I" } : Jvm.MethodName)) ∈ lw_tbl := lw_at lw_m4 52 rfl
theorem q872 : (Jvm.Cond.instanceMethod ({ cls := "EightLegs", name := "marks", desc := "()I" } : Jvm.MethodName)) ∈ lw_all := lw_g (lw_at lw_m4 53 rfl) rfl
theorem q873 : (Jvm.Cond.code ({ cls := "EightLegs", name := "marks", desc := "()I" } : Jvm.MethodName) prog_1_method_31_code (3 : Nat) (Option.some Jvm.ClassFile.FieldType.int)) ∈ lw_all := lw_g (lw_at lw_m4 54 rfl) rfl
theorem q874 : (Jvm.Cond.methodLink "EightLegs" (265 : Nat) ({ cls := "EightLegs", name := "begin", desc := "()V" } : Jvm.MethodName)) ∈ lw_all := lw_g (lw_at lw_m4 55 rfl) rfl
theorem q875 : (Jvm.Cond.privateMethod ({ cls := "EightLegs", name := "begin", desc := "()V" } : Jvm.MethodName)) ∈ lw_tbl := lw_at lw_m4 56 rfl
theorem q876 : (Jvm.Cond.instanceMethod ({ cls := "EightLegs", name := "begin", desc := "()V" } : Jvm.MethodName)) ∈ lw_all := lw_g (lw_at lw_m4 57 rfl) rfl
theorem q877 : (Jvm.Cond.code ({ cls := "EightLegs", name := "begin", desc := "()V" } : Jvm.MethodName) prog_1_method_24_code (2 : Nat) (Option.none : Option Jvm.ClassFile.FieldType)) ∈ lw_all := lw_g (lw_at lw_m4 58 rfl) rfl
theorem q878 : (Jvm.Cond.methodLink "EightLegs" (268 : Nat) ({ cls := "EightLegs", name := "goCount", desc := "(I)V" } : Jvm.MethodName)) ∈ lw_all := lw_g (lw_at lw_m4 59 rfl) rfl
theorem q879 : (Jvm.Cond.privateMethod ({ cls := "EightLegs", name := "goCount", desc := "(I)V" } : Jvm.MethodName)) ∈ lw_tbl := lw_at lw_m4 60 rfl
theorem q880 : (Jvm.Cond.instanceMethod ({ cls := "EightLegs", name := "goCount", desc := "(I)V" } : Jvm.MethodName)) ∈ lw_all := lw_g (lw_at lw_m4 61 rfl) rfl
theorem q881 : (Jvm.Cond.code ({ cls := "EightLegs", name := "goCount", desc := "(I)V" } : Jvm.MethodName) prog_1_method_25_code (3 : Nat) (Option.none : Option Jvm.ClassFile.FieldType)) ∈ lw_all := lw_g (lw_at lw_m4 62 rfl) rfl
theorem q882 : (Jvm.Cond.methodLink "EightLegs" (272 : Nat) ({ cls := "EightLegs", name := "marksIn", desc := "(I)I" } : Jvm.MethodName)) ∈ lw_all := lw_g (lw_at lw_m4 63 rfl) rfl
theorem q883 : (Jvm.Cond.privateMethod ({ cls := "EightLegs", name := "marksIn", desc := "(I)I" } : Jvm.MethodName)) ∈ lw_tbl := lw_at lw_m4 64 rfl
theorem q884 : (Jvm.Cond.instanceMethod ({ cls := "EightLegs", name := "marksIn", desc := "(I)I" } : Jvm.MethodName)) ∈ lw_all := lw_g (lw_at lw_m4 65 rfl) rfl
theorem q885 : (Jvm.Cond.code ({ cls := "EightLegs", name := "marksIn", desc := "(I)I" } : Jvm.MethodName) prog_1_method_30_code (6 : Nat) (Option.some Jvm.ClassFile.FieldType.int)) ∈ lw_all := lw_g (lw_at lw_m4 66 rfl) rfl
theorem q886 : (Jvm.Cond.methodLink "EightLegs" (262 : Nat) ({ cls := "EightLegs", name := "apartOf", desc := "(II)I" } : Jvm.MethodName)) ∈ lw_all := lw_g (lw_at lw_m4 67 rfl) rfl
theorem q887 : (Jvm.Cond.privateMethod ({ cls := "EightLegs", name := "apartOf", desc := "(II)I" } : Jvm.MethodName)) ∈ lw_tbl := lw_at lw_m4 68 rfl
theorem q888 : (Jvm.Cond.instanceMethod ({ cls := "EightLegs", name := "apartOf", desc := "(II)I" } : Jvm.MethodName)) ∈ lw_all := lw_g (lw_at lw_m4 69 rfl) rfl
theorem q889 : (Jvm.Cond.code ({ cls := "EightLegs", name := "apartOf", desc := "(II)I" } : Jvm.MethodName) prog_1_method_27_code (3 : Nat) (Option.some Jvm.ClassFile.FieldType.int)) ∈ lw_all := lw_g (lw_at lw_m4 70 rfl) rfl
theorem q890 : (Jvm.Cond.methodLink "EightLegs" (259 : Nat) ({ cls := "EightLegs", name := "offOf", desc := "(I)I" } : Jvm.MethodName)) ∈ lw_all := lw_g (lw_at lw_m4 71 rfl) rfl
theorem q891 : (Jvm.Cond.privateMethod ({ cls := "EightLegs", name := "offOf", desc := "(I)I" } : Jvm.MethodName)) ∈ lw_tbl := lw_at lw_m4 72 rfl
theorem q892 : (Jvm.Cond.instanceMethod ({ cls := "EightLegs", name := "offOf", desc := "(I)I" } : Jvm.MethodName)) ∈ lw_all := lw_g (lw_at lw_m4 73 rfl) rfl
theorem q893 : (Jvm.Cond.code ({ cls := "EightLegs", name := "offOf", desc := "(I)I" } : Jvm.MethodName) prog_1_method_26_code (2 : Nat) (Option.some Jvm.ClassFile.FieldType.int)) ∈ lw_all := lw_g (lw_at lw_m4 74 rfl) rfl
theorem q894 : (Jvm.Cond.methodLink "EightLegs" (284 : Nat) ({ cls := "EightLegs", name := "firstSeen", desc := "()I" } : Jvm.MethodName)) ∈ lw_all := lw_g (lw_at lw_m4 75 rfl) rfl
theorem q895 : (Jvm.Cond.privateMethod ({ cls := "EightLegs", name := "firstSeen", desc := "()I" } : Jvm.MethodName)) ∈ lw_tbl := lw_at lw_m4 76 rfl
theorem q896 : (Jvm.Cond.instanceMethod ({ cls := "EightLegs", name := "firstSeen", desc := "()I" } : Jvm.MethodName)) ∈ lw_all := lw_g (lw_at lw_m4 77 rfl) rfl
theorem q897 : (Jvm.Cond.code ({ cls := "EightLegs", name := "firstSeen", desc := "()I" } : Jvm.MethodName) prog_1_method_32_code (2 : Nat) (Option.some Jvm.ClassFile.FieldType.int)) ∈ lw_all := lw_g (lw_at lw_m4 78 rfl) rfl
theorem q898 : (Jvm.Cond.methodLink "EightLegs" (275 : Nat) ({ cls := "EightLegs", name := "apartNow", desc := "()I" } : Jvm.MethodName)) ∈ lw_all := lw_g (lw_at lw_m4 79 rfl) rfl
theorem q899 : (Jvm.Cond.privateMethod ({ cls := "EightLegs", name := "apartNow", desc := "()I" } : Jvm.MethodName)) ∈ lw_tbl := lw_at lw_m4 80 rfl
theorem q900 : (Jvm.Cond.instanceMethod ({ cls := "EightLegs", name := "apartNow", desc := "()I" } : Jvm.MethodName)) ∈ lw_all := lw_g (lw_at lw_m4 81 rfl) rfl
theorem q901 : (Jvm.Cond.code ({ cls := "EightLegs", name := "apartNow", desc := "()I" } : Jvm.MethodName) prog_1_method_28_code (4 : Nat) (Option.some Jvm.ClassFile.FieldType.int)) ∈ lw_all := lw_g (lw_at lw_m4 82 rfl) rfl
theorem q902 : (Jvm.Cond.methodLink "EightLegs" (287 : Nat) ({ cls := "EightLegs", name := "worstTwo", desc := "()I" } : Jvm.MethodName)) ∈ lw_all := lw_g (lw_at lw_m4 83 rfl) rfl
theorem q903 : (Jvm.Cond.privateMethod ({ cls := "EightLegs", name := "worstTwo", desc := "()I" } : Jvm.MethodName)) ∈ lw_tbl := lw_at lw_m4 84 rfl
theorem q904 : (Jvm.Cond.instanceMethod ({ cls := "EightLegs", name := "worstTwo", desc := "()I" } : Jvm.MethodName)) ∈ lw_all := lw_g (lw_at lw_m4 85 rfl) rfl
theorem q905 : (Jvm.Cond.code ({ cls := "EightLegs", name := "worstTwo", desc := "()I" } : Jvm.MethodName) prog_1_method_33_code (4 : Nat) (Option.some Jvm.ClassFile.FieldType.int)) ∈ lw_all := lw_g (lw_at lw_m4 86 rfl) rfl
theorem q907 : (Jvm.Cond.instanceMethod ({ cls := "EightLegs", name := "off", desc := "(III)I" } : Jvm.MethodName)) ∈ lw_all := lw_g (lw_at lw_m4 88 rfl) rfl
theorem q908 : (Jvm.Cond.selects "EightLegs" ({ cls := "EightLegs", name := "off", desc := "(III)I" } : Jvm.MethodName) ({ cls := "EightLegs", name := "off", desc := "(III)I" } : Jvm.MethodName)) ∈ lw_all := lw_g (lw_at lw_m4 89 rfl) rfl
theorem q909 : (Jvm.Cond.code ({ cls := "EightLegs", name := "off", desc := "(III)I" } : Jvm.MethodName) prog_1_method_36_code (4 : Nat) (Option.some Jvm.ClassFile.FieldType.int)) ∈ lw_all := lw_g (lw_at lw_m4 90 rfl) rfl
theorem q910 : (Jvm.Cond.methodLink "EightLegs" (290 : Nat) ({ cls := "EightLegs", name := "goCounts", desc := "(I)V" } : Jvm.MethodName)) ∈ lw_all := lw_g (lw_at lw_m4 91 rfl) rfl
theorem q911 : (Jvm.Cond.privateMethod ({ cls := "EightLegs", name := "goCounts", desc := "(I)V" } : Jvm.MethodName)) ∈ lw_tbl := lw_at lw_m4 92 rfl
theorem q912 : (Jvm.Cond.instanceMethod ({ cls := "EightLegs", name := "goCounts", desc := "(I)V" } : Jvm.MethodName)) ∈ lw_all := lw_g (lw_at lw_m4 93 rfl) rfl
theorem q913 : (Jvm.Cond.code ({ cls := "EightLegs", name := "goCounts", desc := "(I)V" } : Jvm.MethodName) prog_1_method_35_code (3 : Nat) (Option.none : Option Jvm.ClassFile.FieldType)) ∈ lw_all := lw_g (lw_at lw_m4 94 rfl) rfl
theorem q915 : (Jvm.Cond.instanceMethod ({ cls := "EightLegs", name := "apart", desc := "(III)I" } : Jvm.MethodName)) ∈ lw_all := lw_g (lw_at lw_m4 96 rfl) rfl
theorem q916 : (Jvm.Cond.selects "EightLegs" ({ cls := "EightLegs", name := "apart", desc := "(III)I" } : Jvm.MethodName) ({ cls := "EightLegs", name := "apart", desc := "(III)I" } : Jvm.MethodName)) ∈ lw_all := lw_g (lw_at lw_m4 97 rfl) rfl
theorem q917 : (Jvm.Cond.code ({ cls := "EightLegs", name := "apart", desc := "(III)I" } : Jvm.MethodName) prog_1_method_37_code (5 : Nat) (Option.some Jvm.ClassFile.FieldType.int)) ∈ lw_all := lw_g (lw_at lw_m4 98 rfl) rfl
theorem q918 : (Jvm.Cond.methodLink "EightLegs" (293 : Nat) ({ cls := "EightLegs", name := "firstApart", desc := "()I" } : Jvm.MethodName)) ∈ lw_all := lw_g (lw_at lw_m4 99 rfl) rfl
theorem q919 : (Jvm.Cond.privateMethod ({ cls := "EightLegs", name := "firstApart", desc := "()I" } : Jvm.MethodName)) ∈ lw_tbl := lw_at lw_m4 100 rfl
theorem q920 : (Jvm.Cond.instanceMethod ({ cls := "EightLegs", name := "firstApart", desc := "()I" } : Jvm.MethodName)) ∈ lw_all := lw_g (lw_at lw_m4 101 rfl) rfl
theorem q921 : (Jvm.Cond.code ({ cls := "EightLegs", name := "firstApart", desc := "()I" } : Jvm.MethodName) prog_1_method_29_code (5 : Nat) (Option.some Jvm.ClassFile.FieldType.int)) ∈ lw_all := lw_g (lw_at lw_m4 102 rfl) rfl
theorem q923 : (Jvm.Cond.instanceMethod ({ cls := "EightLegs", name := "gone", desc := "(II)I" } : Jvm.MethodName)) ∈ lw_all := lw_g (lw_at lw_m4 104 rfl) rfl
theorem q924 : (Jvm.Cond.selects "EightLegs" ({ cls := "EightLegs", name := "gone", desc := "(II)I" } : Jvm.MethodName) ({ cls := "EightLegs", name := "gone", desc := "(II)I" } : Jvm.MethodName)) ∈ lw_all := lw_g (lw_at lw_m4 105 rfl) rfl
theorem q925 : (Jvm.Cond.code ({ cls := "EightLegs", name := "gone", desc := "(II)I" } : Jvm.MethodName) prog_1_method_41_code (4 : Nat) (Option.some Jvm.ClassFile.FieldType.int)) ∈ lw_all := lw_g (lw_at lw_m4 106 rfl) rfl
theorem q926 : (Jvm.Cond.methodLink "EightLegs" (305 : Nat) ({ cls := "EightLegs", name := "allGone", desc := "()I" } : Jvm.MethodName)) ∈ lw_all := lw_g (lw_at lw_m4 107 rfl) rfl
theorem q927 : (Jvm.Cond.privateMethod ({ cls := "EightLegs", name := "allGone", desc := "()I" } : Jvm.MethodName)) ∈ lw_tbl := lw_at lw_m4 108 rfl
theorem q928 : (Jvm.Cond.instanceMethod ({ cls := "EightLegs", name := "allGone", desc := "()I" } : Jvm.MethodName)) ∈ lw_all := lw_g (lw_at lw_m4 109 rfl) rfl
theorem q929 : (Jvm.Cond.code ({ cls := "EightLegs", name := "allGone", desc := "()I" } : Jvm.MethodName) prog_1_method_40_code (3 : Nat) (Option.some Jvm.ClassFile.FieldType.int)) ∈ lw_all := lw_g (lw_at lw_m4 110 rfl) rfl
theorem q930 : (Jvm.Cond.methodLink "EightLegs" (302 : Nat) ({ cls := "EightLegs", name := "goneAt", desc := "(I)I" } : Jvm.MethodName)) ∈ lw_all := lw_g (lw_at lw_m4 111 rfl) rfl
theorem q931 : (Jvm.Cond.privateMethod ({ cls := "EightLegs", name := "goneAt", desc := "(I)I" } : Jvm.MethodName)) ∈ lw_tbl := lw_at lw_m4 112 rfl
theorem q932 : (Jvm.Cond.instanceMethod ({ cls := "EightLegs", name := "goneAt", desc := "(I)I" } : Jvm.MethodName)) ∈ lw_all := lw_g (lw_at lw_m4 113 rfl) rfl
theorem q933 : (Jvm.Cond.code ({ cls := "EightLegs", name := "goneAt", desc := "(I)I" } : Jvm.MethodName) prog_1_method_39_code (6 : Nat) (Option.some Jvm.ClassFile.FieldType.int)) ∈ lw_all := lw_g (lw_at lw_m4 114 rfl) rfl
theorem q934 : (Jvm.Cond.methodLink "EightLegs" (299 : Nat) ({ cls := "EightLegs", name := "isBelow", desc := "(I)Z" } : Jvm.MethodName)) ∈ lw_all := lw_g (lw_at lw_m4 115 rfl) rfl
theorem q935 : (Jvm.Cond.static ({ cls := "EightLegs", name := "isBelow", desc := "(I)Z" } : Jvm.MethodName)) ∈ lw_all := lw_g (lw_at lw_m4 116 rfl) rfl
theorem q936 : (Jvm.Cond.code ({ cls := "EightLegs", name := "isBelow", desc := "(I)Z" } : Jvm.MethodName) prog_1_method_38_code (1 : Nat) (Option.some Jvm.ClassFile.FieldType.boolean)) ∈ lw_all := lw_g (lw_at lw_m4 117 rfl) rfl
theorem q938 : (Jvm.Cond.instanceMethod ({ cls := "EightLegs", name := "least", desc := "(II)I" } : Jvm.MethodName)) ∈ lw_all := lw_g (lw_at lw_m4 119 rfl) rfl
theorem q939 : (Jvm.Cond.selects "EightLegs" ({ cls := "EightLegs", name := "least", desc := "(II)I" } : Jvm.MethodName) ({ cls := "EightLegs", name := "least", desc := "(II)I" } : Jvm.MethodName)) ∈ lw_all := lw_g (lw_at lw_m4 120 rfl) rfl
theorem q940 : (Jvm.Cond.code ({ cls := "EightLegs", name := "least", desc := "(II)I" } : Jvm.MethodName) prog_1_method_42_code (4 : Nat) (Option.some Jvm.ClassFile.FieldType.int)) ∈ lw_all := lw_g (lw_at lw_m4 121 rfl) rfl
theorem q942 : (Jvm.Cond.instanceMethod ({ cls := "EightLegs", name := "gasps", desc := "(II)I" } : Jvm.MethodName)) ∈ lw_all := lw_g (lw_at lw_m4 123 rfl) rfl
theorem q943 : (Jvm.Cond.selects "EightLegs" ({ cls := "EightLegs", name := "gasps", desc := "(II)I" } : Jvm.MethodName) ({ cls := "EightLegs", name := "gasps", desc := "(II)I" } : Jvm.MethodName)) ∈ lw_all := lw_g (lw_at lw_m4 124 rfl) rfl
theorem q944 : (Jvm.Cond.code ({ cls := "EightLegs", name := "gasps", desc := "(II)I" } : Jvm.MethodName) prog_1_method_47_code (4 : Nat) (Option.some Jvm.ClassFile.FieldType.int)) ∈ lw_all := lw_g (lw_at lw_m4 125 rfl) rfl
theorem q945 : (Jvm.Cond.methodLink "EightLegs" (330 : Nat) ({ cls := "EightLegs", name := "fewest", desc := "(ZI)I" } : Jvm.MethodName)) ∈ lw_all := lw_g (lw_at lw_m4 126 rfl) rfl
theorem q946 : (Jvm.Cond.privateMethod ({ cls := "EightLegs", name := "fewest", desc := "(ZI)I" } : Jvm.MethodName)) ∈ lw_tbl := lw_at lw_m4 127 rfl
theorem q947 : (Jvm.Cond.instanceMethod ({ cls := "EightLegs", name := "fewest", desc := "(ZI)I" } : Jvm.MethodName)) ∈ lw_all := lw_g (lw_at lw_m4 128 rfl) rfl
theorem q948 : (Jvm.Cond.code ({ cls := "EightLegs", name := "fewest", desc := "(ZI)I" } : Jvm.MethodName) prog_1_method_45_code (4 : Nat) (Option.some Jvm.ClassFile.FieldType.int)) ∈ lw_all := lw_g (lw_at lw_m4 129 rfl) rfl
theorem q949 : (Jvm.Cond.methodLink "EightLegs" (318 : Nat) ({ cls := "EightLegs", name := "choose", desc := "(IIZ)Z" } : Jvm.MethodName)) ∈ lw_all := lw_g (lw_at lw_m4 130 rfl) rfl
theorem q950 : (Jvm.Cond.privateMethod ({ cls := "EightLegs", name := "choose", desc := "(IIZ)Z" } : Jvm.MethodName)) ∈ lw_tbl := lw_at lw_m4 131 rfl
theorem q951 : (Jvm.Cond.instanceMethod ({ cls := "EightLegs", name := "choose", desc := "(IIZ)Z" } : Jvm.MethodName)) ∈ lw_all := lw_g (lw_at lw_m4 132 rfl) rfl
theorem q952 : (Jvm.Cond.code ({ cls := "EightLegs", name := "choose", desc := "(IIZ)Z" } : Jvm.MethodName) prog_1_method_44_code (7 : Nat) (Option.some Jvm.ClassFile.FieldType.boolean)) ∈ lw_all := lw_g (lw_at lw_m4 133 rfl) rfl
theorem q953 : (Jvm.Cond.methodLink "EightLegs" (308 : Nat) ({ cls := "EightLegs", name := "isEnough", desc := "(Z)Z" } : Jvm.MethodName)) ∈ lw_all := lw_g (lw_at lw_m4 134 rfl) rfl
theorem q954 : (Jvm.Cond.privateMethod ({ cls := "EightLegs", name := "isEnough", desc := "(Z)Z" } : Jvm.MethodName)) ∈ lw_tbl := lw_at lw_m4 135 rfl
theorem q955 : (Jvm.Cond.instanceMethod ({ cls := "EightLegs", name := "isEnough", desc := "(Z)Z" } : Jvm.MethodName)) ∈ lw_all := lw_g (lw_at lw_m4 136 rfl) rfl
theorem q956 : (Jvm.Cond.code ({ cls := "EightLegs", name := "isEnough", desc := "(Z)Z" } : Jvm.MethodName) prog_1_method_43_code (2 : Nat) (Option.some Jvm.ClassFile.FieldType.boolean)) ∈ lw_all := lw_g (lw_at lw_m4 137 rfl) rfl
theorem q957 : (Jvm.Cond.methodLink "EightLegs" (315 : Nat) ({ cls := "EightLegs", name := "has", desc := "(II)Z" } : Jvm.MethodName)) ∈ lw_all := lw_g (lw_at lw_m4 138 rfl) rfl
theorem q958 : (Jvm.Cond.static ({ cls := "EightLegs", name := "has", desc := "(II)Z" } : Jvm.MethodName)) ∈ lw_all := lw_g (lw_at lw_m4 139 rfl) rfl
theorem q959 : (Jvm.Cond.code ({ cls := "EightLegs", name := "has", desc := "(II)Z" } : Jvm.MethodName) prog_1_method_3_code (2 : Nat) (Option.some Jvm.ClassFile.FieldType.boolean)) ∈ lw_all := lw_g (lw_at lw_m4 140 rfl) rfl
theorem q960 : (Jvm.Cond.methodLink "EightLegs" (322 : Nat) ({ cls := "EightLegs", name := "bitAt", desc := "(II)I" } : Jvm.MethodName)) ∈ lw_all := lw_g (lw_at lw_m4 141 rfl) rfl
theorem q961 : (Jvm.Cond.static ({ cls := "EightLegs", name := "bitAt", desc := "(II)I" } : Jvm.MethodName)) ∈ lw_all := lw_g (lw_at lw_m4 142 rfl) rfl
theorem q962 : (Jvm.Cond.code ({ cls := "EightLegs", name := "bitAt", desc := "(II)I" } : Jvm.MethodName) prog_1_method_46_code (4 : Nat) (Option.some Jvm.ClassFile.FieldType.int)) ∈ lw_all := lw_g (lw_at lw_m4 143 rfl) rfl
theorem q963 : (Jvm.Cond.methodLink "EightLegs" (325 : Nat) ({ cls := "java/lang/Integer", name := "numberOfTrailingZeros", desc := "(I)I" } : Jvm.MethodName)) ∈ lw_all := lw_g (lw_at lw_m4 144 rfl) rfl
theorem q968 : (Jvm.Cond.instanceMethod ({ cls := "EightLegs", name := "looks", desc := "(II)I" } : Jvm.MethodName)) ∈ lw_all := lw_g (lw_at lw_m4 149 rfl) rfl
theorem q969 : (Jvm.Cond.selects "EightLegs" ({ cls := "EightLegs", name := "looks", desc := "(II)I" } : Jvm.MethodName) ({ cls := "EightLegs", name := "looks", desc := "(II)I" } : Jvm.MethodName)) ∈ lw_all := lw_g (lw_at lw_m4 150 rfl) rfl
theorem q970 : (Jvm.Cond.code ({ cls := "EightLegs", name := "looks", desc := "(II)I" } : Jvm.MethodName) prog_1_method_48_code (4 : Nat) (Option.some Jvm.ClassFile.FieldType.int)) ∈ lw_all := lw_g (lw_at lw_m4 151 rfl) rfl
theorem q972 : (Jvm.Cond.instanceMethod ({ cls := "EightLegs", name := "whose", desc := "(II)I" } : Jvm.MethodName)) ∈ lw_all := lw_g (lw_at lw_m4 153 rfl) rfl
theorem q973 : (Jvm.Cond.selects "EightLegs" ({ cls := "EightLegs", name := "whose", desc := "(II)I" } : Jvm.MethodName) ({ cls := "EightLegs", name := "whose", desc := "(II)I" } : Jvm.MethodName)) ∈ lw_all := lw_g (lw_at lw_m4 154 rfl) rfl
theorem q974 : (Jvm.Cond.code ({ cls := "EightLegs", name := "whose", desc := "(II)I" } : Jvm.MethodName) prog_1_method_49_code (9 : Nat) (Option.some Jvm.ClassFile.FieldType.int)) ∈ lw_all := lw_g (lw_at lw_m4 155 rfl) rfl
theorem q976 : (Jvm.Cond.instanceMethod ({ cls := "EightLegs", name := "first", desc := "(II)I" } : Jvm.MethodName)) ∈ lw_all := lw_g (lw_at lw_m4 157 rfl) rfl
theorem q977 : (Jvm.Cond.selects "EightLegs" ({ cls := "EightLegs", name := "first", desc := "(II)I" } : Jvm.MethodName) ({ cls := "EightLegs", name := "first", desc := "(II)I" } : Jvm.MethodName)) ∈ lw_all := lw_g (lw_at lw_m4 158 rfl) rfl
theorem q978 : (Jvm.Cond.code ({ cls := "EightLegs", name := "first", desc := "(II)I" } : Jvm.MethodName) prog_1_method_50_code (9 : Nat) (Option.some Jvm.ClassFile.FieldType.int)) ∈ lw_all := lw_g (lw_at lw_m4 159 rfl) rfl
theorem q980 : (Jvm.Cond.instanceMethod ({ cls := "EightLegs", name := "slip", desc := "(III)I" } : Jvm.MethodName)) ∈ lw_all := lw_g (lw_at lw_m4 161 rfl) rfl
theorem q981 : (Jvm.Cond.selects "EightLegs" ({ cls := "EightLegs", name := "slip", desc := "(III)I" } : Jvm.MethodName) ({ cls := "EightLegs", name := "slip", desc := "(III)I" } : Jvm.MethodName)) ∈ lw_all := lw_g (lw_at lw_m4 162 rfl) rfl
theorem q982 : (Jvm.Cond.code ({ cls := "EightLegs", name := "slip", desc := "(III)I" } : Jvm.MethodName) prog_1_method_51_code (6 : Nat) (Option.some Jvm.ClassFile.FieldType.int)) ∈ lw_all := lw_g (lw_at lw_m4 163 rfl) rfl
theorem q984 : (Jvm.Cond.instanceMethod ({ cls := "EightLegs", name := "line", desc := "(II)I" } : Jvm.MethodName)) ∈ lw_all := lw_g (lw_at lw_m4 165 rfl) rfl
theorem q985 : (Jvm.Cond.selects "EightLegs" ({ cls := "EightLegs", name := "line", desc := "(II)I" } : Jvm.MethodName) ({ cls := "EightLegs", name := "line", desc := "(II)I" } : Jvm.MethodName)) ∈ lw_all := lw_g (lw_at lw_m4 166 rfl) rfl
theorem q986 : (Jvm.Cond.code ({ cls := "EightLegs", name := "line", desc := "(II)I" } : Jvm.MethodName) prog_1_method_54_code (3 : Nat) (Option.some Jvm.ClassFile.FieldType.int)) ∈ lw_all := lw_g (lw_at lw_m4 167 rfl) rfl
theorem q987 : (Jvm.Cond.methodLink "EightLegs" (340 : Nat) ({ cls := "EightLegs", name := "goOrders", desc := "(III)V" } : Jvm.MethodName)) ∈ lw_all := lw_g (lw_at lw_m4 168 rfl) rfl
theorem q988 : (Jvm.Cond.privateMethod ({ cls := "EightLegs", name := "goOrders", desc := "(III)V" } : Jvm.MethodName)) ∈ lw_tbl := lw_at lw_m4 169 rfl
theorem q989 : (Jvm.Cond.instanceMethod ({ cls := "EightLegs", name := "goOrders", desc := "(III)V" } : Jvm.MethodName)) ∈ lw_all := lw_g (lw_at lw_m4 170 rfl) rfl
theorem q990 : (Jvm.Cond.code ({ cls := "EightLegs", name := "goOrders", desc := "(III)V" } : Jvm.MethodName) prog_1_method_53_code (5 : Nat) (Option.none : Option Jvm.ClassFile.FieldType)) ∈ lw_all := lw_g (lw_at lw_m4 171 rfl) rfl
theorem q991 : (Jvm.Cond.methodLink "EightLegs" (337 : Nat) ({ cls := "EightLegs", name := "meetsOrder", desc := "(I)V" } : Jvm.MethodName)) ∈ lw_all := lw_g (lw_at lw_m4 172 rfl) rfl
theorem q992 : (Jvm.Cond.privateMethod ({ cls := "EightLegs", name := "meetsOrder", desc := "(I)V" } : Jvm.MethodName)) ∈ lw_tbl := lw_at lw_m4 173 rfl
theorem q993 : (Jvm.Cond.instanceMethod ({ cls := "EightLegs", name := "meetsOrder", desc := "(I)V" } : Jvm.MethodName)) ∈ lw_all := lw_g (lw_at lw_m4 174 rfl) rfl
theorem q994 : (Jvm.Cond.code ({ cls := "EightLegs", name := "meetsOrder", desc := "(I)V" } : Jvm.MethodName) prog_1_method_52_code (6 : Nat) (Option.none : Option Jvm.ClassFile.FieldType)) ∈ lw_all := lw_g (lw_at lw_m4 175 rfl) rfl
theorem q996 : (Jvm.Cond.instanceMethod ({ cls := "EightLegs", name := "lift", desc := "(I)I" } : Jvm.MethodName)) ∈ lw_all := lw_g (lw_at lw_m4 177 rfl) rfl
theorem q997 : (Jvm.Cond.selects "EightLegs" ({ cls := "EightLegs", name := "lift", desc := "(I)I" } : Jvm.MethodName) ({ cls := "EightLegs", name := "lift", desc := "(I)I" } : Jvm.MethodName)) ∈ lw_all := lw_g (lw_at lw_m4 178 rfl) rfl
theorem q998 : (Jvm.Cond.code ({ cls := "EightLegs", name := "lift", desc := "(I)I" } : Jvm.MethodName) prog_1_method_56_code (8 : Nat) (Option.some Jvm.ClassFile.FieldType.int)) ∈ lw_all := lw_g (lw_at lw_m4 179 rfl) rfl
theorem q999 : (Jvm.Cond.methodLink "EightLegs" (343 : Nat) ({ cls := "java/lang/Integer", name := "bitCount", desc := "(I)I" } : Jvm.MethodName)) ∈ lw_all := lw_g (lw_at lw_m4 180 rfl) rfl
theorem q1005 : (Jvm.Cond.methodLink "EightLegs" (346 : Nat) ({ cls := "EightLegs", name := "tallOf", desc := "(I)I" } : Jvm.MethodName)) ∈ lw_all := lw_g (lw_at lw_m4 186 rfl) rfl
theorem q1006 : (Jvm.Cond.privateMethod ({ cls := "EightLegs", name := "tallOf", desc := "(I)I" } : Jvm.MethodName)) ∈ lw_tbl := lw_at lw_m4 187 rfl
theorem q1007 : (Jvm.Cond.instanceMethod ({ cls := "EightLegs", name := "tallOf", desc := "(I)I" } : Jvm.MethodName)) ∈ lw_all := lw_g (lw_at lw_m4 188 rfl) rfl
theorem q1008 : (Jvm.Cond.code ({ cls := "EightLegs", name := "tallOf", desc := "(I)I" } : Jvm.MethodName) prog_1_method_55_code (4 : Nat) (Option.some Jvm.ClassFile.FieldType.int)) ∈ lw_all := lw_g (lw_at lw_m4 189 rfl) rfl
theorem q1010 : (Jvm.Cond.instanceMethod ({ cls := "EightLegs", name := "star", desc := "(I)I" } : Jvm.MethodName)) ∈ lw_all := lw_g (lw_at lw_m4 191 rfl) rfl
theorem q1011 : (Jvm.Cond.selects "EightLegs" ({ cls := "EightLegs", name := "star", desc := "(I)I" } : Jvm.MethodName) ({ cls := "EightLegs", name := "star", desc := "(I)I" } : Jvm.MethodName)) ∈ lw_all := lw_g (lw_at lw_m4 192 rfl) rfl
theorem q1012 : (Jvm.Cond.code ({ cls := "EightLegs", name := "star", desc := "(I)I" } : Jvm.MethodName) prog_1_method_60_code (2 : Nat) (Option.some Jvm.ClassFile.FieldType.int)) ∈ lw_all := lw_g (lw_at lw_m4 193 rfl) rfl
theorem q1013 : (Jvm.Cond.methodLink "EightLegs" (352 : Nat) ({ cls := "EightLegs", name := "sideOf", desc := "(Z)I" } : Jvm.MethodName)) ∈ lw_all := lw_g (lw_at lw_m4 194 rfl) rfl
theorem q1014 : (Jvm.Cond.privateMethod ({ cls := "EightLegs", name := "sideOf", desc := "(Z)I" } : Jvm.MethodName)) ∈ lw_tbl := lw_at lw_m4 195 rfl
theorem q1015 : (Jvm.Cond.instanceMethod ({ cls := "EightLegs", name := "sideOf", desc := "(Z)I" } : Jvm.MethodName)) ∈ lw_all := lw_g (lw_at lw_m4 196 rfl) rfl
theorem q1016 : (Jvm.Cond.code ({ cls := "EightLegs", name := "sideOf", desc := "(Z)I" } : Jvm.MethodName) prog_1_method_57_code (6 : Nat) (Option.some Jvm.ClassFile.FieldType.int)) ∈ lw_all := lw_g (lw_at lw_m4 197 rfl) rfl
theorem q1017 : (Jvm.Cond.methodLink "EightLegs" (356 : Nat) ({ cls := "EightLegs", name := "onOne", desc := "()I" } : Jvm.MethodName)) ∈ lw_all := lw_g (lw_at lw_m4 198 rfl) rfl
theorem q1018 : (Jvm.Cond.privateMethod ({ cls := "EightLegs", name := "onOne", desc := "()I" } : Jvm.MethodName)) ∈ lw_tbl := lw_at lw_m4 199 rfl
theorem q1019 : (Jvm.Cond.instanceMethod ({ cls := "EightLegs", name := "onOne", desc := "()I" } : Jvm.MethodName)) ∈ lw_all := lw_g (lw_at lw_m4 200 rfl) rfl
theorem q1020 : (Jvm.Cond.code ({ cls := "EightLegs", name := "onOne", desc := "()I" } : Jvm.MethodName) prog_1_method_58_code (4 : Nat) (Option.some Jvm.ClassFile.FieldType.int)) ∈ lw_all := lw_g (lw_at lw_m4 201 rfl) rfl
theorem q1021 : (Jvm.Cond.methodLink "EightLegs" (349 : Nat) ({ cls := "EightLegs$Swimmer", name := "isOn", desc := "(II)Z" } : Jvm.MethodName)) ∈ lw_all := lw_g (lw_at lw_m4 202 rfl) rfl
theorem q1025 : (Jvm.Cond.methodLink "EightLegs" (359 : Nat) ({ cls := "EightLegs", name := "isMirrored", desc := "()Z" } : Jvm.MethodName)) ∈ lw_all := lw_g (lw_at lw_m4 206 rfl) rfl
theorem q1026 : (Jvm.Cond.privateMethod ({ cls := "EightLegs", name := "isMirrored", desc := "()Z" } : Jvm.MethodName)) ∈ lw_tbl := lw_at lw_m4 207 rfl
theorem q1027 : (Jvm.Cond.instanceMethod ({ cls := "EightLegs", name := "isMirrored", desc := "()Z" } : Jvm.MethodName)) ∈ lw_all := lw_g (lw_at lw_m4 208 rfl) rfl
theorem q1028 : (Jvm.Cond.code ({ cls := "EightLegs", name := "isMirrored", desc := "()Z" } : Jvm.MethodName) prog_1_method_59_code (4 : Nat) (Option.some Jvm.ClassFile.FieldType.boolean)) ∈ lw_all := lw_g (lw_at lw_m4 209 rfl) rfl
theorem q1030 : (Jvm.Cond.instanceMethod ({ cls := "EightLegs", name := "judge", desc := "(I)I" } : Jvm.MethodName)) ∈ lw_all := lw_g (lw_at lw_m4 211 rfl) rfl
theorem q1031 : (Jvm.Cond.selects "EightLegs" ({ cls := "EightLegs", name := "judge", desc := "(I)I" } : Jvm.MethodName) ({ cls := "EightLegs", name := "judge", desc := "(I)I" } : Jvm.MethodName)) ∈ lw_all := lw_g (lw_at lw_m4 212 rfl) rfl
theorem q1032 : (Jvm.Cond.code ({ cls := "EightLegs", name := "judge", desc := "(I)I" } : Jvm.MethodName) prog_1_method_65_code (3 : Nat) (Option.some Jvm.ClassFile.FieldType.int)) ∈ lw_all := lw_g (lw_at lw_m4 213 rfl) rfl
theorem q1033 : (Jvm.Cond.methodLink "EightLegs" (373 : Nat) ({ cls := "EightLegs", name := "areShelves", desc := "(I)Z" } : Jvm.MethodName)) ∈ lw_all := lw_g (lw_at lw_m4 214 rfl) rfl
theorem q1034 : (Jvm.Cond.static ({ cls := "EightLegs", name := "areShelves", desc := "(I)Z" } : Jvm.MethodName)) ∈ lw_all := lw_g (lw_at lw_m4 215 rfl) rfl
theorem q1035 : (Jvm.Cond.code ({ cls := "EightLegs", name := "areShelves", desc := "(I)Z" } : Jvm.MethodName) prog_1_method_63_code (1 : Nat) (Option.some Jvm.ClassFile.FieldType.boolean)) ∈ lw_all := lw_g (lw_at lw_m4 216 rfl) rfl
theorem q1036 : (Jvm.Cond.methodLink "EightLegs" (376 : Nat) ({ cls := "EightLegs", name := "layBoth", desc := "(I)I" } : Jvm.MethodName)) ∈ lw_all := lw_g (lw_at lw_m4 217 rfl) rfl
theorem q1037 : (Jvm.Cond.privateMethod ({ cls := "EightLegs", name := "layBoth", desc := "(I)I" } : Jvm.MethodName)) ∈ lw_tbl := lw_at lw_m4 218 rfl
theorem q1038 : (Jvm.Cond.instanceMethod ({ cls := "EightLegs", name := "layBoth", desc := "(I)I" } : Jvm.MethodName)) ∈ lw_all := lw_g (lw_at lw_m4 219 rfl) rfl
theorem q1039 : (Jvm.Cond.code ({ cls := "EightLegs", name := "layBoth", desc := "(I)I" } : Jvm.MethodName) prog_1_method_62_code (4 : Nat) (Option.some Jvm.ClassFile.FieldType.int)) ∈ lw_all := lw_g (lw_at lw_m4 220 rfl) rfl
theorem q1040 : (Jvm.Cond.methodLink "EightLegs" (370 : Nat) ({ cls := "EightLegs", name := "layTold", desc := "(I)I" } : Jvm.MethodName)) ∈ lw_all := lw_g (lw_at lw_m4 221 rfl) rfl
theorem q1041 : (Jvm.Cond.privateMethod ({ cls := "EightLegs", name := "layTold", desc := "(I)I" } : Jvm.MethodName)) ∈ lw_tbl := lw_at lw_m4 222 rfl
theorem q1042 : (Jvm.Cond.instanceMethod ({ cls := "EightLegs", name := "layTold", desc := "(I)I" } : Jvm.MethodName)) ∈ lw_all := lw_g (lw_at lw_m4 223 rfl) rfl
theorem q1043 : (Jvm.Cond.codeWith ({ cls := "EightLegs", name := "layTold", desc := "(I)I" } : Jvm.MethodName) prog_1_method_61_code (4 : Nat) (Option.some Jvm.ClassFile.FieldType.int) [((5 : Nat), (53 : Nat), (56 : Nat), (109 : Nat)), ((5 : Nat), (53 : Nat), (60 : Nat), (111 : Nat))]) ∈ lw_all := lw_g (lw_at lw_m4 224 rfl) rfl
theorem q1044 : (Jvm.Cond.classLink "EightLegs" (366 : Nat) "EightLegs$ShortRow") ∈ lw_all := lw_g (lw_at lw_m4 225 rfl) rfl
theorem q1045 : (Jvm.Cond.methodLink "EightLegs" (368 : Nat) ({ cls := "EightLegs$ShortRow", name := "size", desc := "()I" } : Jvm.MethodName)) ∈ lw_all := lw_g (lw_at lw_m4 226 rfl) rfl
theorem q1049 : (Jvm.Cond.methodLink "EightLegs" (369 : Nat) ({ cls := "EightLegs$ShortRow", name := "at", desc := "(I)J" } : Jvm.MethodName)) ∈ lw_all := lw_g (lw_at lw_m4 230 rfl) rfl
theorem q1053 : (Jvm.Cond.methodLink "EightLegs" (379 : Nat) ({ cls := "EightLegs", name := "wrongAt", desc := "()I" } : Jvm.MethodName)) ∈ lw_all := lw_g (lw_at lw_m4 234 rfl) rfl
theorem q1054 : (Jvm.Cond.privateMethod ({ cls := "EightLegs", name := "wrongAt", desc := "()I" } : Jvm.MethodName)) ∈ lw_tbl := lw_at lw_m4 235 rfl
theorem q1055 : (Jvm.Cond.instanceMethod ({ cls := "EightLegs", name := "wrongAt", desc := "()I" } : Jvm.MethodName)) ∈ lw_all := lw_g (lw_at lw_m4 236 rfl) rfl
theorem q1056 : (Jvm.Cond.code ({ cls := "EightLegs", name := "wrongAt", desc := "()I" } : Jvm.MethodName) prog_1_method_64_code (2 : Nat) (Option.some Jvm.ClassFile.FieldType.int)) ∈ lw_all := lw_g (lw_at lw_m4 237 rfl) rfl
theorem q1058 : (Jvm.Cond.instanceMethod ({ cls := "EightLegs", name := "whoLed", desc := "(I)I" } : Jvm.MethodName)) ∈ lw_all := lw_g (lw_at lw_m4 239 rfl) rfl
theorem q1059 : (Jvm.Cond.selects "EightLegs" ({ cls := "EightLegs", name := "whoLed", desc := "(I)I" } : Jvm.MethodName) ({ cls := "EightLegs", name := "whoLed", desc := "(I)I" } : Jvm.MethodName)) ∈ lw_all := lw_g (lw_at lw_m5 0 rfl) rfl
theorem q1060 : (Jvm.Cond.code ({ cls := "EightLegs", name := "whoLed", desc := "(I)I" } : Jvm.MethodName) prog_1_method_66_code (6 : Nat) (Option.some Jvm.ClassFile.FieldType.int)) ∈ lw_all := lw_g (lw_at lw_m5 1 rfl) rfl
theorem q1062 : (Jvm.Cond.instanceMethod ({ cls := "EightLegs", name := "later", desc := "(II)I" } : Jvm.MethodName)) ∈ lw_all := lw_g (lw_at lw_m5 3 rfl) rfl
theorem q1063 : (Jvm.Cond.selects "EightLegs" ({ cls := "EightLegs", name := "later", desc := "(II)I" } : Jvm.MethodName) ({ cls := "EightLegs", name := "later", desc := "(II)I" } : Jvm.MethodName)) ∈ lw_all := lw_g (lw_at lw_m5 4 rfl) rfl
theorem q1064 : (Jvm.Cond.code ({ cls := "EightLegs", name := "later", desc := "(II)I" } : Jvm.MethodName) prog_1_method_67_code (7 : Nat) (Option.some Jvm.ClassFile.FieldType.int)) ∈ lw_all := lw_g (lw_at lw_m5 5 rfl) rfl
theorem q1066 : (Jvm.Cond.instanceMethod ({ cls := "EightLegs", name := "quicker", desc := "(II)I" } : Jvm.MethodName)) ∈ lw_all := lw_g (lw_at lw_m5 7 rfl) rfl
theorem q1067 : (Jvm.Cond.selects "EightLegs" ({ cls := "EightLegs", name := "quicker", desc := "(II)I" } : Jvm.MethodName) ({ cls := "EightLegs", name := "quicker", desc := "(II)I" } : Jvm.MethodName)) ∈ lw_all := lw_g (lw_at lw_m5 8 rfl) rfl
theorem q1068 : (Jvm.Cond.code ({ cls := "EightLegs", name := "quicker", desc := "(II)I" } : Jvm.MethodName) prog_1_method_68_code (7 : Nat) (Option.some Jvm.ClassFile.FieldType.int)) ∈ lw_all := lw_g (lw_at lw_m5 9 rfl) rfl
theorem q1070 : (Jvm.Cond.instanceMethod ({ cls := "EightLegs", name := "drawn", desc := "(IIII)I" } : Jvm.MethodName)) ∈ lw_all := lw_g (lw_at lw_m5 11 rfl) rfl
theorem q1071 : (Jvm.Cond.selects "EightLegs" ({ cls := "EightLegs", name := "drawn", desc := "(IIII)I" } : Jvm.MethodName) ({ cls := "EightLegs", name := "drawn", desc := "(IIII)I" } : Jvm.MethodName)) ∈ lw_all := lw_g (lw_at lw_m5 12 rfl) rfl
theorem q1072 : (Jvm.Cond.code ({ cls := "EightLegs", name := "drawn", desc := "(IIII)I" } : Jvm.MethodName) prog_1_method_69_code (13 : Nat) (Option.some Jvm.ClassFile.FieldType.int)) ∈ lw_all := lw_g (lw_at lw_m5 13 rfl) rfl
theorem q1073 : (Jvm.Cond.constant "EightLegs" (382 : Nat) (1103515245 : Int32)) ∈ lw_all := lw_g (lw_at lw_m5 14 rfl) rfl
theorem q1075 : (Jvm.Cond.instanceMethod ({ cls := "EightLegs", name := "swim", desc := "(I)I" } : Jvm.MethodName)) ∈ lw_all := lw_g (lw_at lw_m5 16 rfl) rfl
theorem q1076 : (Jvm.Cond.selects "EightLegs" ({ cls := "EightLegs", name := "swim", desc := "(I)I" } : Jvm.MethodName) ({ cls := "EightLegs", name := "swim", desc := "(I)I" } : Jvm.MethodName)) ∈ lw_all := lw_g (lw_at lw_m5 17 rfl) rfl
theorem q1077 : (Jvm.Cond.code ({ cls := "EightLegs", name := "swim", desc := "(I)I" } : Jvm.MethodName) prog_1_method_71_code (7 : Nat) (Option.some Jvm.ClassFile.FieldType.int)) ∈ lw_all := lw_g (lw_at lw_m5 18 rfl) rfl
theorem q1078 : (Jvm.Cond.methodLink "EightLegs" (392 : Nat) ({ cls := "EightLegs", name := "underMany", desc := "()I" } : Jvm.MethodName)) ∈ lw_all := lw_g (lw_at lw_m5 19 rfl) rfl
theorem q1079 : (Jvm.Cond.privateMethod ({ cls := "EightLegs", name := "underMany", desc := "()I" } : Jvm.MethodName)) ∈ lw_tbl := lw_at lw_m5 20 rfl
theorem q1080 : (Jvm.Cond.instanceMethod ({ cls := "EightLegs", name := "underMany", desc := "()I" } : Jvm.MethodName)) ∈ lw_all := lw_g (lw_at lw_m5 21 rfl) rfl
theorem q1081 : (Jvm.Cond.code ({ cls := "EightLegs", name := "underMany", desc := "()I" } : Jvm.MethodName) prog_1_method_70_code (3 : Nat) (Option.some Jvm.ClassFile.FieldType.int)) ∈ lw_all := lw_g (lw_at lw_m5 22 rfl) rfl
theorem q1083 : (Jvm.Cond.instanceMethod ({ cls := "EightLegs", name := "led", desc := "(I)I" } : Jvm.MethodName)) ∈ lw_all := lw_g (lw_at lw_m5 24 rfl) rfl
theorem q1084 : (Jvm.Cond.selects "EightLegs" ({ cls := "EightLegs", name := "led", desc := "(I)I" } : Jvm.MethodName) ({ cls := "EightLegs", name := "led", desc := "(I)I" } : Jvm.MethodName)) ∈ lw_all := lw_g (lw_at lw_m5 25 rfl) rfl
theorem q1085 : (Jvm.Cond.code ({ cls := "EightLegs", name := "led", desc := "(I)I" } : Jvm.MethodName) prog_1_method_72_code (2 : Nat) (Option.some Jvm.ClassFile.FieldType.int)) ∈ lw_all := lw_g (lw_at lw_m5 26 rfl) rfl
theorem q1087 : (Jvm.Cond.instanceMethod ({ cls := "EightLegs", name := "image", desc := "()I" } : Jvm.MethodName)) ∈ lw_all := lw_g (lw_at lw_m5 28 rfl) rfl
theorem q1088 : (Jvm.Cond.selects "EightLegs" ({ cls := "EightLegs", name := "image", desc := "()I" } : Jvm.MethodName) ({ cls := "EightLegs", name := "image", desc := "()I" } : Jvm.MethodName)) ∈ lw_all := lw_g (lw_at lw_m5 29 rfl) rfl
theorem q1089 : (Jvm.Cond.code ({ cls := "EightLegs", name := "image", desc := "()I" } : Jvm.MethodName) prog_1_method_73_code (2 : Nat) (Option.some Jvm.ClassFile.FieldType.int)) ∈ lw_all := lw_g (lw_at lw_m5 30 rfl) rfl
theorem q1091 : (Jvm.Cond.instanceMethod ({ cls := "EightLegs", name := "back", desc := "()I" } : Jvm.MethodName)) ∈ lw_all := lw_g (lw_at lw_m5 32 rfl) rfl
theorem q1092 : (Jvm.Cond.selects "EightLegs" ({ cls := "EightLegs", name := "back", desc := "()I" } : Jvm.MethodName) ({ cls := "EightLegs", name := "back", desc := "()I" } : Jvm.MethodName)) ∈ lw_all := lw_g (lw_at lw_m5 33 rfl) rfl
theorem q1093 : (Jvm.Cond.code ({ cls := "EightLegs", name := "back", desc := "()I" } : Jvm.MethodName) prog_1_method_74_code (2 : Nat) (Option.some Jvm.ClassFile.FieldType.int)) ∈ lw_all := lw_g (lw_at lw_m5 34 rfl) rfl
theorem q1095 : (Jvm.Cond.instanceMethod ({ cls := "EightLegs", name := "body", desc := "(I)I" } : Jvm.MethodName)) ∈ lw_all := lw_g (lw_at lw_m5 36 rfl) rfl
theorem q1096 : (Jvm.Cond.selects "EightLegs" ({ cls := "EightLegs", name := "body", desc := "(I)I" } : Jvm.MethodName) ({ cls := "EightLegs", name := "body", desc := "(I)I" } : Jvm.MethodName)) ∈ lw_all := lw_g (lw_at lw_m5 37 rfl) rfl
theorem q1097 : (Jvm.Cond.code ({ cls := "EightLegs", name := "body", desc := "(I)I" } : Jvm.MethodName) prog_1_method_78_code (2 : Nat) (Option.some Jvm.ClassFile.FieldType.int)) ∈ lw_all := lw_g (lw_at lw_m5 38 rfl) rfl
theorem q1098 : (Jvm.Cond.methodLink "EightLegs" (453 : Nat) ({ cls := "EightLegs", name := "made", desc := "(I)LEightLegs$Beat;" } : Jvm.MethodName)) ∈ lw_all := lw_g (lw_at lw_m5 39 rfl) rfl
theorem q1099 : (Jvm.Cond.privateMethod ({ cls := "EightLegs", name := "made", desc := "(I)LEightLegs$Beat;" } : Jvm.MethodName)) ∈ lw_tbl := lw_at lw_m5 40 rfl
theorem q1100 : (Jvm.Cond.instanceMethod ({ cls := "EightLegs", name := "made", desc := "(I)LEightLegs$Beat;" } : Jvm.MethodName)) ∈ lw_all := lw_g (lw_at lw_m5 41 rfl) rfl
theorem q1101 : (Jvm.Cond.code ({ cls := "EightLegs", name := "made", desc := "(I)LEightLegs$Beat;" } : Jvm.MethodName) prog_1_method_77_code (2 : Nat) (Option.some (Jvm.ClassFile.FieldType.object "EightLegs$Beat"))) ∈ lw_all := lw_g (lw_at lw_m5 42 rfl) rfl
theorem q1102 : (Jvm.Cond.classLink "EightLegs" (429 : Nat) "EightLegs$Legs") ∈ lw_all := lw_g (lw_at lw_m5 43 rfl) rfl
theorem q1104 : (Jvm.Cond.methodLink "EightLegs" (431 : Nat) ({ cls := "EightLegs$Legs", name := "<init>", desc := "(LEightLegs;I)V" } : Jvm.MethodName)) ∈ lw_all := lw_g (lw_at lw_m5 45 rfl) rfl
theorem q1124 : (Jvm.Cond.classLink "EightLegs" (434 : Nat) "EightLegs$Breath") ∈ lw_all := lw_g (lw_at lw_m5 65 rfl) rfl
theorem q1126 : (Jvm.Cond.methodLink "EightLegs" (436 : Nat) ({ cls := "EightLegs$Breath", name := "<init>", desc := "(LEightLegs;I)V" } : Jvm.MethodName)) ∈ lw_all := lw_g (lw_at lw_m5 67 rfl) rfl
theorem q1136 : (Jvm.Cond.classLink "EightLegs" (437 : Nat) "EightLegs$Smile") ∈ lw_all := lw_g (lw_at lw_m5 77 rfl) rfl
theorem q1138 : (Jvm.Cond.methodLink "EightLegs" (439 : Nat) ({ cls := "EightLegs$Smile", name := "<init>", desc := "(LEightLegs;I)V" } : Jvm.MethodName)) ∈ lw_all := lw_g (lw_at lw_m5 79 rfl) rfl
theorem q1149 : (Jvm.Cond.classLink "EightLegs" (440 : Nat) "EightLegs$Lift") ∈ lw_all := lw_g (lw_at lw_m5 90 rfl) rfl
theorem q1151 : (Jvm.Cond.methodLink "EightLegs" (442 : Nat) ({ cls := "EightLegs$Lift", name := "<init>", desc := "(LEightLegs;I)V" } : Jvm.MethodName)) ∈ lw_all := lw_g (lw_at lw_m5 92 rfl) rfl
theorem q1162 : (Jvm.Cond.classLink "EightLegs" (443 : Nat) "EightLegs$Star") ∈ lw_all := lw_g (lw_at lw_m5 103 rfl) rfl
theorem q1164 : (Jvm.Cond.methodLink "EightLegs" (445 : Nat) ({ cls := "EightLegs$Star", name := "<init>", desc := "(LEightLegs;I)V" } : Jvm.MethodName)) ∈ lw_all := lw_g (lw_at lw_m5 105 rfl) rfl
theorem q1176 : (Jvm.Cond.classLink "EightLegs" (446 : Nat) "EightLegs$Echo") ∈ lw_all := lw_g (lw_at lw_m5 117 rfl) rfl
theorem q1178 : (Jvm.Cond.methodLink "EightLegs" (448 : Nat) ({ cls := "EightLegs$Echo", name := "<init>", desc := "(LEightLegs;I)V" } : Jvm.MethodName)) ∈ lw_all := lw_g (lw_at lw_m5 119 rfl) rfl
theorem q1188 : (Jvm.Cond.classLink "EightLegs" (449 : Nat) "EightLegs$Judge") ∈ lw_all := lw_g (lw_at lw_m5 129 rfl) rfl
theorem q1190 : (Jvm.Cond.methodLink "EightLegs" (451 : Nat) ({ cls := "EightLegs$Judge", name := "<init>", desc := "(LEightLegs;I)V" } : Jvm.MethodName)) ∈ lw_all := lw_g (lw_at lw_m5 131 rfl) rfl
theorem q1203 : (Jvm.Cond.methodLink "EightLegs" (452 : Nat) ({ cls := "EightLegs$Beat", name := "<init>", desc := "(LEightLegs;I)V" } : Jvm.MethodName)) ∈ lw_all := lw_g (lw_at lw_m5 144 rfl) rfl
theorem q1208 : (Jvm.Cond.instanceMethod ({ cls := "EightLegs", name := "act", desc := "(III)I" } : Jvm.MethodName)) ∈ lw_all := lw_g (lw_at lw_m5 149 rfl) rfl
theorem q1209 : (Jvm.Cond.selects "EightLegs" ({ cls := "EightLegs", name := "act", desc := "(III)I" } : Jvm.MethodName) ({ cls := "EightLegs", name := "act", desc := "(III)I" } : Jvm.MethodName)) ∈ lw_all := lw_g (lw_at lw_m5 150 rfl) rfl
theorem q1210 : (Jvm.Cond.code ({ cls := "EightLegs", name := "act", desc := "(III)I" } : Jvm.MethodName) prog_1_method_80_code (6 : Nat) (Option.some Jvm.ClassFile.FieldType.int)) ∈ lw_all := lw_g (lw_at lw_m5 151 rfl) rfl
theorem q1211 : (Jvm.Cond.methodLink "EightLegs" (457 : Nat) ({ cls := "EightLegs", name := "isBody", desc := "(I)Z" } : Jvm.MethodName)) ∈ lw_all := lw_g (lw_at lw_m5 152 rfl) rfl
theorem q1212 : (Jvm.Cond.privateMethod ({ cls := "EightLegs", name := "isBody", desc := "(I)Z" } : Jvm.MethodName)) ∈ lw_tbl := lw_at lw_m5 153 rfl
theorem q1213 : (Jvm.Cond.instanceMethod ({ cls := "EightLegs", name := "isBody", desc := "(I)Z" } : Jvm.MethodName)) ∈ lw_all := lw_g (lw_at lw_m5 154 rfl) rfl
theorem q1214 : (Jvm.Cond.code ({ cls := "EightLegs", name := "isBody", desc := "(I)Z" } : Jvm.MethodName) prog_1_method_76_code (2 : Nat) (Option.some Jvm.ClassFile.FieldType.boolean)) ∈ lw_all := lw_g (lw_at lw_m5 155 rfl) rfl
theorem q1215 : (Jvm.Cond.interfaceEntry "EightLegs" (460 : Nat)) ∈ lw_tbl := lw_at lw_m5 156 rfl
theorem q1216 : (Jvm.Cond.methodLink "EightLegs" (460 : Nat) ({ cls := "EightLegs$Counts", name := "countsIt", desc := "(I)I" } : Jvm.MethodName)) ∈ lw_all := lw_g (lw_at lw_m5 157 rfl) rfl
theorem q1226 : (Jvm.Cond.privateMethod ({ cls := "EightLegs", name := "ran", desc := "(I)V" } : Jvm.MethodName)) ∈ lw_tbl := lw_at lw_m5 167 rfl
theorem q1227 : (Jvm.Cond.instanceMethod ({ cls := "EightLegs", name := "ran", desc := "(I)V" } : Jvm.MethodName)) ∈ lw_all := lw_g (lw_at lw_m5 168 rfl) rfl
theorem q1228 : (Jvm.Cond.code ({ cls := "EightLegs", name := "ran", desc := "(I)V" } : Jvm.MethodName) prog_1_method_75_code (2 : Nat) (Option.none : Option Jvm.ClassFile.FieldType)) ∈ lw_all := lw_g (lw_at lw_m5 169 rfl) rfl
theorem q1260 : (Jvm.Cond.interfaceEntry "EightLegs" (465 : Nat)) ∈ lw_tbl := lw_at lw_m5 201 rfl
theorem q1261 : (Jvm.Cond.methodLink "EightLegs" (465 : Nat) ({ cls := "EightLegs$Tells", name := "tells", desc := "(I)I" } : Jvm.MethodName)) ∈ lw_all := lw_g (lw_at lw_m5 202 rfl) rfl
theorem q1352 : (Jvm.Cond.methodLink "EightLegs" (470 : Nat) ({ cls := "EightLegs$Beat", name := "turns", desc := "(I)I" } : Jvm.MethodName)) ∈ lw_all := lw_g (lw_at lw_m6 53 rfl) rfl
theorem q1353 : (Jvm.Cond.methodLink "EightLegs" (473 : Nat) ({ cls := "EightLegs$Beat", name := "sinks", desc := "(I)I" } : Jvm.MethodName)) ∈ lw_all := lw_g (lw_at lw_m6 54 rfl) rfl
theorem q1355 : (Jvm.Cond.instanceMethod ({ cls := "EightLegs", name := "trace", desc := "(I)I" } : Jvm.MethodName)) ∈ lw_all := lw_g (lw_at lw_m6 56 rfl) rfl
theorem q1356 : (Jvm.Cond.selects "EightLegs" ({ cls := "EightLegs", name := "trace", desc := "(I)I" } : Jvm.MethodName) ({ cls := "EightLegs", name := "trace", desc := "(I)I" } : Jvm.MethodName)) ∈ lw_all := lw_g (lw_at lw_m6 57 rfl) rfl
theorem q1357 : (Jvm.Cond.code ({ cls := "EightLegs", name := "trace", desc := "(I)I" } : Jvm.MethodName) prog_1_method_81_code (2 : Nat) (Option.some Jvm.ClassFile.FieldType.int)) ∈ lw_all := lw_g (lw_at lw_m6 58 rfl) rfl
theorem q1359 : (Jvm.Cond.instanceMethod ({ cls := "EightLegs", name := "keep", desc := "(II)I" } : Jvm.MethodName)) ∈ lw_all := lw_g (lw_at lw_m6 60 rfl) rfl
theorem q1360 : (Jvm.Cond.selects "EightLegs" ({ cls := "EightLegs", name := "keep", desc := "(II)I" } : Jvm.MethodName) ({ cls := "EightLegs", name := "keep", desc := "(II)I" } : Jvm.MethodName)) ∈ lw_all := lw_g (lw_at lw_m6 61 rfl) rfl
theorem q1361 : (Jvm.Cond.code ({ cls := "EightLegs", name := "keep", desc := "(II)I" } : Jvm.MethodName) prog_1_method_82_code (3 : Nat) (Option.some Jvm.ClassFile.FieldType.int)) ∈ lw_all := lw_g (lw_at lw_m6 62 rfl) rfl
theorem q1363 : (Jvm.Cond.instanceMethod ({ cls := "EightLegs", name := "row", desc := "(III)I" } : Jvm.MethodName)) ∈ lw_all := lw_g (lw_at lw_m6 64 rfl) rfl
theorem q1364 : (Jvm.Cond.selects "EightLegs" ({ cls := "EightLegs", name := "row", desc := "(III)I" } : Jvm.MethodName) ({ cls := "EightLegs", name := "row", desc := "(III)I" } : Jvm.MethodName)) ∈ lw_all := lw_g (lw_at lw_m6 65 rfl) rfl
theorem q1365 : (Jvm.Cond.codeWith ({ cls := "EightLegs", name := "row", desc := "(III)I" } : Jvm.MethodName) prog_1_method_84_code (5 : Nat) (Option.some Jvm.ClassFile.FieldType.int) [((24 : Nat), (35 : Nat), (38 : Nat), (492 : Nat))]) ∈ lw_all := lw_g (lw_at lw_m6 66 rfl) rfl
theorem q1366 : (Jvm.Cond.classLink "EightLegs" (492 : Nat) "java/lang/NegativeArraySizeException") ∈ lw_all := lw_g (lw_at lw_m6 67 rfl) rfl
theorem q1380 : (Jvm.Cond.methodLink "EightLegs" (488 : Nat) ({ cls := "EightLegs", name := "newRow", desc := "(II)LEightLegs$Row;" } : Jvm.MethodName)) ∈ lw_all := lw_g (lw_at lw_m6 81 rfl) rfl
theorem q1381 : (Jvm.Cond.static ({ cls := "EightLegs", name := "newRow", desc := "(II)LEightLegs$Row;" } : Jvm.MethodName)) ∈ lw_all := lw_g (lw_at lw_m6 82 rfl) rfl
theorem q1382 : (Jvm.Cond.code ({ cls := "EightLegs", name := "newRow", desc := "(II)LEightLegs$Row;" } : Jvm.MethodName) prog_1_method_83_code (2 : Nat) (Option.some (Jvm.ClassFile.FieldType.object "EightLegs$Row"))) ∈ lw_all := lw_g (lw_at lw_m6 83 rfl) rfl
theorem q1384 : (Jvm.Cond.methodLink "EightLegs" (476 : Nat) ({ cls := "EightLegs$ByteRow", name := "<init>", desc := "(I)V" } : Jvm.MethodName)) ∈ lw_all := lw_g (lw_at lw_m6 85 rfl) rfl
theorem q1396 : (Jvm.Cond.methodLink "EightLegs" (478 : Nat) ({ cls := "EightLegs$ShortRow", name := "<init>", desc := "(I)V" } : Jvm.MethodName)) ∈ lw_all := lw_g (lw_at lw_m6 97 rfl) rfl
theorem q1405 : (Jvm.Cond.classLink "EightLegs" (479 : Nat) "EightLegs$IntRow") ∈ lw_all := lw_g (lw_at lw_m6 106 rfl) rfl
theorem q1407 : (Jvm.Cond.methodLink "EightLegs" (481 : Nat) ({ cls := "EightLegs$IntRow", name := "<init>", desc := "(I)V" } : Jvm.MethodName)) ∈ lw_all := lw_g (lw_at lw_m6 108 rfl) rfl
theorem q1415 : (Jvm.Cond.classLink "EightLegs" (482 : Nat) "EightLegs$LongRow") ∈ lw_all := lw_g (lw_at lw_m6 116 rfl) rfl
theorem q1417 : (Jvm.Cond.methodLink "EightLegs" (484 : Nat) ({ cls := "EightLegs$LongRow", name := "<init>", desc := "(I)V" } : Jvm.MethodName)) ∈ lw_all := lw_g (lw_at lw_m6 118 rfl) rfl
theorem q1426 : (Jvm.Cond.classLink "EightLegs" (485 : Nat) "EightLegs$BooleanRow") ∈ lw_all := lw_g (lw_at lw_m6 127 rfl) rfl
theorem q1428 : (Jvm.Cond.methodLink "EightLegs" (487 : Nat) ({ cls := "EightLegs$BooleanRow", name := "<init>", desc := "(I)V" } : Jvm.MethodName)) ∈ lw_all := lw_g (lw_at lw_m6 129 rfl) rfl
theorem q1438 : (Jvm.Cond.instanceMethod ({ cls := "EightLegs", name := "put", desc := "(IIJ)I" } : Jvm.MethodName)) ∈ lw_all := lw_g (lw_at lw_m6 139 rfl) rfl
theorem q1439 : (Jvm.Cond.selects "EightLegs" ({ cls := "EightLegs", name := "put", desc := "(IIJ)I" } : Jvm.MethodName) ({ cls := "EightLegs", name := "put", desc := "(IIJ)I" } : Jvm.MethodName)) ∈ lw_all := lw_g (lw_at lw_m6 140 rfl) rfl
theorem q1440 : (Jvm.Cond.codeWith ({ cls := "EightLegs", name := "put", desc := "(IIJ)I" } : Jvm.MethodName) prog_1_method_85_code (6 : Nat) (Option.some Jvm.ClassFile.FieldType.int) [((9 : Nat), (31 : Nat), (32 : Nat), (111 : Nat)), ((9 : Nat), (31 : Nat), (37 : Nat), (109 : Nat)), ((9 : Nat), (31 : Nat), (42 : Nat), (113 : Nat))]) ∈ lw_all := lw_g (lw_at lw_m6 141 rfl) rfl
theorem q1441 : (Jvm.Cond.classLink "EightLegs" (494 : Nat) "EightLegs$Row") ∈ lw_all := lw_g (lw_at lw_m6 142 rfl) rfl
theorem q1442 : (Jvm.Cond.methodLink "EightLegs" (496 : Nat) ({ cls := "EightLegs$Row", name := "put", desc := "(IJ)Z" } : Jvm.MethodName)) ∈ lw_all := lw_g (lw_at lw_m6 143 rfl) rfl
theorem q1461 : (Jvm.Cond.instanceMethod ({ cls := "EightLegs", name := "element", desc := "(II)J" } : Jvm.MethodName)) ∈ lw_all := lw_g (lw_at lw_m6 162 rfl) rfl
theorem q1462 : (Jvm.Cond.selects "EightLegs" ({ cls := "EightLegs", name := "element", desc := "(II)J" } : Jvm.MethodName) ({ cls := "EightLegs", name := "element", desc := "(II)J" } : Jvm.MethodName)) ∈ lw_all := lw_g (lw_at lw_m6 163 rfl) rfl
theorem q1463 : (Jvm.Cond.codeWith ({ cls := "EightLegs", name := "element", desc := "(II)J" } : Jvm.MethodName) prog_1_method_86_code (4 : Nat) (Option.some Jvm.ClassFile.FieldType.long) [((11 : Nat), (24 : Nat), (25 : Nat), (111 : Nat)), ((11 : Nat), (24 : Nat), (30 : Nat), (109 : Nat)), ((11 : Nat), (24 : Nat), (35 : Nat), (113 : Nat))]) ∈ lw_all := lw_g (lw_at lw_m6 164 rfl) rfl
theorem q1464 : (Jvm.Cond.constantLong "EightLegs" (502 : Nat) (-9223372036854775808 : Int64)) ∈ lw_all := lw_g (lw_at lw_m6 165 rfl) rfl
theorem q1465 : (Jvm.Cond.methodLink "EightLegs" (504 : Nat) ({ cls := "EightLegs$Row", name := "at", desc := "(I)J" } : Jvm.MethodName)) ∈ lw_all := lw_g (lw_at lw_m6 166 rfl) rfl
theorem q1480 : (Jvm.Cond.instanceMethod ({ cls := "EightLegs", name := "shift", desc := "(IIIII)I" } : Jvm.MethodName)) ∈ lw_all := lw_g (lw_at lw_m6 181 rfl) rfl
theorem q1481 : (Jvm.Cond.selects "EightLegs" ({ cls := "EightLegs", name := "shift", desc := "(IIIII)I" } : Jvm.MethodName) ({ cls := "EightLegs", name := "shift", desc := "(IIIII)I" } : Jvm.MethodName)) ∈ lw_all := lw_g (lw_at lw_m6 182 rfl) rfl
theorem q1482 : (Jvm.Cond.codeWith ({ cls := "EightLegs", name := "shift", desc := "(IIIII)I" } : Jvm.MethodName) prog_1_method_87_code (7 : Nat) (Option.some Jvm.ClassFile.FieldType.int) [((37 : Nat), (63 : Nat), (66 : Nat), (109 : Nat)), ((37 : Nat), (63 : Nat), (71 : Nat), (113 : Nat))]) ∈ lw_all := lw_g (lw_at lw_m6 183 rfl) rfl
theorem q1483 : (Jvm.Cond.methodLink "EightLegs" (505 : Nat) ({ cls := "EightLegs$Row", name := "copy", desc := "(ILEightLegs$Row;II)V" } : Jvm.MethodName)) ∈ lw_all := lw_g (lw_at lw_m6 184 rfl) rfl
theorem q1514 : (Jvm.Cond.instanceMethod ({ cls := "EightLegs", name := "taken", desc := "(II)I" } : Jvm.MethodName)) ∈ lw_all := lw_g (lw_at lw_m6 215 rfl) rfl
theorem q1515 : (Jvm.Cond.selects "EightLegs" ({ cls := "EightLegs", name := "taken", desc := "(II)I" } : Jvm.MethodName) ({ cls := "EightLegs", name := "taken", desc := "(II)I" } : Jvm.MethodName)) ∈ lw_all := lw_g (lw_at lw_m6 216 rfl) rfl
theorem q1516 : (Jvm.Cond.codeWith ({ cls := "EightLegs", name := "taken", desc := "(II)I" } : Jvm.MethodName) prog_1_method_88_code (4 : Nat) (Option.some Jvm.ClassFile.FieldType.int) [((19 : Nat), (46 : Nat), (47 : Nat), (111 : Nat)), ((19 : Nat), (46 : Nat), (51 : Nat), (109 : Nat))]) ∈ lw_all := lw_g (lw_at lw_m6 217 rfl) rfl
theorem q1517 : (Jvm.Cond.methodLink "EightLegs" (509 : Nat) ({ cls := "EightLegs$Beat", name := "isUnder", desc := "(I)Z" } : Jvm.MethodName)) ∈ lw_all := lw_g (lw_at lw_m6 218 rfl) rfl
theorem q1567 : (Jvm.Cond.methodLink "EightLegs" (512 : Nat) ({ cls := "EightLegs$Beat", name := "kind", desc := "()I" } : Jvm.MethodName)) ∈ lw_all := lw_g (lw_at lw_m7 28 rfl) rfl
theorem q1569 : (Jvm.Cond.instanceMethod ({ cls := "EightLegs", name := "count", desc := "(I)I" } : Jvm.MethodName)) ∈ lw_all := lw_g (lw_at lw_m7 30 rfl) rfl
theorem q1570 : (Jvm.Cond.selects "EightLegs" ({ cls := "EightLegs", name := "count", desc := "(I)I" } : Jvm.MethodName) ({ cls := "EightLegs", name := "count", desc := "(I)I" } : Jvm.MethodName)) ∈ lw_all := lw_g (lw_at lw_m7 31 rfl) rfl
theorem q1571 : (Jvm.Cond.code ({ cls := "EightLegs", name := "count", desc := "(I)I" } : Jvm.MethodName) prog_1_method_89_code (2 : Nat) (Option.some Jvm.ClassFile.FieldType.int)) ∈ lw_all := lw_g (lw_at lw_m7 32 rfl) rfl
theorem in_X0 : ∀ w ∈ wsX00, w ∈ lw_all := lw_in wsX00 [220, 222, 224, 226, 228, 230, 232, 234, 236, 238, 240, 242, 244, 246, 248, 250, 252, 254, 256, 258, 260, 262, 264, 266, 268, 270, 272, 274, 276, 278, 280, 282, 284, 286, 288, 290, 292, 294, 296, 298, 300, 302, 304, 306] (by decide +kernel) (by decide +kernel)

/-! EightLegs$Facts -/
set_option maxRecDepth 100000
def RX1 : String := "EightLegs$Facts"
def TX1 : u_T := fun k => match k with
  | _ => ("EightLegs$Facts", "named", "[I", true)
def tyX1 : Nat → FieldType := fun k => match k with
  | _ => .array .int
abbrev wsX10 : List Cond := u_ws RX1 TX1 1
theorem nmX1 : ∀ a, a < 1 → ∀ b, b < 1 → a ≠ b → (TX1 a).2.1 ≠ (TX1 b).2.1 := by decide +kernel
theorem tyX1_ok : ∀ k, k < 1 → parseFieldDescriptor (TX1 k).2.2.1 = some (tyX1 k) := by decide +kernel
abbrev cX1_init : ByteArray := prog_10_method_1_code
def yX1_init : MethodName := ⟨RX1, "<init>", "()V"⟩
def dkwX1_init_0 : List UInt8 := [42, 183, 0, 1, 42, 17, 0, 128, 188, 10, 181, 0, 7, 177]
abbrev dktX1_init_0 : List UInt8 := dkwX1_init_0 ++ []
theorem dksX1_init_0 : cX1_init.data.toList.drop 0 = dktX1_init_0 := by decide +kernel
theorem dX1_init_0 : decode cX1_init 0 = .ok (.aload_n 0, 1) := dk_42 (dk_at dksX1_init_0 0 rfl rfl)
theorem dX1_init_1 : decode cX1_init 1 = .ok (.invokespecial 1, 3) := dk_183 0 1 (dk_at dksX1_init_0 1 rfl rfl)
theorem dX1_init_4 : decode cX1_init 4 = .ok (.aload_n 0, 1) := dk_42 (dk_at dksX1_init_0 4 rfl rfl)
theorem dX1_init_5 : decode cX1_init 5 = .ok (.sipush 128, 3) := dk_17 0 128 (dk_at dksX1_init_0 5 rfl rfl)
theorem dX1_init_8 : decode cX1_init 8 = .ok (.newarray .int, 2) := dk_188_10 (dk_at dksX1_init_0 8 rfl rfl)
theorem dX1_init_10 : decode cX1_init 10 = .ok (.putfield 7, 3) := dk_181 0 7 (dk_at dksX1_init_0 10 rfl rfl)
theorem dX1_init_13 : decode cX1_init 13 = .ok (.return_, 1) := dk_177 (dk_at dksX1_init_0 13 rfl rfl)
abbrev cX1_clear : ByteArray := prog_10_method_2_code
def yX1_clear : MethodName := ⟨RX1, "clear", "()V"⟩
def dkwX1_clear_1 : List UInt8 := [177]
abbrev dktX1_clear_1 : List UInt8 := dkwX1_clear_1 ++ []
def dkwX1_clear_0 : List UInt8 := [3, 60, 27, 42, 180, 0, 7, 190, 162, 0, 16, 42, 180, 0, 7, 27, 3, 79, 132, 1, 1, 167, 255, 237]
abbrev dktX1_clear_0 : List UInt8 := dkwX1_clear_0 ++ dktX1_clear_1
theorem dksX1_clear_0 : cX1_clear.data.toList.drop 0 = dktX1_clear_0 := by decide +kernel
theorem dksX1_clear_1 : cX1_clear.data.toList.drop 24 = dktX1_clear_1 := dk_seg dksX1_clear_0 24 rfl rfl
theorem dX1_clear_0 : decode cX1_clear 0 = .ok (.iconst 0, 1) := dk_3 (dk_at dksX1_clear_0 0 rfl rfl)
theorem dX1_clear_1 : decode cX1_clear 1 = .ok (.istore_n 1, 1) := dk_60 (dk_at dksX1_clear_0 1 rfl rfl)
theorem dX1_clear_2 : decode cX1_clear 2 = .ok (.iload_n 1, 1) := dk_27 (dk_at dksX1_clear_0 2 rfl rfl)
theorem dX1_clear_3 : decode cX1_clear 3 = .ok (.aload_n 0, 1) := dk_42 (dk_at dksX1_clear_0 3 rfl rfl)
theorem dX1_clear_4 : decode cX1_clear 4 = .ok (.getfield 7, 3) := dk_180 0 7 (dk_at dksX1_clear_0 4 rfl rfl)
theorem dX1_clear_7 : decode cX1_clear 7 = .ok (.arraylength, 1) := dk_190 (dk_at dksX1_clear_0 7 rfl rfl)
theorem dX1_clear_8 : decode cX1_clear 8 = .ok (.if_icmp .ge 16, 3) := dk_162 0 16 (dk_at dksX1_clear_0 8 rfl rfl)
theorem dX1_clear_11 : decode cX1_clear 11 = .ok (.aload_n 0, 1) := dk_42 (dk_at dksX1_clear_0 11 rfl rfl)
theorem dX1_clear_12 : decode cX1_clear 12 = .ok (.getfield 7, 3) := dk_180 0 7 (dk_at dksX1_clear_0 12 rfl rfl)
theorem dX1_clear_15 : decode cX1_clear 15 = .ok (.iload_n 1, 1) := dk_27 (dk_at dksX1_clear_0 15 rfl rfl)
theorem dX1_clear_16 : decode cX1_clear 16 = .ok (.iconst 0, 1) := dk_3 (dk_at dksX1_clear_0 16 rfl rfl)
theorem dX1_clear_17 : decode cX1_clear 17 = .ok (.iastore, 1) := dk_79 (dk_at dksX1_clear_0 17 rfl rfl)
theorem dX1_clear_18 : decode cX1_clear 18 = .ok (.iinc 1 1, 3) := dk_132 1 1 (dk_at dksX1_clear_0 18 rfl rfl)
theorem dX1_clear_21 : decode cX1_clear 21 = .ok (.goto (-19), 3) := dk_167 255 237 (dk_at dksX1_clear_0 21 rfl rfl)
theorem dX1_clear_24 : decode cX1_clear 24 = .ok (.return_, 1) := dk_177 (dk_at dksX1_clear_1 0 rfl rfl)
theorem q101 : (Jvm.Cond.initialized "EightLegs$Facts") ∈ lw_all := lw_g (lw_at lw_m1 2 rfl) rfl
theorem q157 : (Jvm.Cond.instantiable "EightLegs$Facts" (1 : Nat)) ∈ lw_all := lw_g (lw_at lw_m1 58 rfl) rfl
theorem q159 : (Jvm.Cond.instanceMethod ({ cls := "EightLegs$Facts", name := "<init>", desc := "()V" } : Jvm.MethodName)) ∈ lw_all := lw_g (lw_at lw_m1 60 rfl) rfl
theorem q160 : (Jvm.Cond.code ({ cls := "EightLegs$Facts", name := "<init>", desc := "()V" } : Jvm.MethodName) prog_10_method_1_code (1 : Nat) (Option.none : Option Jvm.ClassFile.FieldType)) ∈ lw_all := lw_g (lw_at lw_m1 61 rfl) rfl
theorem q161 : (Jvm.Cond.methodLink "EightLegs$Facts" (1 : Nat) ({ cls := "java/lang/Object", name := "<init>", desc := "()V" } : Jvm.MethodName)) ∈ lw_all := lw_g (lw_at lw_m1 62 rfl) rfl
theorem q162 : (Jvm.Cond.fieldLink "EightLegs$Facts" (7 : Nat) "EightLegs$Facts" "named" "[I") ∈ lw_all := lw_g (lw_at lw_m1 63 rfl) rfl
theorem q165 : (Jvm.Cond.laysFinal "EightLegs$Facts" "EightLegs$Facts" "named" "[I") ∈ lw_all := lw_g (lw_at lw_m1 66 rfl) rfl
theorem q166 : (Jvm.Cond.soleField "EightLegs$Facts" "named") ∈ lw_all := lw_g (lw_at lw_m1 67 rfl) rfl
theorem q167 : (Jvm.Cond.superclass "EightLegs$Facts" "java/lang/Object") ∈ lw_all := lw_g (lw_at lw_m1 68 rfl) rfl
theorem q817 : (Jvm.Cond.instanceMethod ({ cls := "EightLegs$Facts", name := "clear", desc := "()V" } : Jvm.MethodName)) ∈ lw_all := lw_g (lw_at lw_m3 238 rfl) rfl
theorem q818 : (Jvm.Cond.selects "EightLegs$Facts" ({ cls := "EightLegs$Facts", name := "clear", desc := "()V" } : Jvm.MethodName) ({ cls := "EightLegs$Facts", name := "clear", desc := "()V" } : Jvm.MethodName)) ∈ lw_all := lw_g (lw_at lw_m3 239 rfl) rfl
theorem q819 : (Jvm.Cond.code ({ cls := "EightLegs$Facts", name := "clear", desc := "()V" } : Jvm.MethodName) prog_10_method_2_code (2 : Nat) (Option.none : Option Jvm.ClassFile.FieldType)) ∈ lw_all := lw_g (lw_at lw_m4 0 rfl) rfl
theorem in_X1 : ∀ w ∈ wsX10, w ∈ lw_all := lw_in wsX10 [165] (by decide +kernel) (by decide +kernel)

/-! EightLegs$Swimmer -/
set_option maxRecDepth 100000
def RX3 : String := "EightLegs$Swimmer"
def TX3 : u_T := fun k => match k with
  | 0 => ("EightLegs$Swimmer", "x", "I", false)
  | 1 => ("EightLegs$Swimmer", "y", "I", false)
  | 2 => ("EightLegs$Swimmer", "tall", "I", false)
  | 3 => ("EightLegs$Swimmer", "breath", "I", false)
  | 4 => ("EightLegs$Swimmer", "quick", "I", false)
  | 5 => ("EightLegs$Swimmer", "late", "I", false)
  | 6 => ("EightLegs$Swimmer", "tired", "I", false)
  | _ => ("EightLegs$Swimmer", "gasped", "I", false)
def tyX3 : Nat → FieldType := fun k => match k with
  | 0 => .int
  | 1 => .int
  | 2 => .int
  | 3 => .int
  | 4 => .int
  | 5 => .int
  | 6 => .int
  | _ => .int
abbrev wsX30 : List Cond := u_ws RX3 TX3 8
theorem nmX3 : ∀ a, a < 8 → ∀ b, b < 8 → a ≠ b → (TX3 a).2.1 ≠ (TX3 b).2.1 := by decide +kernel
theorem tyX3_ok : ∀ k, k < 8 → parseFieldDescriptor (TX3 k).2.2.1 = some (tyX3 k) := by decide +kernel
abbrev cX3_init : ByteArray := prog_27_method_1_code
def yX3_init : MethodName := ⟨RX3, "<init>", "(III)V"⟩
def dkwX3_init_1 : List UInt8 := [181, 0, 19, 177]
abbrev dktX3_init_1 : List UInt8 := dkwX3_init_1 ++ []
def dkwX3_init_0 : List UInt8 := [42, 183, 0, 1, 42, 16, 12, 181, 0, 7, 42, 27, 181, 0, 13, 42, 28, 181, 0, 16, 42, 29]
abbrev dktX3_init_0 : List UInt8 := dkwX3_init_0 ++ dktX3_init_1
theorem dksX3_init_0 : cX3_init.data.toList.drop 0 = dktX3_init_0 := by decide +kernel
theorem dksX3_init_1 : cX3_init.data.toList.drop 22 = dktX3_init_1 := dk_seg dksX3_init_0 22 rfl rfl
theorem dX3_init_0 : decode cX3_init 0 = .ok (.aload_n 0, 1) := dk_42 (dk_at dksX3_init_0 0 rfl rfl)
theorem dX3_init_1 : decode cX3_init 1 = .ok (.invokespecial 1, 3) := dk_183 0 1 (dk_at dksX3_init_0 1 rfl rfl)
theorem dX3_init_4 : decode cX3_init 4 = .ok (.aload_n 0, 1) := dk_42 (dk_at dksX3_init_0 4 rfl rfl)
theorem dX3_init_5 : decode cX3_init 5 = .ok (.bipush 12, 2) := dk_16 12 (dk_at dksX3_init_0 5 rfl rfl)
theorem dX3_init_7 : decode cX3_init 7 = .ok (.putfield 7, 3) := dk_181 0 7 (dk_at dksX3_init_0 7 rfl rfl)
theorem dX3_init_10 : decode cX3_init 10 = .ok (.aload_n 0, 1) := dk_42 (dk_at dksX3_init_0 10 rfl rfl)
theorem dX3_init_11 : decode cX3_init 11 = .ok (.iload_n 1, 1) := dk_27 (dk_at dksX3_init_0 11 rfl rfl)
theorem dX3_init_12 : decode cX3_init 12 = .ok (.putfield 13, 3) := dk_181 0 13 (dk_at dksX3_init_0 12 rfl rfl)
theorem dX3_init_15 : decode cX3_init 15 = .ok (.aload_n 0, 1) := dk_42 (dk_at dksX3_init_0 15 rfl rfl)
theorem dX3_init_16 : decode cX3_init 16 = .ok (.iload_n 2, 1) := dk_28 (dk_at dksX3_init_0 16 rfl rfl)
theorem dX3_init_17 : decode cX3_init 17 = .ok (.putfield 16, 3) := dk_181 0 16 (dk_at dksX3_init_0 17 rfl rfl)
theorem dX3_init_20 : decode cX3_init 20 = .ok (.aload_n 0, 1) := dk_42 (dk_at dksX3_init_0 20 rfl rfl)
theorem dX3_init_21 : decode cX3_init 21 = .ok (.iload_n 3, 1) := dk_29 (dk_at dksX3_init_0 21 rfl rfl)
theorem dX3_init_22 : decode cX3_init 22 = .ok (.putfield 19, 3) := dk_181 0 19 (dk_at dksX3_init_1 0 rfl rfl)
theorem dX3_init_25 : decode cX3_init 25 = .ok (.return_, 1) := dk_177 (dk_at dksX3_init_1 3 rfl rfl)
abbrev cX3_farFrom : ByteArray := prog_27_method_2_code
def yX3_farFrom : MethodName := ⟨RX3, "farFrom", "(LEightLegs$Swimmer;)I"⟩
def dkwX3_farFrom_1 : List UInt8 := [96, 172]
abbrev dktX3_farFrom_1 : List UInt8 := dkwX3_farFrom_1 ++ []
def dkwX3_farFrom_0 : List UInt8 := [42, 180, 0, 13, 43, 180, 0, 13, 100, 184, 0, 22, 42, 180, 0, 16, 43, 180, 0, 16, 100, 184, 0, 22]
abbrev dktX3_farFrom_0 : List UInt8 := dkwX3_farFrom_0 ++ dktX3_farFrom_1
theorem dksX3_farFrom_0 : cX3_farFrom.data.toList.drop 0 = dktX3_farFrom_0 := by decide +kernel
theorem dksX3_farFrom_1 : cX3_farFrom.data.toList.drop 24 = dktX3_farFrom_1 := dk_seg dksX3_farFrom_0 24 rfl rfl
theorem dX3_farFrom_0 : decode cX3_farFrom 0 = .ok (.aload_n 0, 1) := dk_42 (dk_at dksX3_farFrom_0 0 rfl rfl)
theorem dX3_farFrom_1 : decode cX3_farFrom 1 = .ok (.getfield 13, 3) := dk_180 0 13 (dk_at dksX3_farFrom_0 1 rfl rfl)
theorem dX3_farFrom_4 : decode cX3_farFrom 4 = .ok (.aload_n 1, 1) := dk_43 (dk_at dksX3_farFrom_0 4 rfl rfl)
theorem dX3_farFrom_5 : decode cX3_farFrom 5 = .ok (.getfield 13, 3) := dk_180 0 13 (dk_at dksX3_farFrom_0 5 rfl rfl)
theorem dX3_farFrom_8 : decode cX3_farFrom 8 = .ok (.isub, 1) := dk_100 (dk_at dksX3_farFrom_0 8 rfl rfl)
theorem dX3_farFrom_9 : decode cX3_farFrom 9 = .ok (.invokestatic 22, 3) := dk_184 0 22 (dk_at dksX3_farFrom_0 9 rfl rfl)
theorem dX3_farFrom_12 : decode cX3_farFrom 12 = .ok (.aload_n 0, 1) := dk_42 (dk_at dksX3_farFrom_0 12 rfl rfl)
theorem dX3_farFrom_13 : decode cX3_farFrom 13 = .ok (.getfield 16, 3) := dk_180 0 16 (dk_at dksX3_farFrom_0 13 rfl rfl)
theorem dX3_farFrom_16 : decode cX3_farFrom 16 = .ok (.aload_n 1, 1) := dk_43 (dk_at dksX3_farFrom_0 16 rfl rfl)
theorem dX3_farFrom_17 : decode cX3_farFrom 17 = .ok (.getfield 16, 3) := dk_180 0 16 (dk_at dksX3_farFrom_0 17 rfl rfl)
theorem dX3_farFrom_20 : decode cX3_farFrom 20 = .ok (.isub, 1) := dk_100 (dk_at dksX3_farFrom_0 20 rfl rfl)
theorem dX3_farFrom_21 : decode cX3_farFrom 21 = .ok (.invokestatic 22, 3) := dk_184 0 22 (dk_at dksX3_farFrom_0 21 rfl rfl)
theorem dX3_farFrom_24 : decode cX3_farFrom 24 = .ok (.iadd, 1) := dk_96 (dk_at dksX3_farFrom_1 0 rfl rfl)
theorem dX3_farFrom_25 : decode cX3_farFrom 25 = .ok (.ireturn, 1) := dk_172 (dk_at dksX3_farFrom_1 1 rfl rfl)
abbrev cX3_isOn : ByteArray := prog_27_method_3_code
def yX3_isOn : MethodName := ⟨RX3, "isOn", "(II)Z"⟩
def dkwX3_isOn_0 : List UInt8 := [42, 180, 0, 13, 27, 160, 0, 15, 42, 180, 0, 16, 28, 160, 0, 7, 4, 167, 0, 4, 3, 172]
abbrev dktX3_isOn_0 : List UInt8 := dkwX3_isOn_0 ++ []
theorem dksX3_isOn_0 : cX3_isOn.data.toList.drop 0 = dktX3_isOn_0 := by decide +kernel
theorem dX3_isOn_0 : decode cX3_isOn 0 = .ok (.aload_n 0, 1) := dk_42 (dk_at dksX3_isOn_0 0 rfl rfl)
theorem dX3_isOn_1 : decode cX3_isOn 1 = .ok (.getfield 13, 3) := dk_180 0 13 (dk_at dksX3_isOn_0 1 rfl rfl)
theorem dX3_isOn_4 : decode cX3_isOn 4 = .ok (.iload_n 1, 1) := dk_27 (dk_at dksX3_isOn_0 4 rfl rfl)
theorem dX3_isOn_5 : decode cX3_isOn 5 = .ok (.if_icmp .ne 15, 3) := dk_160 0 15 (dk_at dksX3_isOn_0 5 rfl rfl)
theorem dX3_isOn_8 : decode cX3_isOn 8 = .ok (.aload_n 0, 1) := dk_42 (dk_at dksX3_isOn_0 8 rfl rfl)
theorem dX3_isOn_9 : decode cX3_isOn 9 = .ok (.getfield 16, 3) := dk_180 0 16 (dk_at dksX3_isOn_0 9 rfl rfl)
theorem dX3_isOn_12 : decode cX3_isOn 12 = .ok (.iload_n 2, 1) := dk_28 (dk_at dksX3_isOn_0 12 rfl rfl)
theorem dX3_isOn_13 : decode cX3_isOn 13 = .ok (.if_icmp .ne 7, 3) := dk_160 0 7 (dk_at dksX3_isOn_0 13 rfl rfl)
theorem dX3_isOn_16 : decode cX3_isOn 16 = .ok (.iconst 1, 1) := dk_4 (dk_at dksX3_isOn_0 16 rfl rfl)
theorem dX3_isOn_17 : decode cX3_isOn 17 = .ok (.goto 4, 3) := dk_167 0 4 (dk_at dksX3_isOn_0 17 rfl rfl)
theorem dX3_isOn_20 : decode cX3_isOn 20 = .ok (.iconst 0, 1) := dk_3 (dk_at dksX3_isOn_0 20 rfl rfl)
theorem dX3_isOn_21 : decode cX3_isOn 21 = .ok (.ireturn, 1) := dk_172 (dk_at dksX3_isOn_0 21 rfl rfl)
theorem q103 : (Jvm.Cond.initialized "EightLegs$Swimmer") ∈ lw_all := lw_g (lw_at lw_m1 4 rfl) rfl
theorem q323 : (Jvm.Cond.instantiable "EightLegs$Swimmer" (8 : Nat)) ∈ lw_all := lw_g (lw_at lw_m1 224 rfl) rfl
theorem q325 : (Jvm.Cond.instanceMethod ({ cls := "EightLegs$Swimmer", name := "<init>", desc := "(III)V" } : Jvm.MethodName)) ∈ lw_all := lw_g (lw_at lw_m1 226 rfl) rfl
theorem q326 : (Jvm.Cond.code ({ cls := "EightLegs$Swimmer", name := "<init>", desc := "(III)V" } : Jvm.MethodName) prog_27_method_1_code (4 : Nat) (Option.none : Option Jvm.ClassFile.FieldType)) ∈ lw_all := lw_g (lw_at lw_m1 227 rfl) rfl
theorem q327 : (Jvm.Cond.methodLink "EightLegs$Swimmer" (1 : Nat) ({ cls := "java/lang/Object", name := "<init>", desc := "()V" } : Jvm.MethodName)) ∈ lw_all := lw_g (lw_at lw_m1 228 rfl) rfl
theorem q328 : (Jvm.Cond.fieldLink "EightLegs$Swimmer" (13 : Nat) "EightLegs$Swimmer" "x" "I") ∈ lw_all := lw_g (lw_at lw_m1 229 rfl) rfl
theorem q330 : (Jvm.Cond.fieldLink "EightLegs$Swimmer" (16 : Nat) "EightLegs$Swimmer" "y" "I") ∈ lw_all := lw_g (lw_at lw_m1 231 rfl) rfl
theorem q332 : (Jvm.Cond.fieldLink "EightLegs$Swimmer" (19 : Nat) "EightLegs$Swimmer" "tall" "I") ∈ lw_all := lw_g (lw_at lw_m1 233 rfl) rfl
theorem q334 : (Jvm.Cond.fieldLink "EightLegs$Swimmer" (7 : Nat) "EightLegs$Swimmer" "breath" "I") ∈ lw_all := lw_g (lw_at lw_m1 235 rfl) rfl
theorem q340 : (Jvm.Cond.lays "EightLegs$Swimmer" "EightLegs$Swimmer" "x" "I") ∈ lw_all := lw_g (lw_at lw_m2 1 rfl) rfl
theorem q341 : (Jvm.Cond.soleField "EightLegs$Swimmer" "x") ∈ lw_all := lw_g (lw_at lw_m2 2 rfl) rfl
theorem q342 : (Jvm.Cond.lays "EightLegs$Swimmer" "EightLegs$Swimmer" "y" "I") ∈ lw_all := lw_g (lw_at lw_m2 3 rfl) rfl
theorem q343 : (Jvm.Cond.soleField "EightLegs$Swimmer" "y") ∈ lw_all := lw_g (lw_at lw_m2 4 rfl) rfl
theorem q344 : (Jvm.Cond.lays "EightLegs$Swimmer" "EightLegs$Swimmer" "tall" "I") ∈ lw_all := lw_g (lw_at lw_m2 5 rfl) rfl
theorem q345 : (Jvm.Cond.soleField "EightLegs$Swimmer" "tall") ∈ lw_all := lw_g (lw_at lw_m2 6 rfl) rfl
theorem q346 : (Jvm.Cond.lays "EightLegs$Swimmer" "EightLegs$Swimmer" "breath" "I") ∈ lw_all := lw_g (lw_at lw_m2 7 rfl) rfl
theorem q347 : (Jvm.Cond.soleField "EightLegs$Swimmer" "breath") ∈ lw_all := lw_g (lw_at lw_m2 8 rfl) rfl
theorem q348 : (Jvm.Cond.lays "EightLegs$Swimmer" "EightLegs$Swimmer" "quick" "I") ∈ lw_all := lw_g (lw_at lw_m2 9 rfl) rfl
theorem q349 : (Jvm.Cond.soleField "EightLegs$Swimmer" "quick") ∈ lw_all := lw_g (lw_at lw_m2 10 rfl) rfl
theorem q350 : (Jvm.Cond.lays "EightLegs$Swimmer" "EightLegs$Swimmer" "late" "I") ∈ lw_all := lw_g (lw_at lw_m2 11 rfl) rfl
theorem q351 : (Jvm.Cond.soleField "EightLegs$Swimmer" "late") ∈ lw_all := lw_g (lw_at lw_m2 12 rfl) rfl
theorem q352 : (Jvm.Cond.lays "EightLegs$Swimmer" "EightLegs$Swimmer" "tired" "I") ∈ lw_all := lw_g (lw_at lw_m2 13 rfl) rfl
theorem q353 : (Jvm.Cond.soleField "EightLegs$Swimmer" "tired") ∈ lw_all := lw_g (lw_at lw_m2 14 rfl) rfl
theorem q354 : (Jvm.Cond.lays "EightLegs$Swimmer" "EightLegs$Swimmer" "gasped" "I") ∈ lw_all := lw_g (lw_at lw_m2 15 rfl) rfl
theorem q355 : (Jvm.Cond.soleField "EightLegs$Swimmer" "gasped") ∈ lw_all := lw_g (lw_at lw_m2 16 rfl) rfl
theorem q356 : (Jvm.Cond.superclass "EightLegs$Swimmer" "java/lang/Object") ∈ lw_all := lw_g (lw_at lw_m2 17 rfl) rfl
theorem q821 : (Jvm.Cond.instanceMethod ({ cls := "EightLegs$Swimmer", name := "farFrom", desc := "(LEightLegs$Swimmer;)I" } : Jvm.MethodName)) ∈ lw_all := lw_g (lw_at lw_m4 2 rfl) rfl
theorem q822 : (Jvm.Cond.selects "EightLegs$Swimmer" ({ cls := "EightLegs$Swimmer", name := "farFrom", desc := "(LEightLegs$Swimmer;)I" } : Jvm.MethodName) ({ cls := "EightLegs$Swimmer", name := "farFrom", desc := "(LEightLegs$Swimmer;)I" } : Jvm.MethodName)) ∈ lw_all := lw_g (lw_at lw_m4 3 rfl) rfl
theorem q823 : (Jvm.Cond.code ({ cls := "EightLegs$Swimmer", name := "farFrom", desc := "(LEightLegs$Swimmer;)I" } : Jvm.MethodName) prog_27_method_2_code (2 : Nat) (Option.some Jvm.ClassFile.FieldType.int)) ∈ lw_all := lw_g (lw_at lw_m4 4 rfl) rfl
theorem q824 : (Jvm.Cond.methodLink "EightLegs$Swimmer" (22 : Nat) ({ cls := "java/lang/Math", name := "abs", desc := "(I)I" } : Jvm.MethodName)) ∈ lw_all := lw_g (lw_at lw_m4 5 rfl) rfl
theorem q1022 : (Jvm.Cond.instanceMethod ({ cls := "EightLegs$Swimmer", name := "isOn", desc := "(II)Z" } : Jvm.MethodName)) ∈ lw_all := lw_g (lw_at lw_m4 203 rfl) rfl
theorem q1023 : (Jvm.Cond.selects "EightLegs$Swimmer" ({ cls := "EightLegs$Swimmer", name := "isOn", desc := "(II)Z" } : Jvm.MethodName) ({ cls := "EightLegs$Swimmer", name := "isOn", desc := "(II)Z" } : Jvm.MethodName)) ∈ lw_all := lw_g (lw_at lw_m4 204 rfl) rfl
theorem q1024 : (Jvm.Cond.code ({ cls := "EightLegs$Swimmer", name := "isOn", desc := "(II)Z" } : Jvm.MethodName) prog_27_method_3_code (3 : Nat) (Option.some Jvm.ClassFile.FieldType.boolean)) ∈ lw_all := lw_g (lw_at lw_m4 205 rfl) rfl
theorem in_X3 : ∀ w ∈ wsX30, w ∈ lw_all := lw_in wsX30 [340, 342, 344, 346, 348, 350, 352, 354] (by decide +kernel) (by decide +kernel)

/-! EightLegs$Change -/
set_option maxRecDepth 100000
def RX4 : String := "EightLegs$Change"
def TX4 : u_T := fun k => match k with
  | 0 => ("EightLegs$Change", "of", "I", true)
  | 1 => ("EightLegs$Change", "at", "I", true)
  | 2 => ("EightLegs$Change", "before", "I", true)
  | _ => ("EightLegs$Change", "behind", "I", true)
def tyX4 : Nat → FieldType := fun k => match k with
  | 0 => .int
  | 1 => .int
  | 2 => .int
  | _ => .int
abbrev wsX40 : List Cond := u_ws RX4 TX4 4
theorem nmX4 : ∀ a, a < 4 → ∀ b, b < 4 → a ≠ b → (TX4 a).2.1 ≠ (TX4 b).2.1 := by decide +kernel
theorem tyX4_ok : ∀ k, k < 4 → parseFieldDescriptor (TX4 k).2.2.1 = some (tyX4 k) := by decide +kernel
abbrev cX4_init : ByteArray := prog_6_method_1_code
def yX4_init : MethodName := ⟨RX4, "<init>", "(IIII)V"⟩
def dkwX4_init_1 : List UInt8 := [181, 0, 19, 177]
abbrev dktX4_init_1 : List UInt8 := dkwX4_init_1 ++ []
def dkwX4_init_0 : List UInt8 := [42, 183, 0, 1, 42, 27, 181, 0, 7, 42, 28, 181, 0, 13, 42, 29, 181, 0, 16, 42, 21, 4]
abbrev dktX4_init_0 : List UInt8 := dkwX4_init_0 ++ dktX4_init_1
theorem dksX4_init_0 : cX4_init.data.toList.drop 0 = dktX4_init_0 := by decide +kernel
theorem dksX4_init_1 : cX4_init.data.toList.drop 22 = dktX4_init_1 := dk_seg dksX4_init_0 22 rfl rfl
theorem dX4_init_0 : decode cX4_init 0 = .ok (.aload_n 0, 1) := dk_42 (dk_at dksX4_init_0 0 rfl rfl)
theorem dX4_init_1 : decode cX4_init 1 = .ok (.invokespecial 1, 3) := dk_183 0 1 (dk_at dksX4_init_0 1 rfl rfl)
theorem dX4_init_4 : decode cX4_init 4 = .ok (.aload_n 0, 1) := dk_42 (dk_at dksX4_init_0 4 rfl rfl)
theorem dX4_init_5 : decode cX4_init 5 = .ok (.iload_n 1, 1) := dk_27 (dk_at dksX4_init_0 5 rfl rfl)
theorem dX4_init_6 : decode cX4_init 6 = .ok (.putfield 7, 3) := dk_181 0 7 (dk_at dksX4_init_0 6 rfl rfl)
theorem dX4_init_9 : decode cX4_init 9 = .ok (.aload_n 0, 1) := dk_42 (dk_at dksX4_init_0 9 rfl rfl)
theorem dX4_init_10 : decode cX4_init 10 = .ok (.iload_n 2, 1) := dk_28 (dk_at dksX4_init_0 10 rfl rfl)
theorem dX4_init_11 : decode cX4_init 11 = .ok (.putfield 13, 3) := dk_181 0 13 (dk_at dksX4_init_0 11 rfl rfl)
theorem dX4_init_14 : decode cX4_init 14 = .ok (.aload_n 0, 1) := dk_42 (dk_at dksX4_init_0 14 rfl rfl)
theorem dX4_init_15 : decode cX4_init 15 = .ok (.iload_n 3, 1) := dk_29 (dk_at dksX4_init_0 15 rfl rfl)
theorem dX4_init_16 : decode cX4_init 16 = .ok (.putfield 16, 3) := dk_181 0 16 (dk_at dksX4_init_0 16 rfl rfl)
theorem dX4_init_19 : decode cX4_init 19 = .ok (.aload_n 0, 1) := dk_42 (dk_at dksX4_init_0 19 rfl rfl)
theorem dX4_init_20 : decode cX4_init 20 = .ok (.iload 4, 2) := dk_21 4 (dk_at dksX4_init_0 20 rfl rfl)
theorem dX4_init_22 : decode cX4_init 22 = .ok (.putfield 19, 3) := dk_181 0 19 (dk_at dksX4_init_1 0 rfl rfl)
theorem dX4_init_25 : decode cX4_init 25 = .ok (.return_, 1) := dk_177 (dk_at dksX4_init_1 3 rfl rfl)
theorem q112 : (Jvm.Cond.initialized "EightLegs$Change") ∈ lw_all := lw_g (lw_at lw_m1 13 rfl) rfl
theorem q532 : (Jvm.Cond.instantiable "EightLegs$Change" (4 : Nat)) ∈ lw_all := lw_g (lw_at lw_m2 193 rfl) rfl
theorem q534 : (Jvm.Cond.instanceMethod ({ cls := "EightLegs$Change", name := "<init>", desc := "(IIII)V" } : Jvm.MethodName)) ∈ lw_all := lw_g (lw_at lw_m2 195 rfl) rfl
theorem q535 : (Jvm.Cond.code ({ cls := "EightLegs$Change", name := "<init>", desc := "(IIII)V" } : Jvm.MethodName) prog_6_method_1_code (5 : Nat) (Option.none : Option Jvm.ClassFile.FieldType)) ∈ lw_all := lw_g (lw_at lw_m2 196 rfl) rfl
theorem q536 : (Jvm.Cond.methodLink "EightLegs$Change" (1 : Nat) ({ cls := "java/lang/Object", name := "<init>", desc := "()V" } : Jvm.MethodName)) ∈ lw_all := lw_g (lw_at lw_m2 197 rfl) rfl
theorem q537 : (Jvm.Cond.fieldLink "EightLegs$Change" (7 : Nat) "EightLegs$Change" "of" "I") ∈ lw_all := lw_g (lw_at lw_m2 198 rfl) rfl
theorem q539 : (Jvm.Cond.fieldLink "EightLegs$Change" (13 : Nat) "EightLegs$Change" "at" "I") ∈ lw_all := lw_g (lw_at lw_m2 200 rfl) rfl
theorem q541 : (Jvm.Cond.fieldLink "EightLegs$Change" (16 : Nat) "EightLegs$Change" "before" "I") ∈ lw_all := lw_g (lw_at lw_m2 202 rfl) rfl
theorem q543 : (Jvm.Cond.fieldLink "EightLegs$Change" (19 : Nat) "EightLegs$Change" "behind" "I") ∈ lw_all := lw_g (lw_at lw_m2 204 rfl) rfl
theorem q545 : (Jvm.Cond.laysFinal "EightLegs$Change" "EightLegs$Change" "of" "I") ∈ lw_all := lw_g (lw_at lw_m2 206 rfl) rfl
theorem q546 : (Jvm.Cond.soleField "EightLegs$Change" "of") ∈ lw_all := lw_g (lw_at lw_m2 207 rfl) rfl
theorem q547 : (Jvm.Cond.laysFinal "EightLegs$Change" "EightLegs$Change" "at" "I") ∈ lw_all := lw_g (lw_at lw_m2 208 rfl) rfl
theorem q548 : (Jvm.Cond.soleField "EightLegs$Change" "at") ∈ lw_all := lw_g (lw_at lw_m2 209 rfl) rfl
theorem q549 : (Jvm.Cond.laysFinal "EightLegs$Change" "EightLegs$Change" "before" "I") ∈ lw_all := lw_g (lw_at lw_m2 210 rfl) rfl
theorem q550 : (Jvm.Cond.soleField "EightLegs$Change" "before") ∈ lw_all := lw_g (lw_at lw_m2 211 rfl) rfl
theorem q551 : (Jvm.Cond.laysFinal "EightLegs$Change" "EightLegs$Change" "behind" "I") ∈ lw_all := lw_g (lw_at lw_m2 212 rfl) rfl
theorem q552 : (Jvm.Cond.soleField "EightLegs$Change" "behind") ∈ lw_all := lw_g (lw_at lw_m2 213 rfl) rfl
theorem q553 : (Jvm.Cond.superclass "EightLegs$Change" "java/lang/Object") ∈ lw_all := lw_g (lw_at lw_m2 214 rfl) rfl
theorem in_X4 : ∀ w ∈ wsX40, w ∈ lw_all := lw_in wsX40 [545, 547, 549, 551] (by decide +kernel) (by decide +kernel)

/-! EightLegs$Reader -/
set_option maxRecDepth 100000
def RX5 : String := "EightLegs$Reader"
def TX5 : u_T := fun k => match k with
  | 0 => ("EightLegs$Reader", "at", "I", false)
  | 1 => ("EightLegs$Reader", "fault", "I", false)
  | 2 => ("EightLegs$Reader", "open", "I", false)
  | _ => ("EightLegs$Reader", "this$0", "LEightLegs;", true)
def tyX5 : Nat → FieldType := fun k => match k with
  | 0 => .int
  | 1 => .int
  | 2 => .int
  | _ => .object "EightLegs"
abbrev wsX50 : List Cond := u_ws RX5 TX5 4
theorem nmX5 : ∀ a, a < 4 → ∀ b, b < 4 → a ≠ b → (TX5 a).2.1 ≠ (TX5 b).2.1 := by decide +kernel
theorem tyX5_ok : ∀ k, k < 4 → parseFieldDescriptor (TX5 k).2.2.1 = some (tyX5 k) := by decide +kernel
abbrev cX5_init : ByteArray := prog_22_method_1_code
def yX5_init : MethodName := ⟨RX5, "<init>", "(LEightLegs;)V"⟩
def dkwX5_init_0 : List UInt8 := [42, 43, 181, 0, 3, 42, 183, 0, 9, 42, 2, 181, 0, 15, 177]
abbrev dktX5_init_0 : List UInt8 := dkwX5_init_0 ++ []
theorem dksX5_init_0 : cX5_init.data.toList.drop 0 = dktX5_init_0 := by decide +kernel
theorem dX5_init_0 : decode cX5_init 0 = .ok (.aload_n 0, 1) := dk_42 (dk_at dksX5_init_0 0 rfl rfl)
theorem dX5_init_1 : decode cX5_init 1 = .ok (.aload_n 1, 1) := dk_43 (dk_at dksX5_init_0 1 rfl rfl)
theorem dX5_init_2 : decode cX5_init 2 = .ok (.putfield 3, 3) := dk_181 0 3 (dk_at dksX5_init_0 2 rfl rfl)
theorem dX5_init_5 : decode cX5_init 5 = .ok (.aload_n 0, 1) := dk_42 (dk_at dksX5_init_0 5 rfl rfl)
theorem dX5_init_6 : decode cX5_init 6 = .ok (.invokespecial 9, 3) := dk_183 0 9 (dk_at dksX5_init_0 6 rfl rfl)
theorem dX5_init_9 : decode cX5_init 9 = .ok (.aload_n 0, 1) := dk_42 (dk_at dksX5_init_0 9 rfl rfl)
theorem dX5_init_10 : decode cX5_init 10 = .ok (.iconst (-1), 1) := dk_2 (dk_at dksX5_init_0 10 rfl rfl)
theorem dX5_init_11 : decode cX5_init 11 = .ok (.putfield 15, 3) := dk_181 0 15 (dk_at dksX5_init_0 11 rfl rfl)
theorem dX5_init_14 : decode cX5_init 14 = .ok (.return_, 1) := dk_177 (dk_at dksX5_init_0 14 rfl rfl)
abbrev cX5_lines : ByteArray := prog_22_method_5_code
def yX5_lines : MethodName := ⟨RX5, "lines", "()LEightLegs$Line;"⟩
def dkwX5_lines_3 : List UInt8 := [42, 42, 180, 0, 19, 181, 0, 15, 43, 176]
abbrev dktX5_lines_3 : List UInt8 := dkwX5_lines_3 ++ []
def dkwX5_lines_2 : List UInt8 := [167, 255, 217, 42, 180, 0, 15, 156, 0, 25, 42, 180, 0, 19, 42, 180, 0, 3, 180, 0, 22, 162, 0, 11]
abbrev dktX5_lines_2 : List UInt8 := dkwX5_lines_2 ++ dktX5_lines_3
def dkwX5_lines_1 : List UInt8 := [89, 180, 0, 19, 4, 96, 181, 0, 19, 44, 42, 182, 0, 39, 181, 0, 43, 44, 180, 0, 43, 77]
abbrev dktX5_lines_1 : List UInt8 := dkwX5_lines_1 ++ dktX5_lines_2
def dkwX5_lines_0 : List UInt8 := [42, 182, 0, 39, 76, 43, 77, 42, 180, 0, 15, 156, 0, 38, 42, 182, 0, 29, 16, 59, 160, 0, 29, 42]
abbrev dktX5_lines_0 : List UInt8 := dkwX5_lines_0 ++ dktX5_lines_1
theorem dksX5_lines_0 : cX5_lines.data.toList.drop 0 = dktX5_lines_0 := by decide +kernel
theorem dksX5_lines_1 : cX5_lines.data.toList.drop 24 = dktX5_lines_1 := dk_seg dksX5_lines_0 24 rfl rfl
theorem dksX5_lines_2 : cX5_lines.data.toList.drop 46 = dktX5_lines_2 := dk_seg dksX5_lines_1 22 rfl rfl
theorem dksX5_lines_3 : cX5_lines.data.toList.drop 70 = dktX5_lines_3 := dk_seg dksX5_lines_2 24 rfl rfl
theorem dX5_lines_0 : decode cX5_lines 0 = .ok (.aload_n 0, 1) := dk_42 (dk_at dksX5_lines_0 0 rfl rfl)
theorem dX5_lines_1 : decode cX5_lines 1 = .ok (.invokevirtual 39, 3) := dk_182 0 39 (dk_at dksX5_lines_0 1 rfl rfl)
theorem dX5_lines_4 : decode cX5_lines 4 = .ok (.astore_n 1, 1) := dk_76 (dk_at dksX5_lines_0 4 rfl rfl)
theorem dX5_lines_5 : decode cX5_lines 5 = .ok (.aload_n 1, 1) := dk_43 (dk_at dksX5_lines_0 5 rfl rfl)
theorem dX5_lines_6 : decode cX5_lines 6 = .ok (.astore_n 2, 1) := dk_77 (dk_at dksX5_lines_0 6 rfl rfl)
theorem dX5_lines_7 : decode cX5_lines 7 = .ok (.aload_n 0, 1) := dk_42 (dk_at dksX5_lines_0 7 rfl rfl)
theorem dX5_lines_8 : decode cX5_lines 8 = .ok (.getfield 15, 3) := dk_180 0 15 (dk_at dksX5_lines_0 8 rfl rfl)
theorem dX5_lines_11 : decode cX5_lines 11 = .ok (.ifCond .ge 38, 3) := dk_156 0 38 (dk_at dksX5_lines_0 11 rfl rfl)
theorem dX5_lines_14 : decode cX5_lines 14 = .ok (.aload_n 0, 1) := dk_42 (dk_at dksX5_lines_0 14 rfl rfl)
theorem dX5_lines_15 : decode cX5_lines 15 = .ok (.invokevirtual 29, 3) := dk_182 0 29 (dk_at dksX5_lines_0 15 rfl rfl)
theorem dX5_lines_18 : decode cX5_lines 18 = .ok (.bipush 59, 2) := dk_16 59 (dk_at dksX5_lines_0 18 rfl rfl)
theorem dX5_lines_20 : decode cX5_lines 20 = .ok (.if_icmp .ne 29, 3) := dk_160 0 29 (dk_at dksX5_lines_0 20 rfl rfl)
theorem dX5_lines_23 : decode cX5_lines 23 = .ok (.aload_n 0, 1) := dk_42 (dk_at dksX5_lines_0 23 rfl rfl)
theorem dX5_lines_24 : decode cX5_lines 24 = .ok (.dup, 1) := dk_89 (dk_at dksX5_lines_1 0 rfl rfl)
theorem dX5_lines_25 : decode cX5_lines 25 = .ok (.getfield 19, 3) := dk_180 0 19 (dk_at dksX5_lines_1 1 rfl rfl)
theorem dX5_lines_28 : decode cX5_lines 28 = .ok (.iconst 1, 1) := dk_4 (dk_at dksX5_lines_1 4 rfl rfl)
theorem dX5_lines_29 : decode cX5_lines 29 = .ok (.iadd, 1) := dk_96 (dk_at dksX5_lines_1 5 rfl rfl)
theorem dX5_lines_30 : decode cX5_lines 30 = .ok (.putfield 19, 3) := dk_181 0 19 (dk_at dksX5_lines_1 6 rfl rfl)
theorem dX5_lines_33 : decode cX5_lines 33 = .ok (.aload_n 2, 1) := dk_44 (dk_at dksX5_lines_1 9 rfl rfl)
theorem dX5_lines_34 : decode cX5_lines 34 = .ok (.aload_n 0, 1) := dk_42 (dk_at dksX5_lines_1 10 rfl rfl)
theorem dX5_lines_35 : decode cX5_lines 35 = .ok (.invokevirtual 39, 3) := dk_182 0 39 (dk_at dksX5_lines_1 11 rfl rfl)
theorem dX5_lines_38 : decode cX5_lines 38 = .ok (.putfield 43, 3) := dk_181 0 43 (dk_at dksX5_lines_1 14 rfl rfl)
theorem dX5_lines_41 : decode cX5_lines 41 = .ok (.aload_n 2, 1) := dk_44 (dk_at dksX5_lines_1 17 rfl rfl)
theorem dX5_lines_42 : decode cX5_lines 42 = .ok (.getfield 43, 3) := dk_180 0 43 (dk_at dksX5_lines_1 18 rfl rfl)
theorem dX5_lines_45 : decode cX5_lines 45 = .ok (.astore_n 2, 1) := dk_77 (dk_at dksX5_lines_1 21 rfl rfl)
theorem dX5_lines_46 : decode cX5_lines 46 = .ok (.goto (-39), 3) := dk_167 255 217 (dk_at dksX5_lines_2 0 rfl rfl)
theorem dX5_lines_49 : decode cX5_lines 49 = .ok (.aload_n 0, 1) := dk_42 (dk_at dksX5_lines_2 3 rfl rfl)
theorem dX5_lines_50 : decode cX5_lines 50 = .ok (.getfield 15, 3) := dk_180 0 15 (dk_at dksX5_lines_2 4 rfl rfl)
theorem dX5_lines_53 : decode cX5_lines 53 = .ok (.ifCond .ge 25, 3) := dk_156 0 25 (dk_at dksX5_lines_2 7 rfl rfl)
theorem dX5_lines_56 : decode cX5_lines 56 = .ok (.aload_n 0, 1) := dk_42 (dk_at dksX5_lines_2 10 rfl rfl)
theorem dX5_lines_57 : decode cX5_lines 57 = .ok (.getfield 19, 3) := dk_180 0 19 (dk_at dksX5_lines_2 11 rfl rfl)
theorem dX5_lines_60 : decode cX5_lines 60 = .ok (.aload_n 0, 1) := dk_42 (dk_at dksX5_lines_2 14 rfl rfl)
theorem dX5_lines_61 : decode cX5_lines 61 = .ok (.getfield 3, 3) := dk_180 0 3 (dk_at dksX5_lines_2 15 rfl rfl)
theorem dX5_lines_64 : decode cX5_lines 64 = .ok (.getfield 22, 3) := dk_180 0 22 (dk_at dksX5_lines_2 18 rfl rfl)
theorem dX5_lines_67 : decode cX5_lines 67 = .ok (.if_icmp .ge 11, 3) := dk_162 0 11 (dk_at dksX5_lines_2 21 rfl rfl)
theorem dX5_lines_70 : decode cX5_lines 70 = .ok (.aload_n 0, 1) := dk_42 (dk_at dksX5_lines_3 0 rfl rfl)
theorem dX5_lines_71 : decode cX5_lines 71 = .ok (.aload_n 0, 1) := dk_42 (dk_at dksX5_lines_3 1 rfl rfl)
theorem dX5_lines_72 : decode cX5_lines 72 = .ok (.getfield 19, 3) := dk_180 0 19 (dk_at dksX5_lines_3 2 rfl rfl)
theorem dX5_lines_75 : decode cX5_lines 75 = .ok (.putfield 15, 3) := dk_181 0 15 (dk_at dksX5_lines_3 5 rfl rfl)
theorem dX5_lines_78 : decode cX5_lines 78 = .ok (.aload_n 1, 1) := dk_43 (dk_at dksX5_lines_3 8 rfl rfl)
theorem dX5_lines_79 : decode cX5_lines 79 = .ok (.areturn, 1) := dk_176 (dk_at dksX5_lines_3 9 rfl rfl)
abbrev cX5_line : ByteArray := prog_22_method_6_code
def yX5_line : MethodName := ⟨RX5, "line", "()LEightLegs$Line;"⟩
def dkwX5_line_2 : List UInt8 := [180, 0, 54, 181, 0, 58, 43, 42, 182, 0, 50, 181, 0, 54, 43, 176]
abbrev dktX5_line_2 : List UInt8 := dkwX5_line_2 ++ []
def dkwX5_line_1 : List UInt8 := [182, 0, 29, 16, 63, 159, 0, 5, 43, 176, 42, 89, 180, 0, 19, 4, 96, 181, 0, 19, 43, 43]
abbrev dktX5_line_1 : List UInt8 := dkwX5_line_1 ++ dktX5_line_2
def dkwX5_line_0 : List UInt8 := [187, 0, 44, 89, 183, 0, 49, 76, 43, 42, 182, 0, 50, 181, 0, 54, 42, 180, 0, 15, 156, 0, 12, 42]
abbrev dktX5_line_0 : List UInt8 := dkwX5_line_0 ++ dktX5_line_1
theorem dksX5_line_0 : cX5_line.data.toList.drop 0 = dktX5_line_0 := by decide +kernel
theorem dksX5_line_1 : cX5_line.data.toList.drop 24 = dktX5_line_1 := dk_seg dksX5_line_0 24 rfl rfl
theorem dksX5_line_2 : cX5_line.data.toList.drop 46 = dktX5_line_2 := dk_seg dksX5_line_1 22 rfl rfl
theorem dX5_line_0 : decode cX5_line 0 = .ok (.new 44, 3) := dk_187 0 44 (dk_at dksX5_line_0 0 rfl rfl)
theorem dX5_line_3 : decode cX5_line 3 = .ok (.dup, 1) := dk_89 (dk_at dksX5_line_0 3 rfl rfl)
theorem dX5_line_4 : decode cX5_line 4 = .ok (.invokespecial 49, 3) := dk_183 0 49 (dk_at dksX5_line_0 4 rfl rfl)
theorem dX5_line_7 : decode cX5_line 7 = .ok (.astore_n 1, 1) := dk_76 (dk_at dksX5_line_0 7 rfl rfl)
theorem dX5_line_8 : decode cX5_line 8 = .ok (.aload_n 1, 1) := dk_43 (dk_at dksX5_line_0 8 rfl rfl)
theorem dX5_line_9 : decode cX5_line 9 = .ok (.aload_n 0, 1) := dk_42 (dk_at dksX5_line_0 9 rfl rfl)
theorem dX5_line_10 : decode cX5_line 10 = .ok (.invokevirtual 50, 3) := dk_182 0 50 (dk_at dksX5_line_0 10 rfl rfl)
theorem dX5_line_13 : decode cX5_line 13 = .ok (.putfield 54, 3) := dk_181 0 54 (dk_at dksX5_line_0 13 rfl rfl)
theorem dX5_line_16 : decode cX5_line 16 = .ok (.aload_n 0, 1) := dk_42 (dk_at dksX5_line_0 16 rfl rfl)
theorem dX5_line_17 : decode cX5_line 17 = .ok (.getfield 15, 3) := dk_180 0 15 (dk_at dksX5_line_0 17 rfl rfl)
theorem dX5_line_20 : decode cX5_line 20 = .ok (.ifCond .ge 12, 3) := dk_156 0 12 (dk_at dksX5_line_0 20 rfl rfl)
theorem dX5_line_23 : decode cX5_line 23 = .ok (.aload_n 0, 1) := dk_42 (dk_at dksX5_line_0 23 rfl rfl)
theorem dX5_line_24 : decode cX5_line 24 = .ok (.invokevirtual 29, 3) := dk_182 0 29 (dk_at dksX5_line_1 0 rfl rfl)
theorem dX5_line_27 : decode cX5_line 27 = .ok (.bipush 63, 2) := dk_16 63 (dk_at dksX5_line_1 3 rfl rfl)
theorem dX5_line_29 : decode cX5_line 29 = .ok (.if_icmp .eq 5, 3) := dk_159 0 5 (dk_at dksX5_line_1 5 rfl rfl)
theorem dX5_line_32 : decode cX5_line 32 = .ok (.aload_n 1, 1) := dk_43 (dk_at dksX5_line_1 8 rfl rfl)
theorem dX5_line_33 : decode cX5_line 33 = .ok (.areturn, 1) := dk_176 (dk_at dksX5_line_1 9 rfl rfl)
theorem dX5_line_34 : decode cX5_line 34 = .ok (.aload_n 0, 1) := dk_42 (dk_at dksX5_line_1 10 rfl rfl)
theorem dX5_line_35 : decode cX5_line 35 = .ok (.dup, 1) := dk_89 (dk_at dksX5_line_1 11 rfl rfl)
theorem dX5_line_36 : decode cX5_line 36 = .ok (.getfield 19, 3) := dk_180 0 19 (dk_at dksX5_line_1 12 rfl rfl)
theorem dX5_line_39 : decode cX5_line 39 = .ok (.iconst 1, 1) := dk_4 (dk_at dksX5_line_1 15 rfl rfl)
theorem dX5_line_40 : decode cX5_line 40 = .ok (.iadd, 1) := dk_96 (dk_at dksX5_line_1 16 rfl rfl)
theorem dX5_line_41 : decode cX5_line 41 = .ok (.putfield 19, 3) := dk_181 0 19 (dk_at dksX5_line_1 17 rfl rfl)
theorem dX5_line_44 : decode cX5_line 44 = .ok (.aload_n 1, 1) := dk_43 (dk_at dksX5_line_1 20 rfl rfl)
theorem dX5_line_45 : decode cX5_line 45 = .ok (.aload_n 1, 1) := dk_43 (dk_at dksX5_line_1 21 rfl rfl)
theorem dX5_line_46 : decode cX5_line 46 = .ok (.getfield 54, 3) := dk_180 0 54 (dk_at dksX5_line_2 0 rfl rfl)
theorem dX5_line_49 : decode cX5_line 49 = .ok (.putfield 58, 3) := dk_181 0 58 (dk_at dksX5_line_2 3 rfl rfl)
theorem dX5_line_52 : decode cX5_line 52 = .ok (.aload_n 1, 1) := dk_43 (dk_at dksX5_line_2 6 rfl rfl)
theorem dX5_line_53 : decode cX5_line 53 = .ok (.aload_n 0, 1) := dk_42 (dk_at dksX5_line_2 7 rfl rfl)
theorem dX5_line_54 : decode cX5_line 54 = .ok (.invokevirtual 50, 3) := dk_182 0 50 (dk_at dksX5_line_2 8 rfl rfl)
theorem dX5_line_57 : decode cX5_line 57 = .ok (.putfield 54, 3) := dk_181 0 54 (dk_at dksX5_line_2 11 rfl rfl)
theorem dX5_line_60 : decode cX5_line 60 = .ok (.aload_n 1, 1) := dk_43 (dk_at dksX5_line_2 14 rfl rfl)
theorem dX5_line_61 : decode cX5_line 61 = .ok (.areturn, 1) := dk_176 (dk_at dksX5_line_2 15 rfl rfl)
abbrev cX5_either : ByteArray := prog_22_method_8_code
def yX5_either : MethodName := ⟨RX5, "either", "()LEightLegs$Node;"⟩
def dkwX5_either_2 : List UInt8 := [176]
abbrev dktX5_either_2 : List UInt8 := dkwX5_either_2 ++ []
def dkwX5_either_1 : List UInt8 := [180, 0, 19, 4, 96, 181, 0, 19, 42, 16, 124, 43, 42, 182, 0, 66, 182, 0, 69, 76, 167, 255, 218, 43]
abbrev dktX5_either_1 : List UInt8 := dkwX5_either_1 ++ dktX5_either_2
def dkwX5_either_0 : List UInt8 := [42, 182, 0, 66, 76, 42, 180, 0, 15, 156, 0, 37, 42, 182, 0, 29, 16, 124, 160, 0, 28, 42, 89]
abbrev dktX5_either_0 : List UInt8 := dkwX5_either_0 ++ dktX5_either_1
theorem dksX5_either_0 : cX5_either.data.toList.drop 0 = dktX5_either_0 := by decide +kernel
theorem dksX5_either_1 : cX5_either.data.toList.drop 23 = dktX5_either_1 := dk_seg dksX5_either_0 23 rfl rfl
theorem dksX5_either_2 : cX5_either.data.toList.drop 47 = dktX5_either_2 := dk_seg dksX5_either_1 24 rfl rfl
theorem dX5_either_0 : decode cX5_either 0 = .ok (.aload_n 0, 1) := dk_42 (dk_at dksX5_either_0 0 rfl rfl)
theorem dX5_either_1 : decode cX5_either 1 = .ok (.invokevirtual 66, 3) := dk_182 0 66 (dk_at dksX5_either_0 1 rfl rfl)
theorem dX5_either_4 : decode cX5_either 4 = .ok (.astore_n 1, 1) := dk_76 (dk_at dksX5_either_0 4 rfl rfl)
theorem dX5_either_5 : decode cX5_either 5 = .ok (.aload_n 0, 1) := dk_42 (dk_at dksX5_either_0 5 rfl rfl)
theorem dX5_either_6 : decode cX5_either 6 = .ok (.getfield 15, 3) := dk_180 0 15 (dk_at dksX5_either_0 6 rfl rfl)
theorem dX5_either_9 : decode cX5_either 9 = .ok (.ifCond .ge 37, 3) := dk_156 0 37 (dk_at dksX5_either_0 9 rfl rfl)
theorem dX5_either_12 : decode cX5_either 12 = .ok (.aload_n 0, 1) := dk_42 (dk_at dksX5_either_0 12 rfl rfl)
theorem dX5_either_13 : decode cX5_either 13 = .ok (.invokevirtual 29, 3) := dk_182 0 29 (dk_at dksX5_either_0 13 rfl rfl)
theorem dX5_either_16 : decode cX5_either 16 = .ok (.bipush 124, 2) := dk_16 124 (dk_at dksX5_either_0 16 rfl rfl)
theorem dX5_either_18 : decode cX5_either 18 = .ok (.if_icmp .ne 28, 3) := dk_160 0 28 (dk_at dksX5_either_0 18 rfl rfl)
theorem dX5_either_21 : decode cX5_either 21 = .ok (.aload_n 0, 1) := dk_42 (dk_at dksX5_either_0 21 rfl rfl)
theorem dX5_either_22 : decode cX5_either 22 = .ok (.dup, 1) := dk_89 (dk_at dksX5_either_0 22 rfl rfl)
theorem dX5_either_23 : decode cX5_either 23 = .ok (.getfield 19, 3) := dk_180 0 19 (dk_at dksX5_either_1 0 rfl rfl)
theorem dX5_either_26 : decode cX5_either 26 = .ok (.iconst 1, 1) := dk_4 (dk_at dksX5_either_1 3 rfl rfl)
theorem dX5_either_27 : decode cX5_either 27 = .ok (.iadd, 1) := dk_96 (dk_at dksX5_either_1 4 rfl rfl)
theorem dX5_either_28 : decode cX5_either 28 = .ok (.putfield 19, 3) := dk_181 0 19 (dk_at dksX5_either_1 5 rfl rfl)
theorem dX5_either_31 : decode cX5_either 31 = .ok (.aload_n 0, 1) := dk_42 (dk_at dksX5_either_1 8 rfl rfl)
theorem dX5_either_32 : decode cX5_either 32 = .ok (.bipush 124, 2) := dk_16 124 (dk_at dksX5_either_1 9 rfl rfl)
theorem dX5_either_34 : decode cX5_either 34 = .ok (.aload_n 1, 1) := dk_43 (dk_at dksX5_either_1 11 rfl rfl)
theorem dX5_either_35 : decode cX5_either 35 = .ok (.aload_n 0, 1) := dk_42 (dk_at dksX5_either_1 12 rfl rfl)
theorem dX5_either_36 : decode cX5_either 36 = .ok (.invokevirtual 66, 3) := dk_182 0 66 (dk_at dksX5_either_1 13 rfl rfl)
theorem dX5_either_39 : decode cX5_either 39 = .ok (.invokevirtual 69, 3) := dk_182 0 69 (dk_at dksX5_either_1 16 rfl rfl)
theorem dX5_either_42 : decode cX5_either 42 = .ok (.astore_n 1, 1) := dk_76 (dk_at dksX5_either_1 19 rfl rfl)
theorem dX5_either_43 : decode cX5_either 43 = .ok (.goto (-38), 3) := dk_167 255 218 (dk_at dksX5_either_1 20 rfl rfl)
theorem dX5_either_46 : decode cX5_either 46 = .ok (.aload_n 1, 1) := dk_43 (dk_at dksX5_either_1 23 rfl rfl)
theorem dX5_either_47 : decode cX5_either 47 = .ok (.areturn, 1) := dk_176 (dk_at dksX5_either_2 0 rfl rfl)
abbrev cX5_all : ByteArray := prog_22_method_9_code
def yX5_all : MethodName := ⟨RX5, "all", "()LEightLegs$Node;"⟩
def dkwX5_all_2 : List UInt8 := [176]
abbrev dktX5_all_2 : List UInt8 := dkwX5_all_2 ++ []
def dkwX5_all_1 : List UInt8 := [180, 0, 19, 4, 96, 181, 0, 19, 42, 16, 38, 43, 42, 182, 0, 73, 182, 0, 69, 76, 167, 255, 218, 43]
abbrev dktX5_all_1 : List UInt8 := dkwX5_all_1 ++ dktX5_all_2
def dkwX5_all_0 : List UInt8 := [42, 182, 0, 73, 76, 42, 180, 0, 15, 156, 0, 37, 42, 182, 0, 29, 16, 38, 160, 0, 28, 42, 89]
abbrev dktX5_all_0 : List UInt8 := dkwX5_all_0 ++ dktX5_all_1
theorem dksX5_all_0 : cX5_all.data.toList.drop 0 = dktX5_all_0 := by decide +kernel
theorem dksX5_all_1 : cX5_all.data.toList.drop 23 = dktX5_all_1 := dk_seg dksX5_all_0 23 rfl rfl
theorem dksX5_all_2 : cX5_all.data.toList.drop 47 = dktX5_all_2 := dk_seg dksX5_all_1 24 rfl rfl
theorem dX5_all_0 : decode cX5_all 0 = .ok (.aload_n 0, 1) := dk_42 (dk_at dksX5_all_0 0 rfl rfl)
theorem dX5_all_1 : decode cX5_all 1 = .ok (.invokevirtual 73, 3) := dk_182 0 73 (dk_at dksX5_all_0 1 rfl rfl)
theorem dX5_all_4 : decode cX5_all 4 = .ok (.astore_n 1, 1) := dk_76 (dk_at dksX5_all_0 4 rfl rfl)
theorem dX5_all_5 : decode cX5_all 5 = .ok (.aload_n 0, 1) := dk_42 (dk_at dksX5_all_0 5 rfl rfl)
theorem dX5_all_6 : decode cX5_all 6 = .ok (.getfield 15, 3) := dk_180 0 15 (dk_at dksX5_all_0 6 rfl rfl)
theorem dX5_all_9 : decode cX5_all 9 = .ok (.ifCond .ge 37, 3) := dk_156 0 37 (dk_at dksX5_all_0 9 rfl rfl)
theorem dX5_all_12 : decode cX5_all 12 = .ok (.aload_n 0, 1) := dk_42 (dk_at dksX5_all_0 12 rfl rfl)
theorem dX5_all_13 : decode cX5_all 13 = .ok (.invokevirtual 29, 3) := dk_182 0 29 (dk_at dksX5_all_0 13 rfl rfl)
theorem dX5_all_16 : decode cX5_all 16 = .ok (.bipush 38, 2) := dk_16 38 (dk_at dksX5_all_0 16 rfl rfl)
theorem dX5_all_18 : decode cX5_all 18 = .ok (.if_icmp .ne 28, 3) := dk_160 0 28 (dk_at dksX5_all_0 18 rfl rfl)
theorem dX5_all_21 : decode cX5_all 21 = .ok (.aload_n 0, 1) := dk_42 (dk_at dksX5_all_0 21 rfl rfl)
theorem dX5_all_22 : decode cX5_all 22 = .ok (.dup, 1) := dk_89 (dk_at dksX5_all_0 22 rfl rfl)
theorem dX5_all_23 : decode cX5_all 23 = .ok (.getfield 19, 3) := dk_180 0 19 (dk_at dksX5_all_1 0 rfl rfl)
theorem dX5_all_26 : decode cX5_all 26 = .ok (.iconst 1, 1) := dk_4 (dk_at dksX5_all_1 3 rfl rfl)
theorem dX5_all_27 : decode cX5_all 27 = .ok (.iadd, 1) := dk_96 (dk_at dksX5_all_1 4 rfl rfl)
theorem dX5_all_28 : decode cX5_all 28 = .ok (.putfield 19, 3) := dk_181 0 19 (dk_at dksX5_all_1 5 rfl rfl)
theorem dX5_all_31 : decode cX5_all 31 = .ok (.aload_n 0, 1) := dk_42 (dk_at dksX5_all_1 8 rfl rfl)
theorem dX5_all_32 : decode cX5_all 32 = .ok (.bipush 38, 2) := dk_16 38 (dk_at dksX5_all_1 9 rfl rfl)
theorem dX5_all_34 : decode cX5_all 34 = .ok (.aload_n 1, 1) := dk_43 (dk_at dksX5_all_1 11 rfl rfl)
theorem dX5_all_35 : decode cX5_all 35 = .ok (.aload_n 0, 1) := dk_42 (dk_at dksX5_all_1 12 rfl rfl)
theorem dX5_all_36 : decode cX5_all 36 = .ok (.invokevirtual 73, 3) := dk_182 0 73 (dk_at dksX5_all_1 13 rfl rfl)
theorem dX5_all_39 : decode cX5_all 39 = .ok (.invokevirtual 69, 3) := dk_182 0 69 (dk_at dksX5_all_1 16 rfl rfl)
theorem dX5_all_42 : decode cX5_all 42 = .ok (.astore_n 1, 1) := dk_76 (dk_at dksX5_all_1 19 rfl rfl)
theorem dX5_all_43 : decode cX5_all 43 = .ok (.goto (-38), 3) := dk_167 255 218 (dk_at dksX5_all_1 20 rfl rfl)
theorem dX5_all_46 : decode cX5_all 46 = .ok (.aload_n 1, 1) := dk_43 (dk_at dksX5_all_1 23 rfl rfl)
theorem dX5_all_47 : decode cX5_all 47 = .ok (.areturn, 1) := dk_176 (dk_at dksX5_all_2 0 rfl rfl)
abbrev cX5_compared : ByteArray := prog_22_method_10_code
def yX5_compared : MethodName := ⟨RX5, "compared", "()LEightLegs$Node;"⟩
def dkwX5_compared_2 : List UInt8 := [176]
abbrev dktX5_compared_2 : List UInt8 := dkwX5_compared_2 ++ []
def dkwX5_compared_1 : List UInt8 := [182, 0, 29, 61, 42, 89, 180, 0, 19, 4, 96, 181, 0, 19, 42, 28, 43, 42, 182, 0, 76, 182, 0, 69]
abbrev dktX5_compared_1 : List UInt8 := dkwX5_compared_1 ++ dktX5_compared_2
def dkwX5_compared_0 : List UInt8 := [42, 182, 0, 76, 76, 42, 180, 0, 15, 156, 0, 12, 42, 18, 79, 182, 0, 81, 154, 0, 5, 43, 176, 42]
abbrev dktX5_compared_0 : List UInt8 := dkwX5_compared_0 ++ dktX5_compared_1
theorem dksX5_compared_0 : cX5_compared.data.toList.drop 0 = dktX5_compared_0 := by decide +kernel
theorem dksX5_compared_1 : cX5_compared.data.toList.drop 24 = dktX5_compared_1 := dk_seg dksX5_compared_0 24 rfl rfl
theorem dksX5_compared_2 : cX5_compared.data.toList.drop 48 = dktX5_compared_2 := dk_seg dksX5_compared_1 24 rfl rfl
theorem dX5_compared_0 : decode cX5_compared 0 = .ok (.aload_n 0, 1) := dk_42 (dk_at dksX5_compared_0 0 rfl rfl)
theorem dX5_compared_1 : decode cX5_compared 1 = .ok (.invokevirtual 76, 3) := dk_182 0 76 (dk_at dksX5_compared_0 1 rfl rfl)
theorem dX5_compared_4 : decode cX5_compared 4 = .ok (.astore_n 1, 1) := dk_76 (dk_at dksX5_compared_0 4 rfl rfl)
theorem dX5_compared_5 : decode cX5_compared 5 = .ok (.aload_n 0, 1) := dk_42 (dk_at dksX5_compared_0 5 rfl rfl)
theorem dX5_compared_6 : decode cX5_compared 6 = .ok (.getfield 15, 3) := dk_180 0 15 (dk_at dksX5_compared_0 6 rfl rfl)
theorem dX5_compared_9 : decode cX5_compared 9 = .ok (.ifCond .ge 12, 3) := dk_156 0 12 (dk_at dksX5_compared_0 9 rfl rfl)
theorem dX5_compared_12 : decode cX5_compared 12 = .ok (.aload_n 0, 1) := dk_42 (dk_at dksX5_compared_0 12 rfl rfl)
theorem dX5_compared_13 : decode cX5_compared 13 = .ok (.ldc 79, 2) := dk_18 79 (dk_at dksX5_compared_0 13 rfl rfl)
theorem dX5_compared_15 : decode cX5_compared 15 = .ok (.invokevirtual 81, 3) := dk_182 0 81 (dk_at dksX5_compared_0 15 rfl rfl)
theorem dX5_compared_18 : decode cX5_compared 18 = .ok (.ifCond .ne 5, 3) := dk_154 0 5 (dk_at dksX5_compared_0 18 rfl rfl)
theorem dX5_compared_21 : decode cX5_compared 21 = .ok (.aload_n 1, 1) := dk_43 (dk_at dksX5_compared_0 21 rfl rfl)
theorem dX5_compared_22 : decode cX5_compared 22 = .ok (.areturn, 1) := dk_176 (dk_at dksX5_compared_0 22 rfl rfl)
theorem dX5_compared_23 : decode cX5_compared 23 = .ok (.aload_n 0, 1) := dk_42 (dk_at dksX5_compared_0 23 rfl rfl)
theorem dX5_compared_24 : decode cX5_compared 24 = .ok (.invokevirtual 29, 3) := dk_182 0 29 (dk_at dksX5_compared_1 0 rfl rfl)
theorem dX5_compared_27 : decode cX5_compared 27 = .ok (.istore_n 2, 1) := dk_61 (dk_at dksX5_compared_1 3 rfl rfl)
theorem dX5_compared_28 : decode cX5_compared 28 = .ok (.aload_n 0, 1) := dk_42 (dk_at dksX5_compared_1 4 rfl rfl)
theorem dX5_compared_29 : decode cX5_compared 29 = .ok (.dup, 1) := dk_89 (dk_at dksX5_compared_1 5 rfl rfl)
theorem dX5_compared_30 : decode cX5_compared 30 = .ok (.getfield 19, 3) := dk_180 0 19 (dk_at dksX5_compared_1 6 rfl rfl)
theorem dX5_compared_33 : decode cX5_compared 33 = .ok (.iconst 1, 1) := dk_4 (dk_at dksX5_compared_1 9 rfl rfl)
theorem dX5_compared_34 : decode cX5_compared 34 = .ok (.iadd, 1) := dk_96 (dk_at dksX5_compared_1 10 rfl rfl)
theorem dX5_compared_35 : decode cX5_compared 35 = .ok (.putfield 19, 3) := dk_181 0 19 (dk_at dksX5_compared_1 11 rfl rfl)
theorem dX5_compared_38 : decode cX5_compared 38 = .ok (.aload_n 0, 1) := dk_42 (dk_at dksX5_compared_1 14 rfl rfl)
theorem dX5_compared_39 : decode cX5_compared 39 = .ok (.iload_n 2, 1) := dk_28 (dk_at dksX5_compared_1 15 rfl rfl)
theorem dX5_compared_40 : decode cX5_compared 40 = .ok (.aload_n 1, 1) := dk_43 (dk_at dksX5_compared_1 16 rfl rfl)
theorem dX5_compared_41 : decode cX5_compared 41 = .ok (.aload_n 0, 1) := dk_42 (dk_at dksX5_compared_1 17 rfl rfl)
theorem dX5_compared_42 : decode cX5_compared 42 = .ok (.invokevirtual 76, 3) := dk_182 0 76 (dk_at dksX5_compared_1 18 rfl rfl)
theorem dX5_compared_45 : decode cX5_compared 45 = .ok (.invokevirtual 69, 3) := dk_182 0 69 (dk_at dksX5_compared_1 21 rfl rfl)
theorem dX5_compared_48 : decode cX5_compared 48 = .ok (.areturn, 1) := dk_176 (dk_at dksX5_compared_2 0 rfl rfl)
abbrev cX5_sum : ByteArray := prog_22_method_11_code
def yX5_sum : MethodName := ⟨RX5, "sum", "()LEightLegs$Node;"⟩
def dkwX5_sum_2 : List UInt8 := [76, 167, 255, 214, 43, 176]
abbrev dktX5_sum_2 : List UInt8 := dkwX5_sum_2 ++ []
def dkwX5_sum_1 : List UInt8 := [182, 0, 29, 61, 42, 89, 180, 0, 19, 4, 96, 181, 0, 19, 42, 28, 43, 42, 182, 0, 85, 182, 0, 69]
abbrev dktX5_sum_1 : List UInt8 := dkwX5_sum_1 ++ dktX5_sum_2
def dkwX5_sum_0 : List UInt8 := [42, 182, 0, 85, 76, 42, 180, 0, 15, 156, 0, 41, 42, 18, 88, 182, 0, 81, 153, 0, 32, 42]
abbrev dktX5_sum_0 : List UInt8 := dkwX5_sum_0 ++ dktX5_sum_1
theorem dksX5_sum_0 : cX5_sum.data.toList.drop 0 = dktX5_sum_0 := by decide +kernel
theorem dksX5_sum_1 : cX5_sum.data.toList.drop 22 = dktX5_sum_1 := dk_seg dksX5_sum_0 22 rfl rfl
theorem dksX5_sum_2 : cX5_sum.data.toList.drop 46 = dktX5_sum_2 := dk_seg dksX5_sum_1 24 rfl rfl
theorem dX5_sum_0 : decode cX5_sum 0 = .ok (.aload_n 0, 1) := dk_42 (dk_at dksX5_sum_0 0 rfl rfl)
theorem dX5_sum_1 : decode cX5_sum 1 = .ok (.invokevirtual 85, 3) := dk_182 0 85 (dk_at dksX5_sum_0 1 rfl rfl)
theorem dX5_sum_4 : decode cX5_sum 4 = .ok (.astore_n 1, 1) := dk_76 (dk_at dksX5_sum_0 4 rfl rfl)
theorem dX5_sum_5 : decode cX5_sum 5 = .ok (.aload_n 0, 1) := dk_42 (dk_at dksX5_sum_0 5 rfl rfl)
theorem dX5_sum_6 : decode cX5_sum 6 = .ok (.getfield 15, 3) := dk_180 0 15 (dk_at dksX5_sum_0 6 rfl rfl)
theorem dX5_sum_9 : decode cX5_sum 9 = .ok (.ifCond .ge 41, 3) := dk_156 0 41 (dk_at dksX5_sum_0 9 rfl rfl)
theorem dX5_sum_12 : decode cX5_sum 12 = .ok (.aload_n 0, 1) := dk_42 (dk_at dksX5_sum_0 12 rfl rfl)
theorem dX5_sum_13 : decode cX5_sum 13 = .ok (.ldc 88, 2) := dk_18 88 (dk_at dksX5_sum_0 13 rfl rfl)
theorem dX5_sum_15 : decode cX5_sum 15 = .ok (.invokevirtual 81, 3) := dk_182 0 81 (dk_at dksX5_sum_0 15 rfl rfl)
theorem dX5_sum_18 : decode cX5_sum 18 = .ok (.ifCond .eq 32, 3) := dk_153 0 32 (dk_at dksX5_sum_0 18 rfl rfl)
theorem dX5_sum_21 : decode cX5_sum 21 = .ok (.aload_n 0, 1) := dk_42 (dk_at dksX5_sum_0 21 rfl rfl)
theorem dX5_sum_22 : decode cX5_sum 22 = .ok (.invokevirtual 29, 3) := dk_182 0 29 (dk_at dksX5_sum_1 0 rfl rfl)
theorem dX5_sum_25 : decode cX5_sum 25 = .ok (.istore_n 2, 1) := dk_61 (dk_at dksX5_sum_1 3 rfl rfl)
theorem dX5_sum_26 : decode cX5_sum 26 = .ok (.aload_n 0, 1) := dk_42 (dk_at dksX5_sum_1 4 rfl rfl)
theorem dX5_sum_27 : decode cX5_sum 27 = .ok (.dup, 1) := dk_89 (dk_at dksX5_sum_1 5 rfl rfl)
theorem dX5_sum_28 : decode cX5_sum 28 = .ok (.getfield 19, 3) := dk_180 0 19 (dk_at dksX5_sum_1 6 rfl rfl)
theorem dX5_sum_31 : decode cX5_sum 31 = .ok (.iconst 1, 1) := dk_4 (dk_at dksX5_sum_1 9 rfl rfl)
theorem dX5_sum_32 : decode cX5_sum 32 = .ok (.iadd, 1) := dk_96 (dk_at dksX5_sum_1 10 rfl rfl)
theorem dX5_sum_33 : decode cX5_sum 33 = .ok (.putfield 19, 3) := dk_181 0 19 (dk_at dksX5_sum_1 11 rfl rfl)
theorem dX5_sum_36 : decode cX5_sum 36 = .ok (.aload_n 0, 1) := dk_42 (dk_at dksX5_sum_1 14 rfl rfl)
theorem dX5_sum_37 : decode cX5_sum 37 = .ok (.iload_n 2, 1) := dk_28 (dk_at dksX5_sum_1 15 rfl rfl)
theorem dX5_sum_38 : decode cX5_sum 38 = .ok (.aload_n 1, 1) := dk_43 (dk_at dksX5_sum_1 16 rfl rfl)
theorem dX5_sum_39 : decode cX5_sum 39 = .ok (.aload_n 0, 1) := dk_42 (dk_at dksX5_sum_1 17 rfl rfl)
theorem dX5_sum_40 : decode cX5_sum 40 = .ok (.invokevirtual 85, 3) := dk_182 0 85 (dk_at dksX5_sum_1 18 rfl rfl)
theorem dX5_sum_43 : decode cX5_sum 43 = .ok (.invokevirtual 69, 3) := dk_182 0 69 (dk_at dksX5_sum_1 21 rfl rfl)
theorem dX5_sum_46 : decode cX5_sum 46 = .ok (.astore_n 1, 1) := dk_76 (dk_at dksX5_sum_2 0 rfl rfl)
theorem dX5_sum_47 : decode cX5_sum 47 = .ok (.goto (-42), 3) := dk_167 255 214 (dk_at dksX5_sum_2 1 rfl rfl)
theorem dX5_sum_50 : decode cX5_sum 50 = .ok (.aload_n 1, 1) := dk_43 (dk_at dksX5_sum_2 4 rfl rfl)
theorem dX5_sum_51 : decode cX5_sum 51 = .ok (.areturn, 1) := dk_176 (dk_at dksX5_sum_2 5 rfl rfl)
abbrev cX5_product : ByteArray := prog_22_method_12_code
def yX5_product : MethodName := ⟨RX5, "product", "()LEightLegs$Node;"⟩
def dkwX5_product_2 : List UInt8 := [76, 167, 255, 214, 43, 176]
abbrev dktX5_product_2 : List UInt8 := dkwX5_product_2 ++ []
def dkwX5_product_1 : List UInt8 := [182, 0, 29, 61, 42, 89, 180, 0, 19, 4, 96, 181, 0, 19, 42, 28, 43, 42, 182, 0, 90, 182, 0, 69]
abbrev dktX5_product_1 : List UInt8 := dkwX5_product_1 ++ dktX5_product_2
def dkwX5_product_0 : List UInt8 := [42, 182, 0, 90, 76, 42, 180, 0, 15, 156, 0, 41, 42, 18, 93, 182, 0, 81, 153, 0, 32, 42]
abbrev dktX5_product_0 : List UInt8 := dkwX5_product_0 ++ dktX5_product_1
theorem dksX5_product_0 : cX5_product.data.toList.drop 0 = dktX5_product_0 := by decide +kernel
theorem dksX5_product_1 : cX5_product.data.toList.drop 22 = dktX5_product_1 := dk_seg dksX5_product_0 22 rfl rfl
theorem dksX5_product_2 : cX5_product.data.toList.drop 46 = dktX5_product_2 := dk_seg dksX5_product_1 24 rfl rfl
theorem dX5_product_0 : decode cX5_product 0 = .ok (.aload_n 0, 1) := dk_42 (dk_at dksX5_product_0 0 rfl rfl)
theorem dX5_product_1 : decode cX5_product 1 = .ok (.invokevirtual 90, 3) := dk_182 0 90 (dk_at dksX5_product_0 1 rfl rfl)
theorem dX5_product_4 : decode cX5_product 4 = .ok (.astore_n 1, 1) := dk_76 (dk_at dksX5_product_0 4 rfl rfl)
theorem dX5_product_5 : decode cX5_product 5 = .ok (.aload_n 0, 1) := dk_42 (dk_at dksX5_product_0 5 rfl rfl)
theorem dX5_product_6 : decode cX5_product 6 = .ok (.getfield 15, 3) := dk_180 0 15 (dk_at dksX5_product_0 6 rfl rfl)
theorem dX5_product_9 : decode cX5_product 9 = .ok (.ifCond .ge 41, 3) := dk_156 0 41 (dk_at dksX5_product_0 9 rfl rfl)
theorem dX5_product_12 : decode cX5_product 12 = .ok (.aload_n 0, 1) := dk_42 (dk_at dksX5_product_0 12 rfl rfl)
theorem dX5_product_13 : decode cX5_product 13 = .ok (.ldc 93, 2) := dk_18 93 (dk_at dksX5_product_0 13 rfl rfl)
theorem dX5_product_15 : decode cX5_product 15 = .ok (.invokevirtual 81, 3) := dk_182 0 81 (dk_at dksX5_product_0 15 rfl rfl)
theorem dX5_product_18 : decode cX5_product 18 = .ok (.ifCond .eq 32, 3) := dk_153 0 32 (dk_at dksX5_product_0 18 rfl rfl)
theorem dX5_product_21 : decode cX5_product 21 = .ok (.aload_n 0, 1) := dk_42 (dk_at dksX5_product_0 21 rfl rfl)
theorem dX5_product_22 : decode cX5_product 22 = .ok (.invokevirtual 29, 3) := dk_182 0 29 (dk_at dksX5_product_1 0 rfl rfl)
theorem dX5_product_25 : decode cX5_product 25 = .ok (.istore_n 2, 1) := dk_61 (dk_at dksX5_product_1 3 rfl rfl)
theorem dX5_product_26 : decode cX5_product 26 = .ok (.aload_n 0, 1) := dk_42 (dk_at dksX5_product_1 4 rfl rfl)
theorem dX5_product_27 : decode cX5_product 27 = .ok (.dup, 1) := dk_89 (dk_at dksX5_product_1 5 rfl rfl)
theorem dX5_product_28 : decode cX5_product 28 = .ok (.getfield 19, 3) := dk_180 0 19 (dk_at dksX5_product_1 6 rfl rfl)
theorem dX5_product_31 : decode cX5_product 31 = .ok (.iconst 1, 1) := dk_4 (dk_at dksX5_product_1 9 rfl rfl)
theorem dX5_product_32 : decode cX5_product 32 = .ok (.iadd, 1) := dk_96 (dk_at dksX5_product_1 10 rfl rfl)
theorem dX5_product_33 : decode cX5_product 33 = .ok (.putfield 19, 3) := dk_181 0 19 (dk_at dksX5_product_1 11 rfl rfl)
theorem dX5_product_36 : decode cX5_product 36 = .ok (.aload_n 0, 1) := dk_42 (dk_at dksX5_product_1 14 rfl rfl)
theorem dX5_product_37 : decode cX5_product 37 = .ok (.iload_n 2, 1) := dk_28 (dk_at dksX5_product_1 15 rfl rfl)
theorem dX5_product_38 : decode cX5_product 38 = .ok (.aload_n 1, 1) := dk_43 (dk_at dksX5_product_1 16 rfl rfl)
theorem dX5_product_39 : decode cX5_product 39 = .ok (.aload_n 0, 1) := dk_42 (dk_at dksX5_product_1 17 rfl rfl)
theorem dX5_product_40 : decode cX5_product 40 = .ok (.invokevirtual 90, 3) := dk_182 0 90 (dk_at dksX5_product_1 18 rfl rfl)
theorem dX5_product_43 : decode cX5_product 43 = .ok (.invokevirtual 69, 3) := dk_182 0 69 (dk_at dksX5_product_1 21 rfl rfl)
theorem dX5_product_46 : decode cX5_product 46 = .ok (.astore_n 1, 1) := dk_76 (dk_at dksX5_product_2 0 rfl rfl)
theorem dX5_product_47 : decode cX5_product 47 = .ok (.goto (-42), 3) := dk_167 255 214 (dk_at dksX5_product_2 1 rfl rfl)
theorem dX5_product_50 : decode cX5_product 50 = .ok (.aload_n 1, 1) := dk_43 (dk_at dksX5_product_2 4 rfl rfl)
theorem dX5_product_51 : decode cX5_product 51 = .ok (.areturn, 1) := dk_176 (dk_at dksX5_product_2 5 rfl rfl)
abbrev cX5_operand : ByteArray := prog_22_method_14_code
def yX5_operand : MethodName := ⟨RX5, "operand", "()LEightLegs$Node;"⟩
def dkwX5_operand_11 : List UInt8 := [89, 29, 183, 0, 126, 176]
abbrev dktX5_operand_11 : List UInt8 := dkwX5_operand_11 ++ []
def dkwX5_operand_10 : List UInt8 := [42, 182, 0, 29, 16, 48, 16, 57, 184, 0, 120, 153, 0, 10, 42, 182, 0, 109, 167, 0, 11, 187, 0, 124]
abbrev dktX5_operand_10 : List UInt8 := dkwX5_operand_10 ++ dktX5_operand_11
def dkwX5_operand_9 : List UInt8 := [16, 48, 100, 62, 132, 2, 1, 42, 89, 180, 0, 19, 4, 96, 181, 0, 19, 167, 255, 211, 28, 153, 0, 17]
abbrev dktX5_operand_9 : List UInt8 := dkwX5_operand_9 ++ dktX5_operand_10
def dkwX5_operand_8 : List UInt8 := [42, 182, 0, 29, 16, 48, 16, 57, 184, 0, 120, 153, 0, 32, 16, 10, 29, 104, 42, 182, 0, 29, 96]
abbrev dktX5_operand_8 : List UInt8 := dkwX5_operand_8 ++ dktX5_operand_9
def dkwX5_operand_7 : List UInt8 := [181, 0, 19, 42, 89, 180, 0, 95, 4, 100, 181, 0, 95, 44, 176, 3, 61, 3, 62, 28, 7, 162, 0, 46]
abbrev dktX5_operand_7 : List UInt8 := dkwX5_operand_7 ++ dktX5_operand_8
def dkwX5_operand_6 : List UInt8 := [176, 42, 182, 0, 29, 16, 41, 159, 0, 8, 42, 182, 0, 109, 176, 42, 89, 180, 0, 19, 4, 96]
abbrev dktX5_operand_6 : List UInt8 := dkwX5_operand_6 ++ dktX5_operand_7
def dkwX5_operand_5 : List UInt8 := [182, 0, 105, 154, 0, 8, 42, 182, 0, 109, 176, 42, 182, 0, 50, 77, 42, 180, 0, 15, 155, 0, 5, 1]
abbrev dktX5_operand_5 : List UInt8 := dkwX5_operand_5 ++ dktX5_operand_6
def dkwX5_operand_4 : List UInt8 := [183, 0, 114, 167, 0, 11, 187, 0, 117, 89, 44, 183, 0, 119, 176, 27, 16, 40, 160, 0, 65, 42]
abbrev dktX5_operand_4 : List UInt8 := dkwX5_operand_4 ++ dktX5_operand_5
def dkwX5_operand_3 : List UInt8 := [181, 0, 95, 42, 180, 0, 15, 155, 0, 5, 1, 176, 27, 16, 33, 160, 0, 14, 187, 0, 112, 89, 44]
abbrev dktX5_operand_3 : List UInt8 := dkwX5_operand_3 ++ dktX5_operand_4
def dkwX5_operand_2 : List UInt8 := [182, 0, 105, 154, 0, 8, 42, 182, 0, 109, 176, 42, 182, 0, 90, 77, 42, 89, 180, 0, 95, 4, 100]
abbrev dktX5_operand_2 : List UInt8 := dkwX5_operand_2 ++ dktX5_operand_3
def dkwX5_operand_1 : List UInt8 := [187, 0, 100, 89, 27, 183, 0, 102, 176, 27, 16, 33, 159, 0, 9, 27, 16, 45, 160, 0, 65, 42]
abbrev dktX5_operand_1 : List UInt8 := dkwX5_operand_1 ++ dktX5_operand_2
def dkwX5_operand_0 : List UInt8 := [42, 182, 0, 29, 60, 42, 18, 98, 182, 0, 81, 153, 0, 22, 42, 89, 180, 0, 19, 4, 96, 181, 0, 19]
abbrev dktX5_operand_0 : List UInt8 := dkwX5_operand_0 ++ dktX5_operand_1
theorem dksX5_operand_0 : cX5_operand.data.toList.drop 0 = dktX5_operand_0 := by decide +kernel
theorem dksX5_operand_1 : cX5_operand.data.toList.drop 24 = dktX5_operand_1 := dk_seg dksX5_operand_0 24 rfl rfl
theorem dksX5_operand_2 : cX5_operand.data.toList.drop 46 = dktX5_operand_2 := dk_seg dksX5_operand_1 22 rfl rfl
theorem dksX5_operand_3 : cX5_operand.data.toList.drop 69 = dktX5_operand_3 := dk_seg dksX5_operand_2 23 rfl rfl
theorem dksX5_operand_4 : cX5_operand.data.toList.drop 92 = dktX5_operand_4 := dk_seg dksX5_operand_3 23 rfl rfl
theorem dksX5_operand_5 : cX5_operand.data.toList.drop 114 = dktX5_operand_5 := dk_seg dksX5_operand_4 22 rfl rfl
theorem dksX5_operand_6 : cX5_operand.data.toList.drop 138 = dktX5_operand_6 := dk_seg dksX5_operand_5 24 rfl rfl
theorem dksX5_operand_7 : cX5_operand.data.toList.drop 160 = dktX5_operand_7 := dk_seg dksX5_operand_6 22 rfl rfl
theorem dksX5_operand_8 : cX5_operand.data.toList.drop 184 = dktX5_operand_8 := dk_seg dksX5_operand_7 24 rfl rfl
theorem dksX5_operand_9 : cX5_operand.data.toList.drop 207 = dktX5_operand_9 := dk_seg dksX5_operand_8 23 rfl rfl
theorem dksX5_operand_10 : cX5_operand.data.toList.drop 231 = dktX5_operand_10 := dk_seg dksX5_operand_9 24 rfl rfl
theorem dksX5_operand_11 : cX5_operand.data.toList.drop 255 = dktX5_operand_11 := dk_seg dksX5_operand_10 24 rfl rfl
theorem dX5_operand_0 : decode cX5_operand 0 = .ok (.aload_n 0, 1) := dk_42 (dk_at dksX5_operand_0 0 rfl rfl)
theorem dX5_operand_1 : decode cX5_operand 1 = .ok (.invokevirtual 29, 3) := dk_182 0 29 (dk_at dksX5_operand_0 1 rfl rfl)
theorem dX5_operand_4 : decode cX5_operand 4 = .ok (.istore_n 1, 1) := dk_60 (dk_at dksX5_operand_0 4 rfl rfl)
theorem dX5_operand_5 : decode cX5_operand 5 = .ok (.aload_n 0, 1) := dk_42 (dk_at dksX5_operand_0 5 rfl rfl)
theorem dX5_operand_6 : decode cX5_operand 6 = .ok (.ldc 98, 2) := dk_18 98 (dk_at dksX5_operand_0 6 rfl rfl)
theorem dX5_operand_8 : decode cX5_operand 8 = .ok (.invokevirtual 81, 3) := dk_182 0 81 (dk_at dksX5_operand_0 8 rfl rfl)
theorem dX5_operand_11 : decode cX5_operand 11 = .ok (.ifCond .eq 22, 3) := dk_153 0 22 (dk_at dksX5_operand_0 11 rfl rfl)
theorem dX5_operand_14 : decode cX5_operand 14 = .ok (.aload_n 0, 1) := dk_42 (dk_at dksX5_operand_0 14 rfl rfl)
theorem dX5_operand_15 : decode cX5_operand 15 = .ok (.dup, 1) := dk_89 (dk_at dksX5_operand_0 15 rfl rfl)
theorem dX5_operand_16 : decode cX5_operand 16 = .ok (.getfield 19, 3) := dk_180 0 19 (dk_at dksX5_operand_0 16 rfl rfl)
theorem dX5_operand_19 : decode cX5_operand 19 = .ok (.iconst 1, 1) := dk_4 (dk_at dksX5_operand_0 19 rfl rfl)
theorem dX5_operand_20 : decode cX5_operand 20 = .ok (.iadd, 1) := dk_96 (dk_at dksX5_operand_0 20 rfl rfl)
theorem dX5_operand_21 : decode cX5_operand 21 = .ok (.putfield 19, 3) := dk_181 0 19 (dk_at dksX5_operand_0 21 rfl rfl)
theorem dX5_operand_24 : decode cX5_operand 24 = .ok (.new 100, 3) := dk_187 0 100 (dk_at dksX5_operand_1 0 rfl rfl)
theorem dX5_operand_27 : decode cX5_operand 27 = .ok (.dup, 1) := dk_89 (dk_at dksX5_operand_1 3 rfl rfl)
theorem dX5_operand_28 : decode cX5_operand 28 = .ok (.iload_n 1, 1) := dk_27 (dk_at dksX5_operand_1 4 rfl rfl)
theorem dX5_operand_29 : decode cX5_operand 29 = .ok (.invokespecial 102, 3) := dk_183 0 102 (dk_at dksX5_operand_1 5 rfl rfl)
theorem dX5_operand_32 : decode cX5_operand 32 = .ok (.areturn, 1) := dk_176 (dk_at dksX5_operand_1 8 rfl rfl)
theorem dX5_operand_33 : decode cX5_operand 33 = .ok (.iload_n 1, 1) := dk_27 (dk_at dksX5_operand_1 9 rfl rfl)
theorem dX5_operand_34 : decode cX5_operand 34 = .ok (.bipush 33, 2) := dk_16 33 (dk_at dksX5_operand_1 10 rfl rfl)
theorem dX5_operand_36 : decode cX5_operand 36 = .ok (.if_icmp .eq 9, 3) := dk_159 0 9 (dk_at dksX5_operand_1 12 rfl rfl)
theorem dX5_operand_39 : decode cX5_operand 39 = .ok (.iload_n 1, 1) := dk_27 (dk_at dksX5_operand_1 15 rfl rfl)
theorem dX5_operand_40 : decode cX5_operand 40 = .ok (.bipush 45, 2) := dk_16 45 (dk_at dksX5_operand_1 16 rfl rfl)
theorem dX5_operand_42 : decode cX5_operand 42 = .ok (.if_icmp .ne 65, 3) := dk_160 0 65 (dk_at dksX5_operand_1 18 rfl rfl)
theorem dX5_operand_45 : decode cX5_operand 45 = .ok (.aload_n 0, 1) := dk_42 (dk_at dksX5_operand_1 21 rfl rfl)
theorem dX5_operand_46 : decode cX5_operand 46 = .ok (.invokevirtual 105, 3) := dk_182 0 105 (dk_at dksX5_operand_2 0 rfl rfl)
theorem dX5_operand_49 : decode cX5_operand 49 = .ok (.ifCond .ne 8, 3) := dk_154 0 8 (dk_at dksX5_operand_2 3 rfl rfl)
theorem dX5_operand_52 : decode cX5_operand 52 = .ok (.aload_n 0, 1) := dk_42 (dk_at dksX5_operand_2 6 rfl rfl)
theorem dX5_operand_53 : decode cX5_operand 53 = .ok (.invokevirtual 109, 3) := dk_182 0 109 (dk_at dksX5_operand_2 7 rfl rfl)
theorem dX5_operand_56 : decode cX5_operand 56 = .ok (.areturn, 1) := dk_176 (dk_at dksX5_operand_2 10 rfl rfl)
theorem dX5_operand_57 : decode cX5_operand 57 = .ok (.aload_n 0, 1) := dk_42 (dk_at dksX5_operand_2 11 rfl rfl)
theorem dX5_operand_58 : decode cX5_operand 58 = .ok (.invokevirtual 90, 3) := dk_182 0 90 (dk_at dksX5_operand_2 12 rfl rfl)
theorem dX5_operand_61 : decode cX5_operand 61 = .ok (.astore_n 2, 1) := dk_77 (dk_at dksX5_operand_2 15 rfl rfl)
theorem dX5_operand_62 : decode cX5_operand 62 = .ok (.aload_n 0, 1) := dk_42 (dk_at dksX5_operand_2 16 rfl rfl)
theorem dX5_operand_63 : decode cX5_operand 63 = .ok (.dup, 1) := dk_89 (dk_at dksX5_operand_2 17 rfl rfl)
theorem dX5_operand_64 : decode cX5_operand 64 = .ok (.getfield 95, 3) := dk_180 0 95 (dk_at dksX5_operand_2 18 rfl rfl)
theorem dX5_operand_67 : decode cX5_operand 67 = .ok (.iconst 1, 1) := dk_4 (dk_at dksX5_operand_2 21 rfl rfl)
theorem dX5_operand_68 : decode cX5_operand 68 = .ok (.isub, 1) := dk_100 (dk_at dksX5_operand_2 22 rfl rfl)
theorem dX5_operand_69 : decode cX5_operand 69 = .ok (.putfield 95, 3) := dk_181 0 95 (dk_at dksX5_operand_3 0 rfl rfl)
theorem dX5_operand_72 : decode cX5_operand 72 = .ok (.aload_n 0, 1) := dk_42 (dk_at dksX5_operand_3 3 rfl rfl)
theorem dX5_operand_73 : decode cX5_operand 73 = .ok (.getfield 15, 3) := dk_180 0 15 (dk_at dksX5_operand_3 4 rfl rfl)
theorem dX5_operand_76 : decode cX5_operand 76 = .ok (.ifCond .lt 5, 3) := dk_155 0 5 (dk_at dksX5_operand_3 7 rfl rfl)
theorem dX5_operand_79 : decode cX5_operand 79 = .ok (.aconst_null, 1) := dk_1 (dk_at dksX5_operand_3 10 rfl rfl)
theorem dX5_operand_80 : decode cX5_operand 80 = .ok (.areturn, 1) := dk_176 (dk_at dksX5_operand_3 11 rfl rfl)
theorem dX5_operand_81 : decode cX5_operand 81 = .ok (.iload_n 1, 1) := dk_27 (dk_at dksX5_operand_3 12 rfl rfl)
theorem dX5_operand_82 : decode cX5_operand 82 = .ok (.bipush 33, 2) := dk_16 33 (dk_at dksX5_operand_3 13 rfl rfl)
theorem dX5_operand_84 : decode cX5_operand 84 = .ok (.if_icmp .ne 14, 3) := dk_160 0 14 (dk_at dksX5_operand_3 15 rfl rfl)
theorem dX5_operand_87 : decode cX5_operand 87 = .ok (.new 112, 3) := dk_187 0 112 (dk_at dksX5_operand_3 18 rfl rfl)
theorem dX5_operand_90 : decode cX5_operand 90 = .ok (.dup, 1) := dk_89 (dk_at dksX5_operand_3 21 rfl rfl)
theorem dX5_operand_91 : decode cX5_operand 91 = .ok (.aload_n 2, 1) := dk_44 (dk_at dksX5_operand_3 22 rfl rfl)
theorem dX5_operand_92 : decode cX5_operand 92 = .ok (.invokespecial 114, 3) := dk_183 0 114 (dk_at dksX5_operand_4 0 rfl rfl)
theorem dX5_operand_95 : decode cX5_operand 95 = .ok (.goto 11, 3) := dk_167 0 11 (dk_at dksX5_operand_4 3 rfl rfl)
theorem dX5_operand_98 : decode cX5_operand 98 = .ok (.new 117, 3) := dk_187 0 117 (dk_at dksX5_operand_4 6 rfl rfl)
theorem dX5_operand_101 : decode cX5_operand 101 = .ok (.dup, 1) := dk_89 (dk_at dksX5_operand_4 9 rfl rfl)
theorem dX5_operand_102 : decode cX5_operand 102 = .ok (.aload_n 2, 1) := dk_44 (dk_at dksX5_operand_4 10 rfl rfl)
theorem dX5_operand_103 : decode cX5_operand 103 = .ok (.invokespecial 119, 3) := dk_183 0 119 (dk_at dksX5_operand_4 11 rfl rfl)
theorem dX5_operand_106 : decode cX5_operand 106 = .ok (.areturn, 1) := dk_176 (dk_at dksX5_operand_4 14 rfl rfl)
theorem dX5_operand_107 : decode cX5_operand 107 = .ok (.iload_n 1, 1) := dk_27 (dk_at dksX5_operand_4 15 rfl rfl)
theorem dX5_operand_108 : decode cX5_operand 108 = .ok (.bipush 40, 2) := dk_16 40 (dk_at dksX5_operand_4 16 rfl rfl)
theorem dX5_operand_110 : decode cX5_operand 110 = .ok (.if_icmp .ne 65, 3) := dk_160 0 65 (dk_at dksX5_operand_4 18 rfl rfl)
theorem dX5_operand_113 : decode cX5_operand 113 = .ok (.aload_n 0, 1) := dk_42 (dk_at dksX5_operand_4 21 rfl rfl)
theorem dX5_operand_114 : decode cX5_operand 114 = .ok (.invokevirtual 105, 3) := dk_182 0 105 (dk_at dksX5_operand_5 0 rfl rfl)
theorem dX5_operand_117 : decode cX5_operand 117 = .ok (.ifCond .ne 8, 3) := dk_154 0 8 (dk_at dksX5_operand_5 3 rfl rfl)
theorem dX5_operand_120 : decode cX5_operand 120 = .ok (.aload_n 0, 1) := dk_42 (dk_at dksX5_operand_5 6 rfl rfl)
theorem dX5_operand_121 : decode cX5_operand 121 = .ok (.invokevirtual 109, 3) := dk_182 0 109 (dk_at dksX5_operand_5 7 rfl rfl)
theorem dX5_operand_124 : decode cX5_operand 124 = .ok (.areturn, 1) := dk_176 (dk_at dksX5_operand_5 10 rfl rfl)
theorem dX5_operand_125 : decode cX5_operand 125 = .ok (.aload_n 0, 1) := dk_42 (dk_at dksX5_operand_5 11 rfl rfl)
theorem dX5_operand_126 : decode cX5_operand 126 = .ok (.invokevirtual 50, 3) := dk_182 0 50 (dk_at dksX5_operand_5 12 rfl rfl)
theorem dX5_operand_129 : decode cX5_operand 129 = .ok (.astore_n 2, 1) := dk_77 (dk_at dksX5_operand_5 15 rfl rfl)
theorem dX5_operand_130 : decode cX5_operand 130 = .ok (.aload_n 0, 1) := dk_42 (dk_at dksX5_operand_5 16 rfl rfl)
theorem dX5_operand_131 : decode cX5_operand 131 = .ok (.getfield 15, 3) := dk_180 0 15 (dk_at dksX5_operand_5 17 rfl rfl)
theorem dX5_operand_134 : decode cX5_operand 134 = .ok (.ifCond .lt 5, 3) := dk_155 0 5 (dk_at dksX5_operand_5 20 rfl rfl)
theorem dX5_operand_137 : decode cX5_operand 137 = .ok (.aconst_null, 1) := dk_1 (dk_at dksX5_operand_5 23 rfl rfl)
theorem dX5_operand_138 : decode cX5_operand 138 = .ok (.areturn, 1) := dk_176 (dk_at dksX5_operand_6 0 rfl rfl)
theorem dX5_operand_139 : decode cX5_operand 139 = .ok (.aload_n 0, 1) := dk_42 (dk_at dksX5_operand_6 1 rfl rfl)
theorem dX5_operand_140 : decode cX5_operand 140 = .ok (.invokevirtual 29, 3) := dk_182 0 29 (dk_at dksX5_operand_6 2 rfl rfl)
theorem dX5_operand_143 : decode cX5_operand 143 = .ok (.bipush 41, 2) := dk_16 41 (dk_at dksX5_operand_6 5 rfl rfl)
theorem dX5_operand_145 : decode cX5_operand 145 = .ok (.if_icmp .eq 8, 3) := dk_159 0 8 (dk_at dksX5_operand_6 7 rfl rfl)
theorem dX5_operand_148 : decode cX5_operand 148 = .ok (.aload_n 0, 1) := dk_42 (dk_at dksX5_operand_6 10 rfl rfl)
theorem dX5_operand_149 : decode cX5_operand 149 = .ok (.invokevirtual 109, 3) := dk_182 0 109 (dk_at dksX5_operand_6 11 rfl rfl)
theorem dX5_operand_152 : decode cX5_operand 152 = .ok (.areturn, 1) := dk_176 (dk_at dksX5_operand_6 14 rfl rfl)
theorem dX5_operand_153 : decode cX5_operand 153 = .ok (.aload_n 0, 1) := dk_42 (dk_at dksX5_operand_6 15 rfl rfl)
theorem dX5_operand_154 : decode cX5_operand 154 = .ok (.dup, 1) := dk_89 (dk_at dksX5_operand_6 16 rfl rfl)
theorem dX5_operand_155 : decode cX5_operand 155 = .ok (.getfield 19, 3) := dk_180 0 19 (dk_at dksX5_operand_6 17 rfl rfl)
theorem dX5_operand_158 : decode cX5_operand 158 = .ok (.iconst 1, 1) := dk_4 (dk_at dksX5_operand_6 20 rfl rfl)
theorem dX5_operand_159 : decode cX5_operand 159 = .ok (.iadd, 1) := dk_96 (dk_at dksX5_operand_6 21 rfl rfl)
theorem dX5_operand_160 : decode cX5_operand 160 = .ok (.putfield 19, 3) := dk_181 0 19 (dk_at dksX5_operand_7 0 rfl rfl)
theorem dX5_operand_163 : decode cX5_operand 163 = .ok (.aload_n 0, 1) := dk_42 (dk_at dksX5_operand_7 3 rfl rfl)
theorem dX5_operand_164 : decode cX5_operand 164 = .ok (.dup, 1) := dk_89 (dk_at dksX5_operand_7 4 rfl rfl)
theorem dX5_operand_165 : decode cX5_operand 165 = .ok (.getfield 95, 3) := dk_180 0 95 (dk_at dksX5_operand_7 5 rfl rfl)
theorem dX5_operand_168 : decode cX5_operand 168 = .ok (.iconst 1, 1) := dk_4 (dk_at dksX5_operand_7 8 rfl rfl)
theorem dX5_operand_169 : decode cX5_operand 169 = .ok (.isub, 1) := dk_100 (dk_at dksX5_operand_7 9 rfl rfl)
theorem dX5_operand_170 : decode cX5_operand 170 = .ok (.putfield 95, 3) := dk_181 0 95 (dk_at dksX5_operand_7 10 rfl rfl)
theorem dX5_operand_173 : decode cX5_operand 173 = .ok (.aload_n 2, 1) := dk_44 (dk_at dksX5_operand_7 13 rfl rfl)
theorem dX5_operand_174 : decode cX5_operand 174 = .ok (.areturn, 1) := dk_176 (dk_at dksX5_operand_7 14 rfl rfl)
theorem dX5_operand_175 : decode cX5_operand 175 = .ok (.iconst 0, 1) := dk_3 (dk_at dksX5_operand_7 15 rfl rfl)
theorem dX5_operand_176 : decode cX5_operand 176 = .ok (.istore_n 2, 1) := dk_61 (dk_at dksX5_operand_7 16 rfl rfl)
theorem dX5_operand_177 : decode cX5_operand 177 = .ok (.iconst 0, 1) := dk_3 (dk_at dksX5_operand_7 17 rfl rfl)
theorem dX5_operand_178 : decode cX5_operand 178 = .ok (.istore_n 3, 1) := dk_62 (dk_at dksX5_operand_7 18 rfl rfl)
theorem dX5_operand_179 : decode cX5_operand 179 = .ok (.iload_n 2, 1) := dk_28 (dk_at dksX5_operand_7 19 rfl rfl)
theorem dX5_operand_180 : decode cX5_operand 180 = .ok (.iconst 4, 1) := dk_7 (dk_at dksX5_operand_7 20 rfl rfl)
theorem dX5_operand_181 : decode cX5_operand 181 = .ok (.if_icmp .ge 46, 3) := dk_162 0 46 (dk_at dksX5_operand_7 21 rfl rfl)
theorem dX5_operand_184 : decode cX5_operand 184 = .ok (.aload_n 0, 1) := dk_42 (dk_at dksX5_operand_8 0 rfl rfl)
theorem dX5_operand_185 : decode cX5_operand 185 = .ok (.invokevirtual 29, 3) := dk_182 0 29 (dk_at dksX5_operand_8 1 rfl rfl)
theorem dX5_operand_188 : decode cX5_operand 188 = .ok (.bipush 48, 2) := dk_16 48 (dk_at dksX5_operand_8 4 rfl rfl)
theorem dX5_operand_190 : decode cX5_operand 190 = .ok (.bipush 57, 2) := dk_16 57 (dk_at dksX5_operand_8 6 rfl rfl)
theorem dX5_operand_192 : decode cX5_operand 192 = .ok (.invokestatic 120, 3) := dk_184 0 120 (dk_at dksX5_operand_8 8 rfl rfl)
theorem dX5_operand_195 : decode cX5_operand 195 = .ok (.ifCond .eq 32, 3) := dk_153 0 32 (dk_at dksX5_operand_8 11 rfl rfl)
theorem dX5_operand_198 : decode cX5_operand 198 = .ok (.bipush 10, 2) := dk_16 10 (dk_at dksX5_operand_8 14 rfl rfl)
theorem dX5_operand_200 : decode cX5_operand 200 = .ok (.iload_n 3, 1) := dk_29 (dk_at dksX5_operand_8 16 rfl rfl)
theorem dX5_operand_201 : decode cX5_operand 201 = .ok (.imul, 1) := dk_104 (dk_at dksX5_operand_8 17 rfl rfl)
theorem dX5_operand_202 : decode cX5_operand 202 = .ok (.aload_n 0, 1) := dk_42 (dk_at dksX5_operand_8 18 rfl rfl)
theorem dX5_operand_203 : decode cX5_operand 203 = .ok (.invokevirtual 29, 3) := dk_182 0 29 (dk_at dksX5_operand_8 19 rfl rfl)
theorem dX5_operand_206 : decode cX5_operand 206 = .ok (.iadd, 1) := dk_96 (dk_at dksX5_operand_8 22 rfl rfl)
theorem dX5_operand_207 : decode cX5_operand 207 = .ok (.bipush 48, 2) := dk_16 48 (dk_at dksX5_operand_9 0 rfl rfl)
theorem dX5_operand_209 : decode cX5_operand 209 = .ok (.isub, 1) := dk_100 (dk_at dksX5_operand_9 2 rfl rfl)
theorem dX5_operand_210 : decode cX5_operand 210 = .ok (.istore_n 3, 1) := dk_62 (dk_at dksX5_operand_9 3 rfl rfl)
theorem dX5_operand_211 : decode cX5_operand 211 = .ok (.iinc 2 1, 3) := dk_132 2 1 (dk_at dksX5_operand_9 4 rfl rfl)
theorem dX5_operand_214 : decode cX5_operand 214 = .ok (.aload_n 0, 1) := dk_42 (dk_at dksX5_operand_9 7 rfl rfl)
theorem dX5_operand_215 : decode cX5_operand 215 = .ok (.dup, 1) := dk_89 (dk_at dksX5_operand_9 8 rfl rfl)
theorem dX5_operand_216 : decode cX5_operand 216 = .ok (.getfield 19, 3) := dk_180 0 19 (dk_at dksX5_operand_9 9 rfl rfl)
theorem dX5_operand_219 : decode cX5_operand 219 = .ok (.iconst 1, 1) := dk_4 (dk_at dksX5_operand_9 12 rfl rfl)
theorem dX5_operand_220 : decode cX5_operand 220 = .ok (.iadd, 1) := dk_96 (dk_at dksX5_operand_9 13 rfl rfl)
theorem dX5_operand_221 : decode cX5_operand 221 = .ok (.putfield 19, 3) := dk_181 0 19 (dk_at dksX5_operand_9 14 rfl rfl)
theorem dX5_operand_224 : decode cX5_operand 224 = .ok (.goto (-45), 3) := dk_167 255 211 (dk_at dksX5_operand_9 17 rfl rfl)
theorem dX5_operand_227 : decode cX5_operand 227 = .ok (.iload_n 2, 1) := dk_28 (dk_at dksX5_operand_9 20 rfl rfl)
theorem dX5_operand_228 : decode cX5_operand 228 = .ok (.ifCond .eq 17, 3) := dk_153 0 17 (dk_at dksX5_operand_9 21 rfl rfl)
theorem dX5_operand_231 : decode cX5_operand 231 = .ok (.aload_n 0, 1) := dk_42 (dk_at dksX5_operand_10 0 rfl rfl)
theorem dX5_operand_232 : decode cX5_operand 232 = .ok (.invokevirtual 29, 3) := dk_182 0 29 (dk_at dksX5_operand_10 1 rfl rfl)
theorem dX5_operand_235 : decode cX5_operand 235 = .ok (.bipush 48, 2) := dk_16 48 (dk_at dksX5_operand_10 4 rfl rfl)
theorem dX5_operand_237 : decode cX5_operand 237 = .ok (.bipush 57, 2) := dk_16 57 (dk_at dksX5_operand_10 6 rfl rfl)
theorem dX5_operand_239 : decode cX5_operand 239 = .ok (.invokestatic 120, 3) := dk_184 0 120 (dk_at dksX5_operand_10 8 rfl rfl)
theorem dX5_operand_242 : decode cX5_operand 242 = .ok (.ifCond .eq 10, 3) := dk_153 0 10 (dk_at dksX5_operand_10 11 rfl rfl)
theorem dX5_operand_245 : decode cX5_operand 245 = .ok (.aload_n 0, 1) := dk_42 (dk_at dksX5_operand_10 14 rfl rfl)
theorem dX5_operand_246 : decode cX5_operand 246 = .ok (.invokevirtual 109, 3) := dk_182 0 109 (dk_at dksX5_operand_10 15 rfl rfl)
theorem dX5_operand_249 : decode cX5_operand 249 = .ok (.goto 11, 3) := dk_167 0 11 (dk_at dksX5_operand_10 18 rfl rfl)
theorem dX5_operand_252 : decode cX5_operand 252 = .ok (.new 124, 3) := dk_187 0 124 (dk_at dksX5_operand_10 21 rfl rfl)
theorem dX5_operand_255 : decode cX5_operand 255 = .ok (.dup, 1) := dk_89 (dk_at dksX5_operand_11 0 rfl rfl)
theorem dX5_operand_256 : decode cX5_operand 256 = .ok (.iload_n 3, 1) := dk_29 (dk_at dksX5_operand_11 1 rfl rfl)
theorem dX5_operand_257 : decode cX5_operand 257 = .ok (.invokespecial 126, 3) := dk_183 0 126 (dk_at dksX5_operand_11 2 rfl rfl)
theorem dX5_operand_260 : decode cX5_operand 260 = .ok (.areturn, 1) := dk_176 (dk_at dksX5_operand_11 5 rfl rfl)
abbrev cX5_here : ByteArray := prog_22_method_2_code
def yX5_here : MethodName := ⟨RX5, "here", "()I"⟩
def dkwX5_here_1 : List UInt8 := [180, 0, 19, 51, 167, 0, 4, 2, 172]
abbrev dktX5_here_1 : List UInt8 := dkwX5_here_1 ++ []
def dkwX5_here_0 : List UInt8 := [42, 180, 0, 19, 42, 180, 0, 3, 180, 0, 22, 162, 0, 18, 42, 180, 0, 3, 180, 0, 25, 42]
abbrev dktX5_here_0 : List UInt8 := dkwX5_here_0 ++ dktX5_here_1
theorem dksX5_here_0 : cX5_here.data.toList.drop 0 = dktX5_here_0 := by decide +kernel
theorem dksX5_here_1 : cX5_here.data.toList.drop 22 = dktX5_here_1 := dk_seg dksX5_here_0 22 rfl rfl
theorem dX5_here_0 : decode cX5_here 0 = .ok (.aload_n 0, 1) := dk_42 (dk_at dksX5_here_0 0 rfl rfl)
theorem dX5_here_1 : decode cX5_here 1 = .ok (.getfield 19, 3) := dk_180 0 19 (dk_at dksX5_here_0 1 rfl rfl)
theorem dX5_here_4 : decode cX5_here 4 = .ok (.aload_n 0, 1) := dk_42 (dk_at dksX5_here_0 4 rfl rfl)
theorem dX5_here_5 : decode cX5_here 5 = .ok (.getfield 3, 3) := dk_180 0 3 (dk_at dksX5_here_0 5 rfl rfl)
theorem dX5_here_8 : decode cX5_here 8 = .ok (.getfield 22, 3) := dk_180 0 22 (dk_at dksX5_here_0 8 rfl rfl)
theorem dX5_here_11 : decode cX5_here 11 = .ok (.if_icmp .ge 18, 3) := dk_162 0 18 (dk_at dksX5_here_0 11 rfl rfl)
theorem dX5_here_14 : decode cX5_here 14 = .ok (.aload_n 0, 1) := dk_42 (dk_at dksX5_here_0 14 rfl rfl)
theorem dX5_here_15 : decode cX5_here 15 = .ok (.getfield 3, 3) := dk_180 0 3 (dk_at dksX5_here_0 15 rfl rfl)
theorem dX5_here_18 : decode cX5_here 18 = .ok (.getfield 25, 3) := dk_180 0 25 (dk_at dksX5_here_0 18 rfl rfl)
theorem dX5_here_21 : decode cX5_here 21 = .ok (.aload_n 0, 1) := dk_42 (dk_at dksX5_here_0 21 rfl rfl)
theorem dX5_here_22 : decode cX5_here 22 = .ok (.getfield 19, 3) := dk_180 0 19 (dk_at dksX5_here_1 0 rfl rfl)
theorem dX5_here_25 : decode cX5_here 25 = .ok (.baload, 1) := dk_51 (dk_at dksX5_here_1 3 rfl rfl)
theorem dX5_here_26 : decode cX5_here 26 = .ok (.goto 4, 3) := dk_167 0 4 (dk_at dksX5_here_1 4 rfl rfl)
theorem dX5_here_29 : decode cX5_here 29 = .ok (.iconst (-1), 1) := dk_2 (dk_at dksX5_here_1 7 rfl rfl)
theorem dX5_here_30 : decode cX5_here 30 = .ok (.ireturn, 1) := dk_172 (dk_at dksX5_here_1 8 rfl rfl)
abbrev cX5_isOne : ByteArray := prog_22_method_3_code
def yX5_isOne : MethodName := ⟨RX5, "isOne", "(Ljava/lang/String;)Z"⟩
def dkwX5_isOne_0 : List UInt8 := [42, 182, 0, 29, 155, 0, 18, 43, 42, 182, 0, 29, 182, 0, 33, 155, 0, 7, 4, 167, 0, 4, 3, 172]
abbrev dktX5_isOne_0 : List UInt8 := dkwX5_isOne_0 ++ []
theorem dksX5_isOne_0 : cX5_isOne.data.toList.drop 0 = dktX5_isOne_0 := by decide +kernel
theorem dX5_isOne_0 : decode cX5_isOne 0 = .ok (.aload_n 0, 1) := dk_42 (dk_at dksX5_isOne_0 0 rfl rfl)
theorem dX5_isOne_1 : decode cX5_isOne 1 = .ok (.invokevirtual 29, 3) := dk_182 0 29 (dk_at dksX5_isOne_0 1 rfl rfl)
theorem dX5_isOne_4 : decode cX5_isOne 4 = .ok (.ifCond .lt 18, 3) := dk_155 0 18 (dk_at dksX5_isOne_0 4 rfl rfl)
theorem dX5_isOne_7 : decode cX5_isOne 7 = .ok (.aload_n 1, 1) := dk_43 (dk_at dksX5_isOne_0 7 rfl rfl)
theorem dX5_isOne_8 : decode cX5_isOne 8 = .ok (.aload_n 0, 1) := dk_42 (dk_at dksX5_isOne_0 8 rfl rfl)
theorem dX5_isOne_9 : decode cX5_isOne 9 = .ok (.invokevirtual 29, 3) := dk_182 0 29 (dk_at dksX5_isOne_0 9 rfl rfl)
theorem dX5_isOne_12 : decode cX5_isOne 12 = .ok (.invokevirtual 33, 3) := dk_182 0 33 (dk_at dksX5_isOne_0 12 rfl rfl)
theorem dX5_isOne_15 : decode cX5_isOne 15 = .ok (.ifCond .lt 7, 3) := dk_155 0 7 (dk_at dksX5_isOne_0 15 rfl rfl)
theorem dX5_isOne_18 : decode cX5_isOne 18 = .ok (.iconst 1, 1) := dk_4 (dk_at dksX5_isOne_0 18 rfl rfl)
theorem dX5_isOne_19 : decode cX5_isOne 19 = .ok (.goto 4, 3) := dk_167 0 4 (dk_at dksX5_isOne_0 19 rfl rfl)
theorem dX5_isOne_22 : decode cX5_isOne 22 = .ok (.iconst 0, 1) := dk_3 (dk_at dksX5_isOne_0 22 rfl rfl)
theorem dX5_isOne_23 : decode cX5_isOne 23 = .ok (.ireturn, 1) := dk_172 (dk_at dksX5_isOne_0 23 rfl rfl)
abbrev cX5_opens : ByteArray := prog_22_method_13_code
def yX5_opens : MethodName := ⟨RX5, "opens", "()Z"⟩
def dkwX5_opens_1 : List UInt8 := [180, 0, 19, 4, 96, 181, 0, 19, 4, 172]
abbrev dktX5_opens_1 : List UInt8 := dkwX5_opens_1 ++ []
def dkwX5_opens_0 : List UInt8 := [42, 180, 0, 95, 16, 6, 160, 0, 5, 3, 172, 42, 89, 180, 0, 95, 4, 96, 181, 0, 95, 42, 89]
abbrev dktX5_opens_0 : List UInt8 := dkwX5_opens_0 ++ dktX5_opens_1
theorem dksX5_opens_0 : cX5_opens.data.toList.drop 0 = dktX5_opens_0 := by decide +kernel
theorem dksX5_opens_1 : cX5_opens.data.toList.drop 23 = dktX5_opens_1 := dk_seg dksX5_opens_0 23 rfl rfl
theorem dX5_opens_0 : decode cX5_opens 0 = .ok (.aload_n 0, 1) := dk_42 (dk_at dksX5_opens_0 0 rfl rfl)
theorem dX5_opens_1 : decode cX5_opens 1 = .ok (.getfield 95, 3) := dk_180 0 95 (dk_at dksX5_opens_0 1 rfl rfl)
theorem dX5_opens_4 : decode cX5_opens 4 = .ok (.bipush 6, 2) := dk_16 6 (dk_at dksX5_opens_0 4 rfl rfl)
theorem dX5_opens_6 : decode cX5_opens 6 = .ok (.if_icmp .ne 5, 3) := dk_160 0 5 (dk_at dksX5_opens_0 6 rfl rfl)
theorem dX5_opens_9 : decode cX5_opens 9 = .ok (.iconst 0, 1) := dk_3 (dk_at dksX5_opens_0 9 rfl rfl)
theorem dX5_opens_10 : decode cX5_opens 10 = .ok (.ireturn, 1) := dk_172 (dk_at dksX5_opens_0 10 rfl rfl)
theorem dX5_opens_11 : decode cX5_opens 11 = .ok (.aload_n 0, 1) := dk_42 (dk_at dksX5_opens_0 11 rfl rfl)
theorem dX5_opens_12 : decode cX5_opens 12 = .ok (.dup, 1) := dk_89 (dk_at dksX5_opens_0 12 rfl rfl)
theorem dX5_opens_13 : decode cX5_opens 13 = .ok (.getfield 95, 3) := dk_180 0 95 (dk_at dksX5_opens_0 13 rfl rfl)
theorem dX5_opens_16 : decode cX5_opens 16 = .ok (.iconst 1, 1) := dk_4 (dk_at dksX5_opens_0 16 rfl rfl)
theorem dX5_opens_17 : decode cX5_opens 17 = .ok (.iadd, 1) := dk_96 (dk_at dksX5_opens_0 17 rfl rfl)
theorem dX5_opens_18 : decode cX5_opens 18 = .ok (.putfield 95, 3) := dk_181 0 95 (dk_at dksX5_opens_0 18 rfl rfl)
theorem dX5_opens_21 : decode cX5_opens 21 = .ok (.aload_n 0, 1) := dk_42 (dk_at dksX5_opens_0 21 rfl rfl)
theorem dX5_opens_22 : decode cX5_opens 22 = .ok (.dup, 1) := dk_89 (dk_at dksX5_opens_0 22 rfl rfl)
theorem dX5_opens_23 : decode cX5_opens 23 = .ok (.getfield 19, 3) := dk_180 0 19 (dk_at dksX5_opens_1 0 rfl rfl)
theorem dX5_opens_26 : decode cX5_opens 26 = .ok (.iconst 1, 1) := dk_4 (dk_at dksX5_opens_1 3 rfl rfl)
theorem dX5_opens_27 : decode cX5_opens 27 = .ok (.iadd, 1) := dk_96 (dk_at dksX5_opens_1 4 rfl rfl)
theorem dX5_opens_28 : decode cX5_opens 28 = .ok (.putfield 19, 3) := dk_181 0 19 (dk_at dksX5_opens_1 5 rfl rfl)
theorem dX5_opens_31 : decode cX5_opens 31 = .ok (.iconst 1, 1) := dk_4 (dk_at dksX5_opens_1 8 rfl rfl)
theorem dX5_opens_32 : decode cX5_opens 32 = .ok (.ireturn, 1) := dk_172 (dk_at dksX5_opens_1 9 rfl rfl)
abbrev cX5_wrong : ByteArray := prog_22_method_4_code
def yX5_wrong : MethodName := ⟨RX5, "wrong", "()LEightLegs$Node;"⟩
def dkwX5_wrong_0 : List UInt8 := [42, 180, 0, 15, 156, 0, 11, 42, 42, 180, 0, 19, 181, 0, 15, 1, 176]
abbrev dktX5_wrong_0 : List UInt8 := dkwX5_wrong_0 ++ []
theorem dksX5_wrong_0 : cX5_wrong.data.toList.drop 0 = dktX5_wrong_0 := by decide +kernel
theorem dX5_wrong_0 : decode cX5_wrong 0 = .ok (.aload_n 0, 1) := dk_42 (dk_at dksX5_wrong_0 0 rfl rfl)
theorem dX5_wrong_1 : decode cX5_wrong 1 = .ok (.getfield 15, 3) := dk_180 0 15 (dk_at dksX5_wrong_0 1 rfl rfl)
theorem dX5_wrong_4 : decode cX5_wrong 4 = .ok (.ifCond .ge 11, 3) := dk_156 0 11 (dk_at dksX5_wrong_0 4 rfl rfl)
theorem dX5_wrong_7 : decode cX5_wrong 7 = .ok (.aload_n 0, 1) := dk_42 (dk_at dksX5_wrong_0 7 rfl rfl)
theorem dX5_wrong_8 : decode cX5_wrong 8 = .ok (.aload_n 0, 1) := dk_42 (dk_at dksX5_wrong_0 8 rfl rfl)
theorem dX5_wrong_9 : decode cX5_wrong 9 = .ok (.getfield 19, 3) := dk_180 0 19 (dk_at dksX5_wrong_0 9 rfl rfl)
theorem dX5_wrong_12 : decode cX5_wrong 12 = .ok (.putfield 15, 3) := dk_181 0 15 (dk_at dksX5_wrong_0 12 rfl rfl)
theorem dX5_wrong_15 : decode cX5_wrong 15 = .ok (.aconst_null, 1) := dk_1 (dk_at dksX5_wrong_0 15 rfl rfl)
theorem dX5_wrong_16 : decode cX5_wrong 16 = .ok (.areturn, 1) := dk_176 (dk_at dksX5_wrong_0 16 rfl rfl)
abbrev cX5_joined : ByteArray := prog_22_method_7_code
def yX5_joined : MethodName := ⟨RX5, "joined", "(ILEightLegs$Node;LEightLegs$Node;)LEightLegs$Node;"⟩
def dkwX5_joined_0 : List UInt8 := [42, 180, 0, 15, 155, 0, 7, 1, 167, 0, 13, 187, 0, 61, 89, 27, 44, 45, 183, 0, 63, 176]
abbrev dktX5_joined_0 : List UInt8 := dkwX5_joined_0 ++ []
theorem dksX5_joined_0 : cX5_joined.data.toList.drop 0 = dktX5_joined_0 := by decide +kernel
theorem dX5_joined_0 : decode cX5_joined 0 = .ok (.aload_n 0, 1) := dk_42 (dk_at dksX5_joined_0 0 rfl rfl)
theorem dX5_joined_1 : decode cX5_joined 1 = .ok (.getfield 15, 3) := dk_180 0 15 (dk_at dksX5_joined_0 1 rfl rfl)
theorem dX5_joined_4 : decode cX5_joined 4 = .ok (.ifCond .lt 7, 3) := dk_155 0 7 (dk_at dksX5_joined_0 4 rfl rfl)
theorem dX5_joined_7 : decode cX5_joined 7 = .ok (.aconst_null, 1) := dk_1 (dk_at dksX5_joined_0 7 rfl rfl)
theorem dX5_joined_8 : decode cX5_joined 8 = .ok (.goto 13, 3) := dk_167 0 13 (dk_at dksX5_joined_0 8 rfl rfl)
theorem dX5_joined_11 : decode cX5_joined 11 = .ok (.new 61, 3) := dk_187 0 61 (dk_at dksX5_joined_0 11 rfl rfl)
theorem dX5_joined_14 : decode cX5_joined 14 = .ok (.dup, 1) := dk_89 (dk_at dksX5_joined_0 14 rfl rfl)
theorem dX5_joined_15 : decode cX5_joined 15 = .ok (.iload_n 1, 1) := dk_27 (dk_at dksX5_joined_0 15 rfl rfl)
theorem dX5_joined_16 : decode cX5_joined 16 = .ok (.aload_n 2, 1) := dk_44 (dk_at dksX5_joined_0 16 rfl rfl)
theorem dX5_joined_17 : decode cX5_joined 17 = .ok (.aload_n 3, 1) := dk_45 (dk_at dksX5_joined_0 17 rfl rfl)
theorem dX5_joined_18 : decode cX5_joined 18 = .ok (.invokespecial 63, 3) := dk_183 0 63 (dk_at dksX5_joined_0 18 rfl rfl)
theorem dX5_joined_21 : decode cX5_joined 21 = .ok (.areturn, 1) := dk_176 (dk_at dksX5_joined_0 21 rfl rfl)
theorem q113 : (Jvm.Cond.initialized "EightLegs$Reader") ∈ lw_all := lw_g (lw_at lw_m1 14 rfl) rfl
theorem q183 : (Jvm.Cond.fieldLinkNest "EightLegs$Reader" (25 : Nat) "EightLegs" "tape" "[B" "EightLegs") ∈ lw_tbl := lw_at lw_m1 84 rfl
theorem q184 : (Jvm.Cond.fieldLinkNest "EightLegs$Reader" (22 : Nat) "EightLegs" "taped" "I" "EightLegs") ∈ lw_tbl := lw_at lw_m1 85 rfl
theorem q568 : (Jvm.Cond.instantiable "EightLegs$Reader" (4 : Nat)) ∈ lw_all := lw_g (lw_at lw_m2 229 rfl) rfl
theorem q570 : (Jvm.Cond.instanceMethod ({ cls := "EightLegs$Reader", name := "<init>", desc := "(LEightLegs;)V" } : Jvm.MethodName)) ∈ lw_all := lw_g (lw_at lw_m2 231 rfl) rfl
theorem q571 : (Jvm.Cond.code ({ cls := "EightLegs$Reader", name := "<init>", desc := "(LEightLegs;)V" } : Jvm.MethodName) prog_22_method_1_code (2 : Nat) (Option.none : Option Jvm.ClassFile.FieldType)) ∈ lw_all := lw_g (lw_at lw_m2 232 rfl) rfl
theorem q572 : (Jvm.Cond.methodLink "EightLegs$Reader" (9 : Nat) ({ cls := "java/lang/Object", name := "<init>", desc := "()V" } : Jvm.MethodName)) ∈ lw_all := lw_g (lw_at lw_m2 233 rfl) rfl
theorem q573 : (Jvm.Cond.fieldLink "EightLegs$Reader" (19 : Nat) "EightLegs$Reader" "at" "I") ∈ lw_all := lw_g (lw_at lw_m2 234 rfl) rfl
theorem q574 : (Jvm.Cond.fieldLink "EightLegs$Reader" (15 : Nat) "EightLegs$Reader" "fault" "I") ∈ lw_all := lw_g (lw_at lw_m2 235 rfl) rfl
theorem q576 : (Jvm.Cond.fieldLink "EightLegs$Reader" (95 : Nat) "EightLegs$Reader" "open" "I") ∈ lw_all := lw_g (lw_at lw_m2 237 rfl) rfl
theorem q577 : (Jvm.Cond.fieldLink "EightLegs$Reader" (3 : Nat) "EightLegs$Reader" "this$0" "LEightLegs;") ∈ lw_all := lw_g (lw_at lw_m2 238 rfl) rfl
theorem q578 : (Jvm.Cond.lays "EightLegs$Reader" "EightLegs$Reader" "at" "I") ∈ lw_all := lw_g (lw_at lw_m2 239 rfl) rfl
theorem q579 : (Jvm.Cond.soleField "EightLegs$Reader" "at") ∈ lw_all := lw_g (lw_at lw_m3 0 rfl) rfl
theorem q580 : (Jvm.Cond.lays "EightLegs$Reader" "EightLegs$Reader" "fault" "I") ∈ lw_all := lw_g (lw_at lw_m3 1 rfl) rfl
theorem q581 : (Jvm.Cond.soleField "EightLegs$Reader" "fault") ∈ lw_all := lw_g (lw_at lw_m3 2 rfl) rfl
theorem q582 : (Jvm.Cond.lays "EightLegs$Reader" "EightLegs$Reader" "open" "I") ∈ lw_all := lw_g (lw_at lw_m3 3 rfl) rfl
theorem q583 : (Jvm.Cond.soleField "EightLegs$Reader" "open") ∈ lw_all := lw_g (lw_at lw_m3 4 rfl) rfl
theorem q584 : (Jvm.Cond.laysFinal "EightLegs$Reader" "EightLegs$Reader" "this$0" "LEightLegs;") ∈ lw_all := lw_g (lw_at lw_m3 5 rfl) rfl
theorem q585 : (Jvm.Cond.soleField "EightLegs$Reader" "this$0") ∈ lw_all := lw_g (lw_at lw_m3 6 rfl) rfl
theorem q586 : (Jvm.Cond.superclass "EightLegs$Reader" "java/lang/Object") ∈ lw_all := lw_g (lw_at lw_m3 7 rfl) rfl
theorem q588 : (Jvm.Cond.instanceMethod ({ cls := "EightLegs$Reader", name := "lines", desc := "()LEightLegs$Line;" } : Jvm.MethodName)) ∈ lw_all := lw_g (lw_at lw_m3 9 rfl) rfl
theorem q589 : (Jvm.Cond.selects "EightLegs$Reader" ({ cls := "EightLegs$Reader", name := "lines", desc := "()LEightLegs$Line;" } : Jvm.MethodName) ({ cls := "EightLegs$Reader", name := "lines", desc := "()LEightLegs$Line;" } : Jvm.MethodName)) ∈ lw_all := lw_g (lw_at lw_m3 10 rfl) rfl
theorem q590 : (Jvm.Cond.code ({ cls := "EightLegs$Reader", name := "lines", desc := "()LEightLegs$Line;" } : Jvm.MethodName) prog_22_method_5_code (3 : Nat) (Option.some (Jvm.ClassFile.FieldType.object "EightLegs$Line"))) ∈ lw_all := lw_g (lw_at lw_m3 11 rfl) rfl
theorem q591 : (Jvm.Cond.methodLink "EightLegs$Reader" (39 : Nat) ({ cls := "EightLegs$Reader", name := "line", desc := "()LEightLegs$Line;" } : Jvm.MethodName)) ∈ lw_all := lw_g (lw_at lw_m3 12 rfl) rfl
theorem q592 : (Jvm.Cond.privateMethod ({ cls := "EightLegs$Reader", name := "line", desc := "()LEightLegs$Line;" } : Jvm.MethodName)) ∈ lw_tbl := lw_at lw_m3 13 rfl
theorem q593 : (Jvm.Cond.instanceMethod ({ cls := "EightLegs$Reader", name := "line", desc := "()LEightLegs$Line;" } : Jvm.MethodName)) ∈ lw_all := lw_g (lw_at lw_m3 14 rfl) rfl
theorem q594 : (Jvm.Cond.code ({ cls := "EightLegs$Reader", name := "line", desc := "()LEightLegs$Line;" } : Jvm.MethodName) prog_22_method_6_code (2 : Nat) (Option.some (Jvm.ClassFile.FieldType.object "EightLegs$Line"))) ∈ lw_all := lw_g (lw_at lw_m3 15 rfl) rfl
theorem q595 : (Jvm.Cond.classLink "EightLegs$Reader" (44 : Nat) "EightLegs$Line") ∈ lw_all := lw_g (lw_at lw_m3 16 rfl) rfl
theorem q597 : (Jvm.Cond.methodLinkNest "EightLegs$Reader" (49 : Nat) ({ cls := "EightLegs$Line", name := "<init>", desc := "()V" } : Jvm.MethodName) "EightLegs") ∈ lw_tbl := lw_at lw_m3 18 rfl
theorem q601 : (Jvm.Cond.fieldLinkNest "EightLegs$Reader" (58 : Nat) "EightLegs$Line" "test" "LEightLegs$Node;" "EightLegs") ∈ lw_tbl := lw_at lw_m3 22 rfl
theorem q603 : (Jvm.Cond.fieldLinkNest "EightLegs$Reader" (54 : Nat) "EightLegs$Line" "gives" "LEightLegs$Node;" "EightLegs") ∈ lw_tbl := lw_at lw_m3 24 rfl
theorem q605 : (Jvm.Cond.fieldLinkNest "EightLegs$Reader" (43 : Nat) "EightLegs$Line" "next" "LEightLegs$Line;" "EightLegs") ∈ lw_tbl := lw_at lw_m3 26 rfl
theorem q614 : (Jvm.Cond.methodLink "EightLegs$Reader" (50 : Nat) ({ cls := "EightLegs$Reader", name := "either", desc := "()LEightLegs$Node;" } : Jvm.MethodName)) ∈ lw_all := lw_g (lw_at lw_m3 35 rfl) rfl
theorem q615 : (Jvm.Cond.privateMethod ({ cls := "EightLegs$Reader", name := "either", desc := "()LEightLegs$Node;" } : Jvm.MethodName)) ∈ lw_tbl := lw_at lw_m3 36 rfl
theorem q616 : (Jvm.Cond.instanceMethod ({ cls := "EightLegs$Reader", name := "either", desc := "()LEightLegs$Node;" } : Jvm.MethodName)) ∈ lw_all := lw_g (lw_at lw_m3 37 rfl) rfl
theorem q617 : (Jvm.Cond.code ({ cls := "EightLegs$Reader", name := "either", desc := "()LEightLegs$Node;" } : Jvm.MethodName) prog_22_method_8_code (2 : Nat) (Option.some (Jvm.ClassFile.FieldType.object "EightLegs$Node"))) ∈ lw_all := lw_g (lw_at lw_m3 38 rfl) rfl
theorem q618 : (Jvm.Cond.methodLink "EightLegs$Reader" (66 : Nat) ({ cls := "EightLegs$Reader", name := "all", desc := "()LEightLegs$Node;" } : Jvm.MethodName)) ∈ lw_all := lw_g (lw_at lw_m3 39 rfl) rfl
theorem q619 : (Jvm.Cond.privateMethod ({ cls := "EightLegs$Reader", name := "all", desc := "()LEightLegs$Node;" } : Jvm.MethodName)) ∈ lw_tbl := lw_at lw_m3 40 rfl
theorem q620 : (Jvm.Cond.instanceMethod ({ cls := "EightLegs$Reader", name := "all", desc := "()LEightLegs$Node;" } : Jvm.MethodName)) ∈ lw_all := lw_g (lw_at lw_m3 41 rfl) rfl
theorem q621 : (Jvm.Cond.code ({ cls := "EightLegs$Reader", name := "all", desc := "()LEightLegs$Node;" } : Jvm.MethodName) prog_22_method_9_code (2 : Nat) (Option.some (Jvm.ClassFile.FieldType.object "EightLegs$Node"))) ∈ lw_all := lw_g (lw_at lw_m3 42 rfl) rfl
theorem q622 : (Jvm.Cond.methodLink "EightLegs$Reader" (73 : Nat) ({ cls := "EightLegs$Reader", name := "compared", desc := "()LEightLegs$Node;" } : Jvm.MethodName)) ∈ lw_all := lw_g (lw_at lw_m3 43 rfl) rfl
theorem q623 : (Jvm.Cond.privateMethod ({ cls := "EightLegs$Reader", name := "compared", desc := "()LEightLegs$Node;" } : Jvm.MethodName)) ∈ lw_tbl := lw_at lw_m3 44 rfl
theorem q624 : (Jvm.Cond.instanceMethod ({ cls := "EightLegs$Reader", name := "compared", desc := "()LEightLegs$Node;" } : Jvm.MethodName)) ∈ lw_all := lw_g (lw_at lw_m3 45 rfl) rfl
theorem q625 : (Jvm.Cond.code ({ cls := "EightLegs$Reader", name := "compared", desc := "()LEightLegs$Node;" } : Jvm.MethodName) prog_22_method_10_code (3 : Nat) (Option.some (Jvm.ClassFile.FieldType.object "EightLegs$Node"))) ∈ lw_all := lw_g (lw_at lw_m3 46 rfl) rfl
theorem q626 : (Jvm.Cond.methodLink "EightLegs$Reader" (76 : Nat) ({ cls := "EightLegs$Reader", name := "sum", desc := "()LEightLegs$Node;" } : Jvm.MethodName)) ∈ lw_all := lw_g (lw_at lw_m3 47 rfl) rfl
theorem q627 : (Jvm.Cond.privateMethod ({ cls := "EightLegs$Reader", name := "sum", desc := "()LEightLegs$Node;" } : Jvm.MethodName)) ∈ lw_tbl := lw_at lw_m3 48 rfl
theorem q628 : (Jvm.Cond.instanceMethod ({ cls := "EightLegs$Reader", name := "sum", desc := "()LEightLegs$Node;" } : Jvm.MethodName)) ∈ lw_all := lw_g (lw_at lw_m3 49 rfl) rfl
theorem q629 : (Jvm.Cond.code ({ cls := "EightLegs$Reader", name := "sum", desc := "()LEightLegs$Node;" } : Jvm.MethodName) prog_22_method_11_code (3 : Nat) (Option.some (Jvm.ClassFile.FieldType.object "EightLegs$Node"))) ∈ lw_all := lw_g (lw_at lw_m3 50 rfl) rfl
theorem q630 : (Jvm.Cond.methodLink "EightLegs$Reader" (85 : Nat) ({ cls := "EightLegs$Reader", name := "product", desc := "()LEightLegs$Node;" } : Jvm.MethodName)) ∈ lw_all := lw_g (lw_at lw_m3 51 rfl) rfl
theorem q631 : (Jvm.Cond.privateMethod ({ cls := "EightLegs$Reader", name := "product", desc := "()LEightLegs$Node;" } : Jvm.MethodName)) ∈ lw_tbl := lw_at lw_m3 52 rfl
theorem q632 : (Jvm.Cond.instanceMethod ({ cls := "EightLegs$Reader", name := "product", desc := "()LEightLegs$Node;" } : Jvm.MethodName)) ∈ lw_all := lw_g (lw_at lw_m3 53 rfl) rfl
theorem q633 : (Jvm.Cond.code ({ cls := "EightLegs$Reader", name := "product", desc := "()LEightLegs$Node;" } : Jvm.MethodName) prog_22_method_12_code (3 : Nat) (Option.some (Jvm.ClassFile.FieldType.object "EightLegs$Node"))) ∈ lw_all := lw_g (lw_at lw_m3 54 rfl) rfl
theorem q634 : (Jvm.Cond.methodLink "EightLegs$Reader" (90 : Nat) ({ cls := "EightLegs$Reader", name := "operand", desc := "()LEightLegs$Node;" } : Jvm.MethodName)) ∈ lw_all := lw_g (lw_at lw_m3 55 rfl) rfl
theorem q635 : (Jvm.Cond.privateMethod ({ cls := "EightLegs$Reader", name := "operand", desc := "()LEightLegs$Node;" } : Jvm.MethodName)) ∈ lw_tbl := lw_at lw_m3 56 rfl
theorem q636 : (Jvm.Cond.instanceMethod ({ cls := "EightLegs$Reader", name := "operand", desc := "()LEightLegs$Node;" } : Jvm.MethodName)) ∈ lw_all := lw_g (lw_at lw_m3 57 rfl) rfl
theorem q637 : (Jvm.Cond.code ({ cls := "EightLegs$Reader", name := "operand", desc := "()LEightLegs$Node;" } : Jvm.MethodName) prog_22_method_14_code (4 : Nat) (Option.some (Jvm.ClassFile.FieldType.object "EightLegs$Node"))) ∈ lw_all := lw_g (lw_at lw_m3 58 rfl) rfl
theorem q638 : (Jvm.Cond.methodLink "EightLegs$Reader" (29 : Nat) ({ cls := "EightLegs$Reader", name := "here", desc := "()I" } : Jvm.MethodName)) ∈ lw_all := lw_g (lw_at lw_m3 59 rfl) rfl
theorem q639 : (Jvm.Cond.privateMethod ({ cls := "EightLegs$Reader", name := "here", desc := "()I" } : Jvm.MethodName)) ∈ lw_tbl := lw_at lw_m3 60 rfl
theorem q640 : (Jvm.Cond.instanceMethod ({ cls := "EightLegs$Reader", name := "here", desc := "()I" } : Jvm.MethodName)) ∈ lw_all := lw_g (lw_at lw_m3 61 rfl) rfl
theorem q641 : (Jvm.Cond.code ({ cls := "EightLegs$Reader", name := "here", desc := "()I" } : Jvm.MethodName) prog_22_method_2_code (1 : Nat) (Option.some Jvm.ClassFile.FieldType.int)) ∈ lw_all := lw_g (lw_at lw_m3 62 rfl) rfl
theorem q642 : (Jvm.Cond.stringRef "EightLegs$Reader" (98 : Nat) "oedtks") ∈ lw_tbl := lw_at lw_m3 63 rfl
theorem q643 : (Jvm.Cond.methodLink "EightLegs$Reader" (81 : Nat) ({ cls := "EightLegs$Reader", name := "isOne", desc := "(Ljava/lang/String;)Z" } : Jvm.MethodName)) ∈ lw_all := lw_g (lw_at lw_m3 64 rfl) rfl
theorem q644 : (Jvm.Cond.privateMethod ({ cls := "EightLegs$Reader", name := "isOne", desc := "(Ljava/lang/String;)Z" } : Jvm.MethodName)) ∈ lw_tbl := lw_at lw_m3 65 rfl
theorem q645 : (Jvm.Cond.instanceMethod ({ cls := "EightLegs$Reader", name := "isOne", desc := "(Ljava/lang/String;)Z" } : Jvm.MethodName)) ∈ lw_all := lw_g (lw_at lw_m3 66 rfl) rfl
theorem q646 : (Jvm.Cond.code ({ cls := "EightLegs$Reader", name := "isOne", desc := "(Ljava/lang/String;)Z" } : Jvm.MethodName) prog_22_method_3_code (2 : Nat) (Option.some Jvm.ClassFile.FieldType.boolean)) ∈ lw_all := lw_g (lw_at lw_m3 67 rfl) rfl
theorem q647 : (Jvm.Cond.methodLink "EightLegs$Reader" (33 : Nat) ({ cls := "java/lang/String", name := "indexOf", desc := "(I)I" } : Jvm.MethodName)) ∈ lw_all := lw_g (lw_at lw_m3 68 rfl) rfl
theorem q733 : (Jvm.Cond.classLink "EightLegs$Reader" (100 : Nat) "EightLegs$Name") ∈ lw_all := lw_g (lw_at lw_m3 154 rfl) rfl
theorem q735 : (Jvm.Cond.methodLink "EightLegs$Reader" (102 : Nat) ({ cls := "EightLegs$Name", name := "<init>", desc := "(I)V" } : Jvm.MethodName)) ∈ lw_all := lw_g (lw_at lw_m3 156 rfl) rfl
theorem q746 : (Jvm.Cond.methodLink "EightLegs$Reader" (105 : Nat) ({ cls := "EightLegs$Reader", name := "opens", desc := "()Z" } : Jvm.MethodName)) ∈ lw_all := lw_g (lw_at lw_m3 167 rfl) rfl
theorem q747 : (Jvm.Cond.privateMethod ({ cls := "EightLegs$Reader", name := "opens", desc := "()Z" } : Jvm.MethodName)) ∈ lw_tbl := lw_at lw_m3 168 rfl
theorem q748 : (Jvm.Cond.instanceMethod ({ cls := "EightLegs$Reader", name := "opens", desc := "()Z" } : Jvm.MethodName)) ∈ lw_all := lw_g (lw_at lw_m3 169 rfl) rfl
theorem q749 : (Jvm.Cond.code ({ cls := "EightLegs$Reader", name := "opens", desc := "()Z" } : Jvm.MethodName) prog_22_method_13_code (1 : Nat) (Option.some Jvm.ClassFile.FieldType.boolean)) ∈ lw_all := lw_g (lw_at lw_m3 170 rfl) rfl
theorem q750 : (Jvm.Cond.methodLink "EightLegs$Reader" (109 : Nat) ({ cls := "EightLegs$Reader", name := "wrong", desc := "()LEightLegs$Node;" } : Jvm.MethodName)) ∈ lw_all := lw_g (lw_at lw_m3 171 rfl) rfl
theorem q751 : (Jvm.Cond.privateMethod ({ cls := "EightLegs$Reader", name := "wrong", desc := "()LEightLegs$Node;" } : Jvm.MethodName)) ∈ lw_tbl := lw_at lw_m3 172 rfl
theorem q752 : (Jvm.Cond.instanceMethod ({ cls := "EightLegs$Reader", name := "wrong", desc := "()LEightLegs$Node;" } : Jvm.MethodName)) ∈ lw_all := lw_g (lw_at lw_m3 173 rfl) rfl
theorem q753 : (Jvm.Cond.code ({ cls := "EightLegs$Reader", name := "wrong", desc := "()LEightLegs$Node;" } : Jvm.MethodName) prog_22_method_4_code (1 : Nat) (Option.some (Jvm.ClassFile.FieldType.object "EightLegs$Node"))) ∈ lw_all := lw_g (lw_at lw_m3 174 rfl) rfl
theorem q754 : (Jvm.Cond.classLink "EightLegs$Reader" (112 : Nat) "EightLegs$Denied") ∈ lw_all := lw_g (lw_at lw_m3 175 rfl) rfl
theorem q756 : (Jvm.Cond.methodLink "EightLegs$Reader" (114 : Nat) ({ cls := "EightLegs$Denied", name := "<init>", desc := "(LEightLegs$Node;)V" } : Jvm.MethodName)) ∈ lw_all := lw_g (lw_at lw_m3 177 rfl) rfl
theorem q764 : (Jvm.Cond.classLink "EightLegs$Reader" (117 : Nat) "EightLegs$Turned") ∈ lw_all := lw_g (lw_at lw_m3 185 rfl) rfl
theorem q766 : (Jvm.Cond.methodLink "EightLegs$Reader" (119 : Nat) ({ cls := "EightLegs$Turned", name := "<init>", desc := "(LEightLegs$Node;)V" } : Jvm.MethodName)) ∈ lw_all := lw_g (lw_at lw_m3 187 rfl) rfl
theorem q774 : (Jvm.Cond.methodLinkNest "EightLegs$Reader" (120 : Nat) ({ cls := "EightLegs", name := "in", desc := "(III)Z" } : Jvm.MethodName) "EightLegs") ∈ lw_tbl := lw_at lw_m3 195 rfl
theorem q775 : (Jvm.Cond.classLink "EightLegs$Reader" (124 : Nat) "EightLegs$Leaf") ∈ lw_all := lw_g (lw_at lw_m3 196 rfl) rfl
theorem q777 : (Jvm.Cond.methodLink "EightLegs$Reader" (126 : Nat) ({ cls := "EightLegs$Leaf", name := "<init>", desc := "(I)V" } : Jvm.MethodName)) ∈ lw_all := lw_g (lw_at lw_m3 198 rfl) rfl
theorem q785 : (Jvm.Cond.stringRef "EightLegs$Reader" (93 : Nat) "*/%") ∈ lw_tbl := lw_at lw_m3 206 rfl
theorem q786 : (Jvm.Cond.methodLink "EightLegs$Reader" (69 : Nat) ({ cls := "EightLegs$Reader", name := "joined", desc := "(ILEightLegs$Node;LEightLegs$Node;)LEightLegs$Node;" } : Jvm.MethodName)) ∈ lw_all := lw_g (lw_at lw_m3 207 rfl) rfl
theorem q787 : (Jvm.Cond.privateMethod ({ cls := "EightLegs$Reader", name := "joined", desc := "(ILEightLegs$Node;LEightLegs$Node;)LEightLegs$Node;" } : Jvm.MethodName)) ∈ lw_tbl := lw_at lw_m3 208 rfl
theorem q788 : (Jvm.Cond.instanceMethod ({ cls := "EightLegs$Reader", name := "joined", desc := "(ILEightLegs$Node;LEightLegs$Node;)LEightLegs$Node;" } : Jvm.MethodName)) ∈ lw_all := lw_g (lw_at lw_m3 209 rfl) rfl
theorem q789 : (Jvm.Cond.code ({ cls := "EightLegs$Reader", name := "joined", desc := "(ILEightLegs$Node;LEightLegs$Node;)LEightLegs$Node;" } : Jvm.MethodName) prog_22_method_7_code (4 : Nat) (Option.some (Jvm.ClassFile.FieldType.object "EightLegs$Node"))) ∈ lw_all := lw_g (lw_at lw_m3 210 rfl) rfl
theorem q790 : (Jvm.Cond.classLink "EightLegs$Reader" (61 : Nat) "EightLegs$Pair") ∈ lw_all := lw_g (lw_at lw_m3 211 rfl) rfl
theorem q792 : (Jvm.Cond.methodLink "EightLegs$Reader" (63 : Nat) ({ cls := "EightLegs$Pair", name := "<init>", desc := "(ILEightLegs$Node;LEightLegs$Node;)V" } : Jvm.MethodName)) ∈ lw_all := lw_g (lw_at lw_m3 213 rfl) rfl
theorem q806 : (Jvm.Cond.stringRef "EightLegs$Reader" (88 : Nat) "+-") ∈ lw_tbl := lw_at lw_m3 227 rfl
theorem q807 : (Jvm.Cond.stringRef "EightLegs$Reader" (79 : Nat) "<=>") ∈ lw_tbl := lw_at lw_m3 228 rfl
theorem in_X5 : ∀ w ∈ wsX50, w ∈ lw_all := lw_in wsX50 [578, 580, 582, 584] (by decide +kernel) (by decide +kernel)

/-! EightLegs$Line -/
set_option maxRecDepth 100000
def RX6 : String := "EightLegs$Line"
def TX6 : u_T := fun k => match k with
  | 0 => ("EightLegs$Line", "test", "LEightLegs$Node;", false)
  | 1 => ("EightLegs$Line", "gives", "LEightLegs$Node;", false)
  | _ => ("EightLegs$Line", "next", "LEightLegs$Line;", false)
def tyX6 : Nat → FieldType := fun k => match k with
  | 0 => .object "EightLegs$Node"
  | 1 => .object "EightLegs$Node"
  | _ => .object "EightLegs$Line"
abbrev wsX60 : List Cond := u_ws RX6 TX6 3
theorem nmX6 : ∀ a, a < 3 → ∀ b, b < 3 → a ≠ b → (TX6 a).2.1 ≠ (TX6 b).2.1 := by decide +kernel
theorem tyX6_ok : ∀ k, k < 3 → parseFieldDescriptor (TX6 k).2.2.1 = some (tyX6 k) := by decide +kernel
abbrev cX6_init : ByteArray := prog_17_method_1_code
def yX6_init : MethodName := ⟨RX6, "<init>", "()V"⟩
theorem dX6_init_0 : decode cX6_init 0 = .ok (.aload_n 0, 1) := by decide +kernel
theorem dX6_init_1 : decode cX6_init 1 = .ok (.invokespecial 1, 3) := by decide +kernel
theorem dX6_init_4 : decode cX6_init 4 = .ok (.return_, 1) := by decide +kernel
theorem q114 : (Jvm.Cond.initialized "EightLegs$Line") ∈ lw_all := lw_g (lw_at lw_m1 15 rfl) rfl
theorem q596 : (Jvm.Cond.instantiable "EightLegs$Line" (3 : Nat)) ∈ lw_all := lw_g (lw_at lw_m3 17 rfl) rfl
theorem q598 : (Jvm.Cond.instanceMethod ({ cls := "EightLegs$Line", name := "<init>", desc := "()V" } : Jvm.MethodName)) ∈ lw_all := lw_g (lw_at lw_m3 19 rfl) rfl
theorem q599 : (Jvm.Cond.code ({ cls := "EightLegs$Line", name := "<init>", desc := "()V" } : Jvm.MethodName) prog_17_method_1_code (1 : Nat) (Option.none : Option Jvm.ClassFile.FieldType)) ∈ lw_all := lw_g (lw_at lw_m3 20 rfl) rfl
theorem q600 : (Jvm.Cond.methodLink "EightLegs$Line" (1 : Nat) ({ cls := "java/lang/Object", name := "<init>", desc := "()V" } : Jvm.MethodName)) ∈ lw_all := lw_g (lw_at lw_m3 21 rfl) rfl
theorem q607 : (Jvm.Cond.lays "EightLegs$Line" "EightLegs$Line" "test" "LEightLegs$Node;") ∈ lw_all := lw_g (lw_at lw_m3 28 rfl) rfl
theorem q608 : (Jvm.Cond.soleField "EightLegs$Line" "test") ∈ lw_all := lw_g (lw_at lw_m3 29 rfl) rfl
theorem q609 : (Jvm.Cond.lays "EightLegs$Line" "EightLegs$Line" "gives" "LEightLegs$Node;") ∈ lw_all := lw_g (lw_at lw_m3 30 rfl) rfl
theorem q610 : (Jvm.Cond.soleField "EightLegs$Line" "gives") ∈ lw_all := lw_g (lw_at lw_m3 31 rfl) rfl
theorem q611 : (Jvm.Cond.lays "EightLegs$Line" "EightLegs$Line" "next" "LEightLegs$Line;") ∈ lw_all := lw_g (lw_at lw_m3 32 rfl) rfl
theorem q612 : (Jvm.Cond.soleField "EightLegs$Line" "next") ∈ lw_all := lw_g (lw_at lw_m3 33 rfl) rfl
theorem q613 : (Jvm.Cond.superclass "EightLegs$Line" "java/lang/Object") ∈ lw_all := lw_g (lw_at lw_m3 34 rfl) rfl
theorem in_X6 : ∀ w ∈ wsX60, w ∈ lw_all := lw_in wsX60 [607, 609, 611] (by decide +kernel) (by decide +kernel)

/-! EightLegs$Node -/
set_option maxRecDepth 100000
def RX7 : String := "EightLegs$Node"
abbrev cX7_init : ByteArray := prog_20_method_1_code
def yX7_init : MethodName := ⟨RX7, "<init>", "()V"⟩
theorem dX7_init_0 : decode cX7_init 0 = .ok (.aload_n 0, 1) := by decide +kernel
theorem dX7_init_1 : decode cX7_init 1 = .ok (.invokespecial 1, 3) := by decide +kernel
theorem dX7_init_4 : decode cX7_init 4 = .ok (.return_, 1) := by decide +kernel
theorem q120 : (Jvm.Cond.initialized "EightLegs$Node") ∈ lw_all := lw_g (lw_at lw_m1 21 rfl) rfl
theorem q739 : (Jvm.Cond.instanceMethod ({ cls := "EightLegs$Node", name := "<init>", desc := "()V" } : Jvm.MethodName)) ∈ lw_all := lw_g (lw_at lw_m3 160 rfl) rfl
theorem q740 : (Jvm.Cond.code ({ cls := "EightLegs$Node", name := "<init>", desc := "()V" } : Jvm.MethodName) prog_20_method_1_code (1 : Nat) (Option.none : Option Jvm.ClassFile.FieldType)) ∈ lw_all := lw_g (lw_at lw_m3 161 rfl) rfl
theorem q741 : (Jvm.Cond.methodLink "EightLegs$Node" (1 : Nat) ({ cls := "java/lang/Object", name := "<init>", desc := "()V" } : Jvm.MethodName)) ∈ lw_all := lw_g (lw_at lw_m3 162 rfl) rfl
theorem q833 : (Jvm.Cond.declares ({ cls := "EightLegs$Node", name := "value", desc := "(LEightLegs$Facts;)I" } : Jvm.MethodName)) ∈ lw_tbl := lw_at lw_m4 14 rfl
theorem q834 : (Jvm.Cond.sameMethod "EightLegs$Node" "EightLegs$Node" "value" "(LEightLegs$Facts;)I") ∈ lw_all := lw_g (lw_at lw_m4 15 rfl) rfl

/-! EightLegs$Name -/
set_option maxRecDepth 100000
def RX8 : String := "EightLegs$Name"
def TX8 : u_T := fun k => match k with
  | _ => ("EightLegs$Name", "letter", "I", true)
def tyX8 : Nat → FieldType := fun k => match k with
  | _ => .int
abbrev wsX80 : List Cond := u_ws RX8 TX8 1
theorem nmX8 : ∀ a, a < 1 → ∀ b, b < 1 → a ≠ b → (TX8 a).2.1 ≠ (TX8 b).2.1 := by decide +kernel
theorem tyX8_ok : ∀ k, k < 1 → parseFieldDescriptor (TX8 k).2.2.1 = some (tyX8 k) := by decide +kernel
abbrev cX8_init : ByteArray := prog_19_method_1_code
def yX8_init : MethodName := ⟨RX8, "<init>", "(I)V"⟩
def dkwX8_init_0 : List UInt8 := [42, 183, 0, 1, 42, 27, 181, 0, 7, 177]
abbrev dktX8_init_0 : List UInt8 := dkwX8_init_0 ++ []
theorem dksX8_init_0 : cX8_init.data.toList.drop 0 = dktX8_init_0 := by decide +kernel
theorem dX8_init_0 : decode cX8_init 0 = .ok (.aload_n 0, 1) := dk_42 (dk_at dksX8_init_0 0 rfl rfl)
theorem dX8_init_1 : decode cX8_init 1 = .ok (.invokespecial 1, 3) := dk_183 0 1 (dk_at dksX8_init_0 1 rfl rfl)
theorem dX8_init_4 : decode cX8_init 4 = .ok (.aload_n 0, 1) := dk_42 (dk_at dksX8_init_0 4 rfl rfl)
theorem dX8_init_5 : decode cX8_init 5 = .ok (.iload_n 1, 1) := dk_27 (dk_at dksX8_init_0 5 rfl rfl)
theorem dX8_init_6 : decode cX8_init 6 = .ok (.putfield 7, 3) := dk_181 0 7 (dk_at dksX8_init_0 6 rfl rfl)
theorem dX8_init_9 : decode cX8_init 9 = .ok (.return_, 1) := dk_177 (dk_at dksX8_init_0 9 rfl rfl)
abbrev cX8_value : ByteArray := prog_19_method_2_code
def yX8_value : MethodName := ⟨RX8, "value", "(LEightLegs$Facts;)I"⟩
def dkwX8_value_0 : List UInt8 := [43, 180, 0, 13, 42, 180, 0, 7, 46, 172]
abbrev dktX8_value_0 : List UInt8 := dkwX8_value_0 ++ []
theorem dksX8_value_0 : cX8_value.data.toList.drop 0 = dktX8_value_0 := by decide +kernel
theorem dX8_value_0 : decode cX8_value 0 = .ok (.aload_n 1, 1) := dk_43 (dk_at dksX8_value_0 0 rfl rfl)
theorem dX8_value_1 : decode cX8_value 1 = .ok (.getfield 13, 3) := dk_180 0 13 (dk_at dksX8_value_0 1 rfl rfl)
theorem dX8_value_4 : decode cX8_value 4 = .ok (.aload_n 0, 1) := dk_42 (dk_at dksX8_value_0 4 rfl rfl)
theorem dX8_value_5 : decode cX8_value 5 = .ok (.getfield 7, 3) := dk_180 0 7 (dk_at dksX8_value_0 5 rfl rfl)
theorem dX8_value_8 : decode cX8_value 8 = .ok (.iaload, 1) := dk_46 (dk_at dksX8_value_0 8 rfl rfl)
theorem dX8_value_9 : decode cX8_value 9 = .ok (.ireturn, 1) := dk_172 (dk_at dksX8_value_0 9 rfl rfl)
theorem q121 : (Jvm.Cond.initialized "EightLegs$Name") ∈ lw_all := lw_g (lw_at lw_m1 22 rfl) rfl
theorem q163 : (Jvm.Cond.fieldLinkNest "EightLegs$Name" (13 : Nat) "EightLegs$Facts" "named" "[I" "EightLegs") ∈ lw_tbl := lw_at lw_m1 64 rfl
theorem q734 : (Jvm.Cond.instantiable "EightLegs$Name" (1 : Nat)) ∈ lw_all := lw_g (lw_at lw_m3 155 rfl) rfl
theorem q736 : (Jvm.Cond.instanceMethod ({ cls := "EightLegs$Name", name := "<init>", desc := "(I)V" } : Jvm.MethodName)) ∈ lw_all := lw_g (lw_at lw_m3 157 rfl) rfl
theorem q737 : (Jvm.Cond.code ({ cls := "EightLegs$Name", name := "<init>", desc := "(I)V" } : Jvm.MethodName) prog_19_method_1_code (2 : Nat) (Option.none : Option Jvm.ClassFile.FieldType)) ∈ lw_all := lw_g (lw_at lw_m3 158 rfl) rfl
theorem q738 : (Jvm.Cond.methodLinkNest "EightLegs$Name" (1 : Nat) ({ cls := "EightLegs$Node", name := "<init>", desc := "()V" } : Jvm.MethodName) "EightLegs") ∈ lw_tbl := lw_at lw_m3 159 rfl
theorem q742 : (Jvm.Cond.fieldLink "EightLegs$Name" (7 : Nat) "EightLegs$Name" "letter" "I") ∈ lw_all := lw_g (lw_at lw_m3 163 rfl) rfl
theorem q743 : (Jvm.Cond.laysFinal "EightLegs$Name" "EightLegs$Name" "letter" "I") ∈ lw_all := lw_g (lw_at lw_m3 164 rfl) rfl
theorem q744 : (Jvm.Cond.soleField "EightLegs$Name" "letter") ∈ lw_all := lw_g (lw_at lw_m3 165 rfl) rfl
theorem q745 : (Jvm.Cond.superclass "EightLegs$Name" "EightLegs$Node") ∈ lw_all := lw_g (lw_at lw_m3 166 rfl) rfl
theorem q841 : (Jvm.Cond.instanceMethod ({ cls := "EightLegs$Name", name := "value", desc := "(LEightLegs$Facts;)I" } : Jvm.MethodName)) ∈ lw_all := lw_g (lw_at lw_m4 22 rfl) rfl
theorem q842 : (Jvm.Cond.code ({ cls := "EightLegs$Name", name := "value", desc := "(LEightLegs$Facts;)I" } : Jvm.MethodName) prog_19_method_2_code (2 : Nat) (Option.some Jvm.ClassFile.FieldType.int)) ∈ lw_all := lw_g (lw_at lw_m4 23 rfl) rfl
theorem q853 : (Jvm.Cond.selects "EightLegs$Name" ({ cls := "EightLegs$Node", name := "value", desc := "(LEightLegs$Facts;)I" } : Jvm.MethodName) ({ cls := "EightLegs$Name", name := "value", desc := "(LEightLegs$Facts;)I" } : Jvm.MethodName)) ∈ lw_all := lw_g (lw_at lw_m4 34 rfl) rfl
theorem in_X8 : ∀ w ∈ wsX80, w ∈ lw_all := lw_in wsX80 [743] (by decide +kernel) (by decide +kernel)

/-! EightLegs$Denied -/
set_option maxRecDepth 100000
def RX9 : String := "EightLegs$Denied"
def TX9 : u_T := fun k => match k with
  | _ => ("EightLegs$Denied", "of", "LEightLegs$Node;", true)
def tyX9 : Nat → FieldType := fun k => match k with
  | _ => .object "EightLegs$Node"
abbrev wsX90 : List Cond := u_ws RX9 TX9 1
theorem nmX9 : ∀ a, a < 1 → ∀ b, b < 1 → a ≠ b → (TX9 a).2.1 ≠ (TX9 b).2.1 := by decide +kernel
theorem tyX9_ok : ∀ k, k < 1 → parseFieldDescriptor (TX9 k).2.2.1 = some (tyX9 k) := by decide +kernel
abbrev cX9_init : ByteArray := prog_8_method_1_code
def yX9_init : MethodName := ⟨RX9, "<init>", "(LEightLegs$Node;)V"⟩
def dkwX9_init_0 : List UInt8 := [42, 183, 0, 1, 42, 43, 181, 0, 7, 177]
abbrev dktX9_init_0 : List UInt8 := dkwX9_init_0 ++ []
theorem dksX9_init_0 : cX9_init.data.toList.drop 0 = dktX9_init_0 := by decide +kernel
theorem dX9_init_0 : decode cX9_init 0 = .ok (.aload_n 0, 1) := dk_42 (dk_at dksX9_init_0 0 rfl rfl)
theorem dX9_init_1 : decode cX9_init 1 = .ok (.invokespecial 1, 3) := dk_183 0 1 (dk_at dksX9_init_0 1 rfl rfl)
theorem dX9_init_4 : decode cX9_init 4 = .ok (.aload_n 0, 1) := dk_42 (dk_at dksX9_init_0 4 rfl rfl)
theorem dX9_init_5 : decode cX9_init 5 = .ok (.aload_n 1, 1) := dk_43 (dk_at dksX9_init_0 5 rfl rfl)
theorem dX9_init_6 : decode cX9_init 6 = .ok (.putfield 7, 3) := dk_181 0 7 (dk_at dksX9_init_0 6 rfl rfl)
theorem dX9_init_9 : decode cX9_init 9 = .ok (.return_, 1) := dk_177 (dk_at dksX9_init_0 9 rfl rfl)
abbrev cX9_value : ByteArray := prog_8_method_2_code
def yX9_value : MethodName := ⟨RX9, "value", "(LEightLegs$Facts;)I"⟩
def dkwX9_value_0 : List UInt8 := [42, 180, 0, 7, 43, 182, 0, 13, 154, 0, 7, 4, 167, 0, 4, 3, 172]
abbrev dktX9_value_0 : List UInt8 := dkwX9_value_0 ++ []
theorem dksX9_value_0 : cX9_value.data.toList.drop 0 = dktX9_value_0 := by decide +kernel
theorem dX9_value_0 : decode cX9_value 0 = .ok (.aload_n 0, 1) := dk_42 (dk_at dksX9_value_0 0 rfl rfl)
theorem dX9_value_1 : decode cX9_value 1 = .ok (.getfield 7, 3) := dk_180 0 7 (dk_at dksX9_value_0 1 rfl rfl)
theorem dX9_value_4 : decode cX9_value 4 = .ok (.aload_n 1, 1) := dk_43 (dk_at dksX9_value_0 4 rfl rfl)
theorem dX9_value_5 : decode cX9_value 5 = .ok (.invokevirtual 13, 3) := dk_182 0 13 (dk_at dksX9_value_0 5 rfl rfl)
theorem dX9_value_8 : decode cX9_value 8 = .ok (.ifCond .ne 7, 3) := dk_154 0 7 (dk_at dksX9_value_0 8 rfl rfl)
theorem dX9_value_11 : decode cX9_value 11 = .ok (.iconst 1, 1) := dk_4 (dk_at dksX9_value_0 11 rfl rfl)
theorem dX9_value_12 : decode cX9_value 12 = .ok (.goto 4, 3) := dk_167 0 4 (dk_at dksX9_value_0 12 rfl rfl)
theorem dX9_value_15 : decode cX9_value 15 = .ok (.iconst 0, 1) := dk_3 (dk_at dksX9_value_0 15 rfl rfl)
theorem dX9_value_16 : decode cX9_value 16 = .ok (.ireturn, 1) := dk_172 (dk_at dksX9_value_0 16 rfl rfl)
theorem q122 : (Jvm.Cond.initialized "EightLegs$Denied") ∈ lw_all := lw_g (lw_at lw_m1 23 rfl) rfl
theorem q755 : (Jvm.Cond.instantiable "EightLegs$Denied" (1 : Nat)) ∈ lw_all := lw_g (lw_at lw_m3 176 rfl) rfl
theorem q757 : (Jvm.Cond.instanceMethod ({ cls := "EightLegs$Denied", name := "<init>", desc := "(LEightLegs$Node;)V" } : Jvm.MethodName)) ∈ lw_all := lw_g (lw_at lw_m3 178 rfl) rfl
theorem q758 : (Jvm.Cond.code ({ cls := "EightLegs$Denied", name := "<init>", desc := "(LEightLegs$Node;)V" } : Jvm.MethodName) prog_8_method_1_code (2 : Nat) (Option.none : Option Jvm.ClassFile.FieldType)) ∈ lw_all := lw_g (lw_at lw_m3 179 rfl) rfl
theorem q759 : (Jvm.Cond.methodLinkNest "EightLegs$Denied" (1 : Nat) ({ cls := "EightLegs$Node", name := "<init>", desc := "()V" } : Jvm.MethodName) "EightLegs") ∈ lw_tbl := lw_at lw_m3 180 rfl
theorem q760 : (Jvm.Cond.fieldLink "EightLegs$Denied" (7 : Nat) "EightLegs$Denied" "of" "LEightLegs$Node;") ∈ lw_all := lw_g (lw_at lw_m3 181 rfl) rfl
theorem q761 : (Jvm.Cond.laysFinal "EightLegs$Denied" "EightLegs$Denied" "of" "LEightLegs$Node;") ∈ lw_all := lw_g (lw_at lw_m3 182 rfl) rfl
theorem q762 : (Jvm.Cond.soleField "EightLegs$Denied" "of") ∈ lw_all := lw_g (lw_at lw_m3 183 rfl) rfl
theorem q763 : (Jvm.Cond.superclass "EightLegs$Denied" "EightLegs$Node") ∈ lw_all := lw_g (lw_at lw_m3 184 rfl) rfl
theorem q835 : (Jvm.Cond.selects "EightLegs$Denied" ({ cls := "EightLegs$Node", name := "value", desc := "(LEightLegs$Facts;)I" } : Jvm.MethodName) ({ cls := "EightLegs$Denied", name := "value", desc := "(LEightLegs$Facts;)I" } : Jvm.MethodName)) ∈ lw_all := lw_g (lw_at lw_m4 16 rfl) rfl
theorem q836 : (Jvm.Cond.instanceMethod ({ cls := "EightLegs$Denied", name := "value", desc := "(LEightLegs$Facts;)I" } : Jvm.MethodName)) ∈ lw_all := lw_g (lw_at lw_m4 17 rfl) rfl
theorem q837 : (Jvm.Cond.code ({ cls := "EightLegs$Denied", name := "value", desc := "(LEightLegs$Facts;)I" } : Jvm.MethodName) prog_8_method_2_code (2 : Nat) (Option.some Jvm.ClassFile.FieldType.int)) ∈ lw_all := lw_g (lw_at lw_m4 18 rfl) rfl
theorem q838 : (Jvm.Cond.methodLink "EightLegs$Denied" (13 : Nat) ({ cls := "EightLegs$Node", name := "value", desc := "(LEightLegs$Facts;)I" } : Jvm.MethodName)) ∈ lw_all := lw_g (lw_at lw_m4 19 rfl) rfl
theorem in_X9 : ∀ w ∈ wsX90, w ∈ lw_all := lw_in wsX90 [761] (by decide +kernel) (by decide +kernel)

/-! EightLegs$Turned -/
set_option maxRecDepth 100000
def RX10 : String := "EightLegs$Turned"
def TX10 : u_T := fun k => match k with
  | _ => ("EightLegs$Turned", "of", "LEightLegs$Node;", true)
def tyX10 : Nat → FieldType := fun k => match k with
  | _ => .object "EightLegs$Node"
abbrev wsX100 : List Cond := u_ws RX10 TX10 1
theorem nmX10 : ∀ a, a < 1 → ∀ b, b < 1 → a ≠ b → (TX10 a).2.1 ≠ (TX10 b).2.1 := by decide +kernel
theorem tyX10_ok : ∀ k, k < 1 → parseFieldDescriptor (TX10 k).2.2.1 = some (tyX10 k) := by decide +kernel
abbrev cX10_init : ByteArray := prog_29_method_1_code
def yX10_init : MethodName := ⟨RX10, "<init>", "(LEightLegs$Node;)V"⟩
def dkwX10_init_0 : List UInt8 := [42, 183, 0, 1, 42, 43, 181, 0, 7, 177]
abbrev dktX10_init_0 : List UInt8 := dkwX10_init_0 ++ []
theorem dksX10_init_0 : cX10_init.data.toList.drop 0 = dktX10_init_0 := by decide +kernel
theorem dX10_init_0 : decode cX10_init 0 = .ok (.aload_n 0, 1) := dk_42 (dk_at dksX10_init_0 0 rfl rfl)
theorem dX10_init_1 : decode cX10_init 1 = .ok (.invokespecial 1, 3) := dk_183 0 1 (dk_at dksX10_init_0 1 rfl rfl)
theorem dX10_init_4 : decode cX10_init 4 = .ok (.aload_n 0, 1) := dk_42 (dk_at dksX10_init_0 4 rfl rfl)
theorem dX10_init_5 : decode cX10_init 5 = .ok (.aload_n 1, 1) := dk_43 (dk_at dksX10_init_0 5 rfl rfl)
theorem dX10_init_6 : decode cX10_init 6 = .ok (.putfield 7, 3) := dk_181 0 7 (dk_at dksX10_init_0 6 rfl rfl)
theorem dX10_init_9 : decode cX10_init 9 = .ok (.return_, 1) := dk_177 (dk_at dksX10_init_0 9 rfl rfl)
abbrev cX10_value : ByteArray := prog_29_method_2_code
def yX10_value : MethodName := ⟨RX10, "value", "(LEightLegs$Facts;)I"⟩
def dkwX10_value_0 : List UInt8 := [42, 180, 0, 7, 43, 182, 0, 13, 116, 172]
abbrev dktX10_value_0 : List UInt8 := dkwX10_value_0 ++ []
theorem dksX10_value_0 : cX10_value.data.toList.drop 0 = dktX10_value_0 := by decide +kernel
theorem dX10_value_0 : decode cX10_value 0 = .ok (.aload_n 0, 1) := dk_42 (dk_at dksX10_value_0 0 rfl rfl)
theorem dX10_value_1 : decode cX10_value 1 = .ok (.getfield 7, 3) := dk_180 0 7 (dk_at dksX10_value_0 1 rfl rfl)
theorem dX10_value_4 : decode cX10_value 4 = .ok (.aload_n 1, 1) := dk_43 (dk_at dksX10_value_0 4 rfl rfl)
theorem dX10_value_5 : decode cX10_value 5 = .ok (.invokevirtual 13, 3) := dk_182 0 13 (dk_at dksX10_value_0 5 rfl rfl)
theorem dX10_value_8 : decode cX10_value 8 = .ok (.ineg, 1) := dk_116 (dk_at dksX10_value_0 8 rfl rfl)
theorem dX10_value_9 : decode cX10_value 9 = .ok (.ireturn, 1) := dk_172 (dk_at dksX10_value_0 9 rfl rfl)
theorem q123 : (Jvm.Cond.initialized "EightLegs$Turned") ∈ lw_all := lw_g (lw_at lw_m1 24 rfl) rfl
theorem q765 : (Jvm.Cond.instantiable "EightLegs$Turned" (1 : Nat)) ∈ lw_all := lw_g (lw_at lw_m3 186 rfl) rfl
theorem q767 : (Jvm.Cond.instanceMethod ({ cls := "EightLegs$Turned", name := "<init>", desc := "(LEightLegs$Node;)V" } : Jvm.MethodName)) ∈ lw_all := lw_g (lw_at lw_m3 188 rfl) rfl
theorem q768 : (Jvm.Cond.code ({ cls := "EightLegs$Turned", name := "<init>", desc := "(LEightLegs$Node;)V" } : Jvm.MethodName) prog_29_method_1_code (2 : Nat) (Option.none : Option Jvm.ClassFile.FieldType)) ∈ lw_all := lw_g (lw_at lw_m3 189 rfl) rfl
theorem q769 : (Jvm.Cond.methodLinkNest "EightLegs$Turned" (1 : Nat) ({ cls := "EightLegs$Node", name := "<init>", desc := "()V" } : Jvm.MethodName) "EightLegs") ∈ lw_tbl := lw_at lw_m3 190 rfl
theorem q770 : (Jvm.Cond.fieldLink "EightLegs$Turned" (7 : Nat) "EightLegs$Turned" "of" "LEightLegs$Node;") ∈ lw_all := lw_g (lw_at lw_m3 191 rfl) rfl
theorem q771 : (Jvm.Cond.laysFinal "EightLegs$Turned" "EightLegs$Turned" "of" "LEightLegs$Node;") ∈ lw_all := lw_g (lw_at lw_m3 192 rfl) rfl
theorem q772 : (Jvm.Cond.soleField "EightLegs$Turned" "of") ∈ lw_all := lw_g (lw_at lw_m3 193 rfl) rfl
theorem q773 : (Jvm.Cond.superclass "EightLegs$Turned" "EightLegs$Node") ∈ lw_all := lw_g (lw_at lw_m3 194 rfl) rfl
theorem q846 : (Jvm.Cond.instanceMethod ({ cls := "EightLegs$Turned", name := "value", desc := "(LEightLegs$Facts;)I" } : Jvm.MethodName)) ∈ lw_all := lw_g (lw_at lw_m4 27 rfl) rfl
theorem q847 : (Jvm.Cond.code ({ cls := "EightLegs$Turned", name := "value", desc := "(LEightLegs$Facts;)I" } : Jvm.MethodName) prog_29_method_2_code (2 : Nat) (Option.some Jvm.ClassFile.FieldType.int)) ∈ lw_all := lw_g (lw_at lw_m4 28 rfl) rfl
theorem q848 : (Jvm.Cond.methodLink "EightLegs$Turned" (13 : Nat) ({ cls := "EightLegs$Node", name := "value", desc := "(LEightLegs$Facts;)I" } : Jvm.MethodName)) ∈ lw_all := lw_g (lw_at lw_m4 29 rfl) rfl
theorem q855 : (Jvm.Cond.selects "EightLegs$Turned" ({ cls := "EightLegs$Node", name := "value", desc := "(LEightLegs$Facts;)I" } : Jvm.MethodName) ({ cls := "EightLegs$Turned", name := "value", desc := "(LEightLegs$Facts;)I" } : Jvm.MethodName)) ∈ lw_all := lw_g (lw_at lw_m4 36 rfl) rfl
theorem in_X10 : ∀ w ∈ wsX100, w ∈ lw_all := lw_in wsX100 [771] (by decide +kernel) (by decide +kernel)

/-! EightLegs$Leaf -/
set_option maxRecDepth 100000
def RX11 : String := "EightLegs$Leaf"
def TX11 : u_T := fun k => match k with
  | _ => ("EightLegs$Leaf", "number", "I", true)
def tyX11 : Nat → FieldType := fun k => match k with
  | _ => .int
abbrev wsX110 : List Cond := u_ws RX11 TX11 1
theorem nmX11 : ∀ a, a < 1 → ∀ b, b < 1 → a ≠ b → (TX11 a).2.1 ≠ (TX11 b).2.1 := by decide +kernel
theorem tyX11_ok : ∀ k, k < 1 → parseFieldDescriptor (TX11 k).2.2.1 = some (tyX11 k) := by decide +kernel
abbrev cX11_init : ByteArray := prog_14_method_1_code
def yX11_init : MethodName := ⟨RX11, "<init>", "(I)V"⟩
def dkwX11_init_0 : List UInt8 := [42, 183, 0, 1, 42, 27, 181, 0, 7, 177]
abbrev dktX11_init_0 : List UInt8 := dkwX11_init_0 ++ []
theorem dksX11_init_0 : cX11_init.data.toList.drop 0 = dktX11_init_0 := by decide +kernel
theorem dX11_init_0 : decode cX11_init 0 = .ok (.aload_n 0, 1) := dk_42 (dk_at dksX11_init_0 0 rfl rfl)
theorem dX11_init_1 : decode cX11_init 1 = .ok (.invokespecial 1, 3) := dk_183 0 1 (dk_at dksX11_init_0 1 rfl rfl)
theorem dX11_init_4 : decode cX11_init 4 = .ok (.aload_n 0, 1) := dk_42 (dk_at dksX11_init_0 4 rfl rfl)
theorem dX11_init_5 : decode cX11_init 5 = .ok (.iload_n 1, 1) := dk_27 (dk_at dksX11_init_0 5 rfl rfl)
theorem dX11_init_6 : decode cX11_init 6 = .ok (.putfield 7, 3) := dk_181 0 7 (dk_at dksX11_init_0 6 rfl rfl)
theorem dX11_init_9 : decode cX11_init 9 = .ok (.return_, 1) := dk_177 (dk_at dksX11_init_0 9 rfl rfl)
abbrev cX11_value : ByteArray := prog_14_method_2_code
def yX11_value : MethodName := ⟨RX11, "value", "(LEightLegs$Facts;)I"⟩
theorem dX11_value_0 : decode cX11_value 0 = .ok (.aload_n 0, 1) := by decide +kernel
theorem dX11_value_1 : decode cX11_value 1 = .ok (.getfield 7, 3) := by decide +kernel
theorem dX11_value_4 : decode cX11_value 4 = .ok (.ireturn, 1) := by decide +kernel
theorem q124 : (Jvm.Cond.initialized "EightLegs$Leaf") ∈ lw_all := lw_g (lw_at lw_m1 25 rfl) rfl
theorem q776 : (Jvm.Cond.instantiable "EightLegs$Leaf" (1 : Nat)) ∈ lw_all := lw_g (lw_at lw_m3 197 rfl) rfl
theorem q778 : (Jvm.Cond.instanceMethod ({ cls := "EightLegs$Leaf", name := "<init>", desc := "(I)V" } : Jvm.MethodName)) ∈ lw_all := lw_g (lw_at lw_m3 199 rfl) rfl
theorem q779 : (Jvm.Cond.code ({ cls := "EightLegs$Leaf", name := "<init>", desc := "(I)V" } : Jvm.MethodName) prog_14_method_1_code (2 : Nat) (Option.none : Option Jvm.ClassFile.FieldType)) ∈ lw_all := lw_g (lw_at lw_m3 200 rfl) rfl
theorem q780 : (Jvm.Cond.methodLinkNest "EightLegs$Leaf" (1 : Nat) ({ cls := "EightLegs$Node", name := "<init>", desc := "()V" } : Jvm.MethodName) "EightLegs") ∈ lw_tbl := lw_at lw_m3 201 rfl
theorem q781 : (Jvm.Cond.fieldLink "EightLegs$Leaf" (7 : Nat) "EightLegs$Leaf" "number" "I") ∈ lw_all := lw_g (lw_at lw_m3 202 rfl) rfl
theorem q782 : (Jvm.Cond.laysFinal "EightLegs$Leaf" "EightLegs$Leaf" "number" "I") ∈ lw_all := lw_g (lw_at lw_m3 203 rfl) rfl
theorem q783 : (Jvm.Cond.soleField "EightLegs$Leaf" "number") ∈ lw_all := lw_g (lw_at lw_m3 204 rfl) rfl
theorem q784 : (Jvm.Cond.superclass "EightLegs$Leaf" "EightLegs$Node") ∈ lw_all := lw_g (lw_at lw_m3 205 rfl) rfl
theorem q839 : (Jvm.Cond.instanceMethod ({ cls := "EightLegs$Leaf", name := "value", desc := "(LEightLegs$Facts;)I" } : Jvm.MethodName)) ∈ lw_all := lw_g (lw_at lw_m4 20 rfl) rfl
theorem q840 : (Jvm.Cond.code ({ cls := "EightLegs$Leaf", name := "value", desc := "(LEightLegs$Facts;)I" } : Jvm.MethodName) prog_14_method_2_code (2 : Nat) (Option.some Jvm.ClassFile.FieldType.int)) ∈ lw_all := lw_g (lw_at lw_m4 21 rfl) rfl
theorem q852 : (Jvm.Cond.selects "EightLegs$Leaf" ({ cls := "EightLegs$Node", name := "value", desc := "(LEightLegs$Facts;)I" } : Jvm.MethodName) ({ cls := "EightLegs$Leaf", name := "value", desc := "(LEightLegs$Facts;)I" } : Jvm.MethodName)) ∈ lw_all := lw_g (lw_at lw_m4 33 rfl) rfl
theorem in_X11 : ∀ w ∈ wsX110, w ∈ lw_all := lw_in wsX110 [782] (by decide +kernel) (by decide +kernel)

/-! EightLegs$Pair -/
set_option maxRecDepth 100000
def RX12 : String := "EightLegs$Pair"
def TX12 : u_T := fun k => match k with
  | 0 => ("EightLegs$Pair", "sign", "I", true)
  | 1 => ("EightLegs$Pair", "left", "LEightLegs$Node;", true)
  | _ => ("EightLegs$Pair", "right", "LEightLegs$Node;", true)
def tyX12 : Nat → FieldType := fun k => match k with
  | 0 => .int
  | 1 => .object "EightLegs$Node"
  | _ => .object "EightLegs$Node"
abbrev wsX120 : List Cond := u_ws RX12 TX12 3
theorem nmX12 : ∀ a, a < 3 → ∀ b, b < 3 → a ≠ b → (TX12 a).2.1 ≠ (TX12 b).2.1 := by decide +kernel
theorem tyX12_ok : ∀ k, k < 3 → parseFieldDescriptor (TX12 k).2.2.1 = some (tyX12 k) := by decide +kernel
abbrev cX12_init : ByteArray := prog_21_method_1_code
def yX12_init : MethodName := ⟨RX12, "<init>", "(ILEightLegs$Node;LEightLegs$Node;)V"⟩
def dkwX12_init_0 : List UInt8 := [42, 183, 0, 1, 42, 27, 181, 0, 7, 42, 44, 181, 0, 13, 42, 45, 181, 0, 17, 177]
abbrev dktX12_init_0 : List UInt8 := dkwX12_init_0 ++ []
theorem dksX12_init_0 : cX12_init.data.toList.drop 0 = dktX12_init_0 := by decide +kernel
theorem dX12_init_0 : decode cX12_init 0 = .ok (.aload_n 0, 1) := dk_42 (dk_at dksX12_init_0 0 rfl rfl)
theorem dX12_init_1 : decode cX12_init 1 = .ok (.invokespecial 1, 3) := dk_183 0 1 (dk_at dksX12_init_0 1 rfl rfl)
theorem dX12_init_4 : decode cX12_init 4 = .ok (.aload_n 0, 1) := dk_42 (dk_at dksX12_init_0 4 rfl rfl)
theorem dX12_init_5 : decode cX12_init 5 = .ok (.iload_n 1, 1) := dk_27 (dk_at dksX12_init_0 5 rfl rfl)
theorem dX12_init_6 : decode cX12_init 6 = .ok (.putfield 7, 3) := dk_181 0 7 (dk_at dksX12_init_0 6 rfl rfl)
theorem dX12_init_9 : decode cX12_init 9 = .ok (.aload_n 0, 1) := dk_42 (dk_at dksX12_init_0 9 rfl rfl)
theorem dX12_init_10 : decode cX12_init 10 = .ok (.aload_n 2, 1) := dk_44 (dk_at dksX12_init_0 10 rfl rfl)
theorem dX12_init_11 : decode cX12_init 11 = .ok (.putfield 13, 3) := dk_181 0 13 (dk_at dksX12_init_0 11 rfl rfl)
theorem dX12_init_14 : decode cX12_init 14 = .ok (.aload_n 0, 1) := dk_42 (dk_at dksX12_init_0 14 rfl rfl)
theorem dX12_init_15 : decode cX12_init 15 = .ok (.aload_n 3, 1) := dk_45 (dk_at dksX12_init_0 15 rfl rfl)
theorem dX12_init_16 : decode cX12_init 16 = .ok (.putfield 17, 3) := dk_181 0 17 (dk_at dksX12_init_0 16 rfl rfl)
theorem dX12_init_19 : decode cX12_init 19 = .ok (.return_, 1) := dk_177 (dk_at dksX12_init_0 19 rfl rfl)
abbrev cX12_value : ByteArray := prog_21_method_3_code
def yX12_value : MethodName := ⟨RX12, "value", "(LEightLegs$Facts;)I"⟩
def dkwX12_value_7 : List UInt8 := [154, 0, 7, 29, 153, 0, 7, 4, 167, 0, 4, 3, 184, 0, 24, 172]
abbrev dktX12_value_7 : List UInt8 := dkwX12_value_7 ++ []
def dkwX12_value_6 : List UInt8 := [184, 0, 24, 172, 28, 153, 0, 11, 29, 153, 0, 7, 4, 167, 0, 4, 3, 184, 0, 24, 172, 28]
abbrev dktX12_value_6 : List UInt8 := dkwX12_value_6 ++ dktX12_value_7
def dkwX12_value_5 : List UInt8 := [160, 0, 7, 4, 167, 0, 4, 3, 184, 0, 24, 172, 28, 29, 164, 0, 7, 4, 167, 0, 4, 3]
abbrev dktX12_value_5 : List UInt8 := dkwX12_value_5 ++ dktX12_value_6
def dkwX12_value_4 : List UInt8 := [167, 0, 6, 28, 29, 112, 172, 28, 29, 162, 0, 7, 4, 167, 0, 4, 3, 184, 0, 24, 172, 28, 29]
abbrev dktX12_value_4 : List UInt8 := dkwX12_value_4 ++ dktX12_value_5
def dkwX12_value_3 : List UInt8 := [160, 0, 8, 28, 116, 167, 0, 6, 28, 29, 108, 172, 29, 153, 0, 8, 29, 2, 160, 0, 7, 3]
abbrev dktX12_value_3 : List UInt8 := dkwX12_value_3 ++ dktX12_value_4
def dkwX12_value_2 : List UInt8 := [28, 29, 96, 172, 28, 29, 100, 172, 28, 29, 104, 172, 29, 154, 0, 7, 3, 167, 0, 16, 29, 2]
abbrev dktX12_value_2 : List UInt8 := dkwX12_value_2 ++ dktX12_value_3
def dkwX12_value_1 : List UInt8 := [170, 0, 0, 0, 0, 228, 0, 0, 0, 37, 0, 0, 0, 62, 0, 0, 0, 152, 0, 0, 0, 211, 0, 0, 0, 228, 0, 0, 0, 228, 0, 0, 0, 228, 0, 0, 0, 126, 0, 0, 0, 118, 0, 0, 0, 228, 0, 0, 0, 122, 0, 0, 0, 228, 0, 0, 0, 130, 0, 0, 0, 228, 0, 0, 0, 228, 0, 0, 0, 228, 0, 0, 0, 228, 0, 0, 0, 228, 0, 0, 0, 228, 0, 0, 0, 228, 0, 0, 0, 228, 0, 0, 0, 228, 0, 0, 0, 228, 0, 0, 0, 228, 0, 0, 0, 228, 0, 0, 0, 169, 0, 0, 0, 183, 0, 0, 0, 197]
abbrev dktX12_value_1 : List UInt8 := dkwX12_value_1 ++ dktX12_value_2
def dkwX12_value_0 : List UInt8 := [42, 180, 0, 13, 43, 182, 0, 20, 61, 42, 180, 0, 17, 43, 182, 0, 20, 62, 42, 180, 0, 7]
abbrev dktX12_value_0 : List UInt8 := dkwX12_value_0 ++ dktX12_value_1
theorem dksX12_value_0 : cX12_value.data.toList.drop 0 = dktX12_value_0 := by decide +kernel
theorem dksX12_value_1 : cX12_value.data.toList.drop 22 = dktX12_value_1 := dk_seg dksX12_value_0 22 rfl rfl
theorem dksX12_value_2 : cX12_value.data.toList.drop 140 = dktX12_value_2 := dk_seg dksX12_value_1 118 rfl rfl
theorem dksX12_value_3 : cX12_value.data.toList.drop 162 = dktX12_value_3 := dk_seg dksX12_value_2 22 rfl rfl
theorem dksX12_value_4 : cX12_value.data.toList.drop 184 = dktX12_value_4 := dk_seg dksX12_value_3 22 rfl rfl
theorem dksX12_value_5 : cX12_value.data.toList.drop 207 = dktX12_value_5 := dk_seg dksX12_value_4 23 rfl rfl
theorem dksX12_value_6 : cX12_value.data.toList.drop 229 = dktX12_value_6 := dk_seg dksX12_value_5 22 rfl rfl
theorem dksX12_value_7 : cX12_value.data.toList.drop 251 = dktX12_value_7 := dk_seg dksX12_value_6 22 rfl rfl
theorem dX12_value_0 : decode cX12_value 0 = .ok (.aload_n 0, 1) := dk_42 (dk_at dksX12_value_0 0 rfl rfl)
theorem dX12_value_1 : decode cX12_value 1 = .ok (.getfield 13, 3) := dk_180 0 13 (dk_at dksX12_value_0 1 rfl rfl)
theorem dX12_value_4 : decode cX12_value 4 = .ok (.aload_n 1, 1) := dk_43 (dk_at dksX12_value_0 4 rfl rfl)
theorem dX12_value_5 : decode cX12_value 5 = .ok (.invokevirtual 20, 3) := dk_182 0 20 (dk_at dksX12_value_0 5 rfl rfl)
theorem dX12_value_8 : decode cX12_value 8 = .ok (.istore_n 2, 1) := dk_61 (dk_at dksX12_value_0 8 rfl rfl)
theorem dX12_value_9 : decode cX12_value 9 = .ok (.aload_n 0, 1) := dk_42 (dk_at dksX12_value_0 9 rfl rfl)
theorem dX12_value_10 : decode cX12_value 10 = .ok (.getfield 17, 3) := dk_180 0 17 (dk_at dksX12_value_0 10 rfl rfl)
theorem dX12_value_13 : decode cX12_value 13 = .ok (.aload_n 1, 1) := dk_43 (dk_at dksX12_value_0 13 rfl rfl)
theorem dX12_value_14 : decode cX12_value 14 = .ok (.invokevirtual 20, 3) := dk_182 0 20 (dk_at dksX12_value_0 14 rfl rfl)
theorem dX12_value_17 : decode cX12_value 17 = .ok (.istore_n 3, 1) := dk_62 (dk_at dksX12_value_0 17 rfl rfl)
theorem dX12_value_18 : decode cX12_value 18 = .ok (.aload_n 0, 1) := dk_42 (dk_at dksX12_value_0 18 rfl rfl)
theorem dX12_value_19 : decode cX12_value 19 = .ok (.getfield 7, 3) := dk_180 0 7 (dk_at dksX12_value_0 19 rfl rfl)
theorem dX12_value_22 : decode cX12_value 22 = .ok (.tableswitch 228 37 62 #[152, 211, 228, 228, 228, 126, 118, 228, 122, 228, 130, 228, 228, 228, 228, 228, 228, 228, 228, 228, 228, 228, 228, 169, 183, 197], 118) := by decide +kernel
theorem dX12_value_140 : decode cX12_value 140 = .ok (.iload_n 2, 1) := dk_28 (dk_at dksX12_value_2 0 rfl rfl)
theorem dX12_value_141 : decode cX12_value 141 = .ok (.iload_n 3, 1) := dk_29 (dk_at dksX12_value_2 1 rfl rfl)
theorem dX12_value_142 : decode cX12_value 142 = .ok (.iadd, 1) := dk_96 (dk_at dksX12_value_2 2 rfl rfl)
theorem dX12_value_143 : decode cX12_value 143 = .ok (.ireturn, 1) := dk_172 (dk_at dksX12_value_2 3 rfl rfl)
theorem dX12_value_144 : decode cX12_value 144 = .ok (.iload_n 2, 1) := dk_28 (dk_at dksX12_value_2 4 rfl rfl)
theorem dX12_value_145 : decode cX12_value 145 = .ok (.iload_n 3, 1) := dk_29 (dk_at dksX12_value_2 5 rfl rfl)
theorem dX12_value_146 : decode cX12_value 146 = .ok (.isub, 1) := dk_100 (dk_at dksX12_value_2 6 rfl rfl)
theorem dX12_value_147 : decode cX12_value 147 = .ok (.ireturn, 1) := dk_172 (dk_at dksX12_value_2 7 rfl rfl)
theorem dX12_value_148 : decode cX12_value 148 = .ok (.iload_n 2, 1) := dk_28 (dk_at dksX12_value_2 8 rfl rfl)
theorem dX12_value_149 : decode cX12_value 149 = .ok (.iload_n 3, 1) := dk_29 (dk_at dksX12_value_2 9 rfl rfl)
theorem dX12_value_150 : decode cX12_value 150 = .ok (.imul, 1) := dk_104 (dk_at dksX12_value_2 10 rfl rfl)
theorem dX12_value_151 : decode cX12_value 151 = .ok (.ireturn, 1) := dk_172 (dk_at dksX12_value_2 11 rfl rfl)
theorem dX12_value_152 : decode cX12_value 152 = .ok (.iload_n 3, 1) := dk_29 (dk_at dksX12_value_2 12 rfl rfl)
theorem dX12_value_153 : decode cX12_value 153 = .ok (.ifCond .ne 7, 3) := dk_154 0 7 (dk_at dksX12_value_2 13 rfl rfl)
theorem dX12_value_156 : decode cX12_value 156 = .ok (.iconst 0, 1) := dk_3 (dk_at dksX12_value_2 16 rfl rfl)
theorem dX12_value_157 : decode cX12_value 157 = .ok (.goto 16, 3) := dk_167 0 16 (dk_at dksX12_value_2 17 rfl rfl)
theorem dX12_value_160 : decode cX12_value 160 = .ok (.iload_n 3, 1) := dk_29 (dk_at dksX12_value_2 20 rfl rfl)
theorem dX12_value_161 : decode cX12_value 161 = .ok (.iconst (-1), 1) := dk_2 (dk_at dksX12_value_2 21 rfl rfl)
theorem dX12_value_162 : decode cX12_value 162 = .ok (.if_icmp .ne 8, 3) := dk_160 0 8 (dk_at dksX12_value_3 0 rfl rfl)
theorem dX12_value_165 : decode cX12_value 165 = .ok (.iload_n 2, 1) := dk_28 (dk_at dksX12_value_3 3 rfl rfl)
theorem dX12_value_166 : decode cX12_value 166 = .ok (.ineg, 1) := dk_116 (dk_at dksX12_value_3 4 rfl rfl)
theorem dX12_value_167 : decode cX12_value 167 = .ok (.goto 6, 3) := dk_167 0 6 (dk_at dksX12_value_3 5 rfl rfl)
theorem dX12_value_170 : decode cX12_value 170 = .ok (.iload_n 2, 1) := dk_28 (dk_at dksX12_value_3 8 rfl rfl)
theorem dX12_value_171 : decode cX12_value 171 = .ok (.iload_n 3, 1) := dk_29 (dk_at dksX12_value_3 9 rfl rfl)
theorem dX12_value_172 : decode cX12_value 172 = .ok (.idiv, 1) := dk_108 (dk_at dksX12_value_3 10 rfl rfl)
theorem dX12_value_173 : decode cX12_value 173 = .ok (.ireturn, 1) := dk_172 (dk_at dksX12_value_3 11 rfl rfl)
theorem dX12_value_174 : decode cX12_value 174 = .ok (.iload_n 3, 1) := dk_29 (dk_at dksX12_value_3 12 rfl rfl)
theorem dX12_value_175 : decode cX12_value 175 = .ok (.ifCond .eq 8, 3) := dk_153 0 8 (dk_at dksX12_value_3 13 rfl rfl)
theorem dX12_value_178 : decode cX12_value 178 = .ok (.iload_n 3, 1) := dk_29 (dk_at dksX12_value_3 16 rfl rfl)
theorem dX12_value_179 : decode cX12_value 179 = .ok (.iconst (-1), 1) := dk_2 (dk_at dksX12_value_3 17 rfl rfl)
theorem dX12_value_180 : decode cX12_value 180 = .ok (.if_icmp .ne 7, 3) := dk_160 0 7 (dk_at dksX12_value_3 18 rfl rfl)
theorem dX12_value_183 : decode cX12_value 183 = .ok (.iconst 0, 1) := dk_3 (dk_at dksX12_value_3 21 rfl rfl)
theorem dX12_value_184 : decode cX12_value 184 = .ok (.goto 6, 3) := dk_167 0 6 (dk_at dksX12_value_4 0 rfl rfl)
theorem dX12_value_187 : decode cX12_value 187 = .ok (.iload_n 2, 1) := dk_28 (dk_at dksX12_value_4 3 rfl rfl)
theorem dX12_value_188 : decode cX12_value 188 = .ok (.iload_n 3, 1) := dk_29 (dk_at dksX12_value_4 4 rfl rfl)
theorem dX12_value_189 : decode cX12_value 189 = .ok (.irem, 1) := dk_112 (dk_at dksX12_value_4 5 rfl rfl)
theorem dX12_value_190 : decode cX12_value 190 = .ok (.ireturn, 1) := dk_172 (dk_at dksX12_value_4 6 rfl rfl)
theorem dX12_value_191 : decode cX12_value 191 = .ok (.iload_n 2, 1) := dk_28 (dk_at dksX12_value_4 7 rfl rfl)
theorem dX12_value_192 : decode cX12_value 192 = .ok (.iload_n 3, 1) := dk_29 (dk_at dksX12_value_4 8 rfl rfl)
theorem dX12_value_193 : decode cX12_value 193 = .ok (.if_icmp .ge 7, 3) := dk_162 0 7 (dk_at dksX12_value_4 9 rfl rfl)
theorem dX12_value_196 : decode cX12_value 196 = .ok (.iconst 1, 1) := dk_4 (dk_at dksX12_value_4 12 rfl rfl)
theorem dX12_value_197 : decode cX12_value 197 = .ok (.goto 4, 3) := dk_167 0 4 (dk_at dksX12_value_4 13 rfl rfl)
theorem dX12_value_200 : decode cX12_value 200 = .ok (.iconst 0, 1) := dk_3 (dk_at dksX12_value_4 16 rfl rfl)
theorem dX12_value_201 : decode cX12_value 201 = .ok (.invokestatic 24, 3) := dk_184 0 24 (dk_at dksX12_value_4 17 rfl rfl)
theorem dX12_value_204 : decode cX12_value 204 = .ok (.ireturn, 1) := dk_172 (dk_at dksX12_value_4 20 rfl rfl)
theorem dX12_value_205 : decode cX12_value 205 = .ok (.iload_n 2, 1) := dk_28 (dk_at dksX12_value_4 21 rfl rfl)
theorem dX12_value_206 : decode cX12_value 206 = .ok (.iload_n 3, 1) := dk_29 (dk_at dksX12_value_4 22 rfl rfl)
theorem dX12_value_207 : decode cX12_value 207 = .ok (.if_icmp .ne 7, 3) := dk_160 0 7 (dk_at dksX12_value_5 0 rfl rfl)
theorem dX12_value_210 : decode cX12_value 210 = .ok (.iconst 1, 1) := dk_4 (dk_at dksX12_value_5 3 rfl rfl)
theorem dX12_value_211 : decode cX12_value 211 = .ok (.goto 4, 3) := dk_167 0 4 (dk_at dksX12_value_5 4 rfl rfl)
theorem dX12_value_214 : decode cX12_value 214 = .ok (.iconst 0, 1) := dk_3 (dk_at dksX12_value_5 7 rfl rfl)
theorem dX12_value_215 : decode cX12_value 215 = .ok (.invokestatic 24, 3) := dk_184 0 24 (dk_at dksX12_value_5 8 rfl rfl)
theorem dX12_value_218 : decode cX12_value 218 = .ok (.ireturn, 1) := dk_172 (dk_at dksX12_value_5 11 rfl rfl)
theorem dX12_value_219 : decode cX12_value 219 = .ok (.iload_n 2, 1) := dk_28 (dk_at dksX12_value_5 12 rfl rfl)
theorem dX12_value_220 : decode cX12_value 220 = .ok (.iload_n 3, 1) := dk_29 (dk_at dksX12_value_5 13 rfl rfl)
theorem dX12_value_221 : decode cX12_value 221 = .ok (.if_icmp .le 7, 3) := dk_164 0 7 (dk_at dksX12_value_5 14 rfl rfl)
theorem dX12_value_224 : decode cX12_value 224 = .ok (.iconst 1, 1) := dk_4 (dk_at dksX12_value_5 17 rfl rfl)
theorem dX12_value_225 : decode cX12_value 225 = .ok (.goto 4, 3) := dk_167 0 4 (dk_at dksX12_value_5 18 rfl rfl)
theorem dX12_value_228 : decode cX12_value 228 = .ok (.iconst 0, 1) := dk_3 (dk_at dksX12_value_5 21 rfl rfl)
theorem dX12_value_229 : decode cX12_value 229 = .ok (.invokestatic 24, 3) := dk_184 0 24 (dk_at dksX12_value_6 0 rfl rfl)
theorem dX12_value_232 : decode cX12_value 232 = .ok (.ireturn, 1) := dk_172 (dk_at dksX12_value_6 3 rfl rfl)
theorem dX12_value_233 : decode cX12_value 233 = .ok (.iload_n 2, 1) := dk_28 (dk_at dksX12_value_6 4 rfl rfl)
theorem dX12_value_234 : decode cX12_value 234 = .ok (.ifCond .eq 11, 3) := dk_153 0 11 (dk_at dksX12_value_6 5 rfl rfl)
theorem dX12_value_237 : decode cX12_value 237 = .ok (.iload_n 3, 1) := dk_29 (dk_at dksX12_value_6 8 rfl rfl)
theorem dX12_value_238 : decode cX12_value 238 = .ok (.ifCond .eq 7, 3) := dk_153 0 7 (dk_at dksX12_value_6 9 rfl rfl)
theorem dX12_value_241 : decode cX12_value 241 = .ok (.iconst 1, 1) := dk_4 (dk_at dksX12_value_6 12 rfl rfl)
theorem dX12_value_242 : decode cX12_value 242 = .ok (.goto 4, 3) := dk_167 0 4 (dk_at dksX12_value_6 13 rfl rfl)
theorem dX12_value_245 : decode cX12_value 245 = .ok (.iconst 0, 1) := dk_3 (dk_at dksX12_value_6 16 rfl rfl)
theorem dX12_value_246 : decode cX12_value 246 = .ok (.invokestatic 24, 3) := dk_184 0 24 (dk_at dksX12_value_6 17 rfl rfl)
theorem dX12_value_249 : decode cX12_value 249 = .ok (.ireturn, 1) := dk_172 (dk_at dksX12_value_6 20 rfl rfl)
theorem dX12_value_250 : decode cX12_value 250 = .ok (.iload_n 2, 1) := dk_28 (dk_at dksX12_value_6 21 rfl rfl)
theorem dX12_value_251 : decode cX12_value 251 = .ok (.ifCond .ne 7, 3) := dk_154 0 7 (dk_at dksX12_value_7 0 rfl rfl)
theorem dX12_value_254 : decode cX12_value 254 = .ok (.iload_n 3, 1) := dk_29 (dk_at dksX12_value_7 3 rfl rfl)
theorem dX12_value_255 : decode cX12_value 255 = .ok (.ifCond .eq 7, 3) := dk_153 0 7 (dk_at dksX12_value_7 4 rfl rfl)
theorem dX12_value_258 : decode cX12_value 258 = .ok (.iconst 1, 1) := dk_4 (dk_at dksX12_value_7 7 rfl rfl)
theorem dX12_value_259 : decode cX12_value 259 = .ok (.goto 4, 3) := dk_167 0 4 (dk_at dksX12_value_7 8 rfl rfl)
theorem dX12_value_262 : decode cX12_value 262 = .ok (.iconst 0, 1) := dk_3 (dk_at dksX12_value_7 11 rfl rfl)
theorem dX12_value_263 : decode cX12_value 263 = .ok (.invokestatic 24, 3) := dk_184 0 24 (dk_at dksX12_value_7 12 rfl rfl)
theorem dX12_value_266 : decode cX12_value 266 = .ok (.ireturn, 1) := dk_172 (dk_at dksX12_value_7 15 rfl rfl)
abbrev cX12_is : ByteArray := prog_21_method_2_code
def yX12_is : MethodName := ⟨RX12, "is", "(Z)I"⟩
def dkwX12_is_0 : List UInt8 := [26, 153, 0, 7, 4, 167, 0, 4, 3, 172]
abbrev dktX12_is_0 : List UInt8 := dkwX12_is_0 ++ []
theorem dksX12_is_0 : cX12_is.data.toList.drop 0 = dktX12_is_0 := by decide +kernel
theorem dX12_is_0 : decode cX12_is 0 = .ok (.iload_n 0, 1) := dk_26 (dk_at dksX12_is_0 0 rfl rfl)
theorem dX12_is_1 : decode cX12_is 1 = .ok (.ifCond .eq 7, 3) := dk_153 0 7 (dk_at dksX12_is_0 1 rfl rfl)
theorem dX12_is_4 : decode cX12_is 4 = .ok (.iconst 1, 1) := dk_4 (dk_at dksX12_is_0 4 rfl rfl)
theorem dX12_is_5 : decode cX12_is 5 = .ok (.goto 4, 3) := dk_167 0 4 (dk_at dksX12_is_0 5 rfl rfl)
theorem dX12_is_8 : decode cX12_is 8 = .ok (.iconst 0, 1) := dk_3 (dk_at dksX12_is_0 8 rfl rfl)
theorem dX12_is_9 : decode cX12_is 9 = .ok (.ireturn, 1) := dk_172 (dk_at dksX12_is_0 9 rfl rfl)
theorem q125 : (Jvm.Cond.initialized "EightLegs$Pair") ∈ lw_all := lw_g (lw_at lw_m1 26 rfl) rfl
theorem q791 : (Jvm.Cond.instantiable "EightLegs$Pair" (3 : Nat)) ∈ lw_all := lw_g (lw_at lw_m3 212 rfl) rfl
theorem q793 : (Jvm.Cond.instanceMethod ({ cls := "EightLegs$Pair", name := "<init>", desc := "(ILEightLegs$Node;LEightLegs$Node;)V" } : Jvm.MethodName)) ∈ lw_all := lw_g (lw_at lw_m3 214 rfl) rfl
theorem q794 : (Jvm.Cond.code ({ cls := "EightLegs$Pair", name := "<init>", desc := "(ILEightLegs$Node;LEightLegs$Node;)V" } : Jvm.MethodName) prog_21_method_1_code (4 : Nat) (Option.none : Option Jvm.ClassFile.FieldType)) ∈ lw_all := lw_g (lw_at lw_m3 215 rfl) rfl
theorem q795 : (Jvm.Cond.methodLinkNest "EightLegs$Pair" (1 : Nat) ({ cls := "EightLegs$Node", name := "<init>", desc := "()V" } : Jvm.MethodName) "EightLegs") ∈ lw_tbl := lw_at lw_m3 216 rfl
theorem q796 : (Jvm.Cond.fieldLink "EightLegs$Pair" (7 : Nat) "EightLegs$Pair" "sign" "I") ∈ lw_all := lw_g (lw_at lw_m3 217 rfl) rfl
theorem q797 : (Jvm.Cond.fieldLink "EightLegs$Pair" (13 : Nat) "EightLegs$Pair" "left" "LEightLegs$Node;") ∈ lw_all := lw_g (lw_at lw_m3 218 rfl) rfl
theorem q798 : (Jvm.Cond.fieldLink "EightLegs$Pair" (17 : Nat) "EightLegs$Pair" "right" "LEightLegs$Node;") ∈ lw_all := lw_g (lw_at lw_m3 219 rfl) rfl
theorem q799 : (Jvm.Cond.laysFinal "EightLegs$Pair" "EightLegs$Pair" "sign" "I") ∈ lw_all := lw_g (lw_at lw_m3 220 rfl) rfl
theorem q800 : (Jvm.Cond.soleField "EightLegs$Pair" "sign") ∈ lw_all := lw_g (lw_at lw_m3 221 rfl) rfl
theorem q801 : (Jvm.Cond.laysFinal "EightLegs$Pair" "EightLegs$Pair" "left" "LEightLegs$Node;") ∈ lw_all := lw_g (lw_at lw_m3 222 rfl) rfl
theorem q802 : (Jvm.Cond.soleField "EightLegs$Pair" "left") ∈ lw_all := lw_g (lw_at lw_m3 223 rfl) rfl
theorem q803 : (Jvm.Cond.laysFinal "EightLegs$Pair" "EightLegs$Pair" "right" "LEightLegs$Node;") ∈ lw_all := lw_g (lw_at lw_m3 224 rfl) rfl
theorem q804 : (Jvm.Cond.soleField "EightLegs$Pair" "right") ∈ lw_all := lw_g (lw_at lw_m3 225 rfl) rfl
theorem q805 : (Jvm.Cond.superclass "EightLegs$Pair" "EightLegs$Node") ∈ lw_all := lw_g (lw_at lw_m3 226 rfl) rfl
theorem q843 : (Jvm.Cond.instanceMethod ({ cls := "EightLegs$Pair", name := "value", desc := "(LEightLegs$Facts;)I" } : Jvm.MethodName)) ∈ lw_all := lw_g (lw_at lw_m4 24 rfl) rfl
theorem q844 : (Jvm.Cond.code ({ cls := "EightLegs$Pair", name := "value", desc := "(LEightLegs$Facts;)I" } : Jvm.MethodName) prog_21_method_3_code (4 : Nat) (Option.some Jvm.ClassFile.FieldType.int)) ∈ lw_all := lw_g (lw_at lw_m4 25 rfl) rfl
theorem q845 : (Jvm.Cond.methodLink "EightLegs$Pair" (20 : Nat) ({ cls := "EightLegs$Node", name := "value", desc := "(LEightLegs$Facts;)I" } : Jvm.MethodName)) ∈ lw_all := lw_g (lw_at lw_m4 26 rfl) rfl
theorem q849 : (Jvm.Cond.methodLink "EightLegs$Pair" (24 : Nat) ({ cls := "EightLegs$Pair", name := "is", desc := "(Z)I" } : Jvm.MethodName)) ∈ lw_all := lw_g (lw_at lw_m4 30 rfl) rfl
theorem q850 : (Jvm.Cond.static ({ cls := "EightLegs$Pair", name := "is", desc := "(Z)I" } : Jvm.MethodName)) ∈ lw_all := lw_g (lw_at lw_m4 31 rfl) rfl
theorem q851 : (Jvm.Cond.code ({ cls := "EightLegs$Pair", name := "is", desc := "(Z)I" } : Jvm.MethodName) prog_21_method_2_code (1 : Nat) (Option.some Jvm.ClassFile.FieldType.int)) ∈ lw_all := lw_g (lw_at lw_m4 32 rfl) rfl
theorem q854 : (Jvm.Cond.selects "EightLegs$Pair" ({ cls := "EightLegs$Node", name := "value", desc := "(LEightLegs$Facts;)I" } : Jvm.MethodName) ({ cls := "EightLegs$Pair", name := "value", desc := "(LEightLegs$Facts;)I" } : Jvm.MethodName)) ∈ lw_all := lw_g (lw_at lw_m4 35 rfl) rfl
theorem in_X12 : ∀ w ∈ wsX120, w ∈ lw_all := lw_in wsX120 [799, 801, 803] (by decide +kernel) (by decide +kernel)

/-! EightLegs$Held -/
set_option maxRecDepth 100000
def RX13 : String := "EightLegs$Held"
abbrev cX13_init : ByteArray := prog_11_method_1_code
def yX13_init : MethodName := ⟨RX13, "<init>", "()V"⟩
theorem dX13_init_0 : decode cX13_init 0 = .ok (.aload_n 0, 1) := by decide +kernel
theorem dX13_init_1 : decode cX13_init 1 = .ok (.invokespecial 1, 3) := by decide +kernel
theorem dX13_init_4 : decode cX13_init 4 = .ok (.return_, 1) := by decide +kernel
theorem q127 : (Jvm.Cond.initialized "EightLegs$Held") ∈ lw_all := lw_g (lw_at lw_m1 28 rfl) rfl
theorem q1111 : (Jvm.Cond.instanceMethod ({ cls := "EightLegs$Held", name := "<init>", desc := "()V" } : Jvm.MethodName)) ∈ lw_all := lw_g (lw_at lw_m5 52 rfl) rfl
theorem q1112 : (Jvm.Cond.code ({ cls := "EightLegs$Held", name := "<init>", desc := "()V" } : Jvm.MethodName) prog_11_method_1_code (1 : Nat) (Option.none : Option Jvm.ClassFile.FieldType)) ∈ lw_all := lw_g (lw_at lw_m5 53 rfl) rfl
theorem q1113 : (Jvm.Cond.methodLink "EightLegs$Held" (1 : Nat) ({ cls := "java/lang/Object", name := "<init>", desc := "()V" } : Jvm.MethodName)) ∈ lw_all := lw_g (lw_at lw_m5 54 rfl) rfl

/-! EightLegs$Beat -/
set_option maxRecDepth 100000
def RX14 : String := "EightLegs$Beat"
def TX14 : u_T := fun k => match k with
  | 0 => ("EightLegs$Beat", "number", "I", true)
  | _ => ("EightLegs$Beat", "this$0", "LEightLegs;", true)
def tyX14 : Nat → FieldType := fun k => match k with
  | 0 => .int
  | _ => .object "EightLegs"
abbrev wsX140 : List Cond := u_ws RX14 TX14 2
theorem nmX14 : ∀ a, a < 2 → ∀ b, b < 2 → a ≠ b → (TX14 a).2.1 ≠ (TX14 b).2.1 := by decide +kernel
theorem tyX14_ok : ∀ k, k < 2 → parseFieldDescriptor (TX14 k).2.2.1 = some (tyX14 k) := by decide +kernel
abbrev cX14_init : ByteArray := prog_2_method_1_code
def yX14_init : MethodName := ⟨RX14, "<init>", "(LEightLegs;I)V"⟩
def dkwX14_init_0 : List UInt8 := [42, 43, 181, 0, 3, 42, 183, 0, 9, 42, 28, 181, 0, 15, 177]
abbrev dktX14_init_0 : List UInt8 := dkwX14_init_0 ++ []
theorem dksX14_init_0 : cX14_init.data.toList.drop 0 = dktX14_init_0 := by decide +kernel
theorem dX14_init_0 : decode cX14_init 0 = .ok (.aload_n 0, 1) := dk_42 (dk_at dksX14_init_0 0 rfl rfl)
theorem dX14_init_1 : decode cX14_init 1 = .ok (.aload_n 1, 1) := dk_43 (dk_at dksX14_init_0 1 rfl rfl)
theorem dX14_init_2 : decode cX14_init 2 = .ok (.putfield 3, 3) := dk_181 0 3 (dk_at dksX14_init_0 2 rfl rfl)
theorem dX14_init_5 : decode cX14_init 5 = .ok (.aload_n 0, 1) := dk_42 (dk_at dksX14_init_0 5 rfl rfl)
theorem dX14_init_6 : decode cX14_init 6 = .ok (.invokespecial 9, 3) := dk_183 0 9 (dk_at dksX14_init_0 6 rfl rfl)
theorem dX14_init_9 : decode cX14_init 9 = .ok (.aload_n 0, 1) := dk_42 (dk_at dksX14_init_0 9 rfl rfl)
theorem dX14_init_10 : decode cX14_init 10 = .ok (.iload_n 2, 1) := dk_28 (dk_at dksX14_init_0 10 rfl rfl)
theorem dX14_init_11 : decode cX14_init 11 = .ok (.putfield 15, 3) := dk_181 0 15 (dk_at dksX14_init_0 11 rfl rfl)
theorem dX14_init_14 : decode cX14_init 14 = .ok (.return_, 1) := dk_177 (dk_at dksX14_init_0 14 rfl rfl)
abbrev cX14_countsIt : ByteArray := prog_2_method_5_code
def yX14_countsIt : MethodName := ⟨RX14, "countsIt", "(I)I"⟩
def dkwX14_countsIt_0 : List UInt8 := [42, 180, 0, 3, 4, 182, 0, 23, 27, 42, 180, 0, 15, 96, 172]
abbrev dktX14_countsIt_0 : List UInt8 := dkwX14_countsIt_0 ++ []
theorem dksX14_countsIt_0 : cX14_countsIt.data.toList.drop 0 = dktX14_countsIt_0 := by decide +kernel
theorem dX14_countsIt_0 : decode cX14_countsIt 0 = .ok (.aload_n 0, 1) := dk_42 (dk_at dksX14_countsIt_0 0 rfl rfl)
theorem dX14_countsIt_1 : decode cX14_countsIt 1 = .ok (.getfield 3, 3) := dk_180 0 3 (dk_at dksX14_countsIt_0 1 rfl rfl)
theorem dX14_countsIt_4 : decode cX14_countsIt 4 = .ok (.iconst 1, 1) := dk_4 (dk_at dksX14_countsIt_0 4 rfl rfl)
theorem dX14_countsIt_5 : decode cX14_countsIt 5 = .ok (.invokevirtual 23, 3) := dk_182 0 23 (dk_at dksX14_countsIt_0 5 rfl rfl)
theorem dX14_countsIt_8 : decode cX14_countsIt 8 = .ok (.iload_n 1, 1) := dk_27 (dk_at dksX14_countsIt_0 8 rfl rfl)
theorem dX14_countsIt_9 : decode cX14_countsIt 9 = .ok (.aload_n 0, 1) := dk_42 (dk_at dksX14_countsIt_0 9 rfl rfl)
theorem dX14_countsIt_10 : decode cX14_countsIt 10 = .ok (.getfield 15, 3) := dk_180 0 15 (dk_at dksX14_countsIt_0 10 rfl rfl)
theorem dX14_countsIt_13 : decode cX14_countsIt 13 = .ok (.iadd, 1) := dk_96 (dk_at dksX14_countsIt_0 13 rfl rfl)
theorem dX14_countsIt_14 : decode cX14_countsIt 14 = .ok (.ireturn, 1) := dk_172 (dk_at dksX14_countsIt_0 14 rfl rfl)
abbrev cX14_tells : ByteArray := prog_2_method_8_code
def yX14_tells : MethodName := ⟨RX14, "tells", "(I)I"⟩
def dkwX14_tells_0 : List UInt8 := [42, 180, 0, 3, 5, 182, 0, 23, 42, 27, 182, 0, 31, 61, 28, 42, 4, 182, 0, 34, 100, 172]
abbrev dktX14_tells_0 : List UInt8 := dkwX14_tells_0 ++ []
theorem dksX14_tells_0 : cX14_tells.data.toList.drop 0 = dktX14_tells_0 := by decide +kernel
theorem dX14_tells_0 : decode cX14_tells 0 = .ok (.aload_n 0, 1) := dk_42 (dk_at dksX14_tells_0 0 rfl rfl)
theorem dX14_tells_1 : decode cX14_tells 1 = .ok (.getfield 3, 3) := dk_180 0 3 (dk_at dksX14_tells_0 1 rfl rfl)
theorem dX14_tells_4 : decode cX14_tells 4 = .ok (.iconst 2, 1) := dk_5 (dk_at dksX14_tells_0 4 rfl rfl)
theorem dX14_tells_5 : decode cX14_tells 5 = .ok (.invokevirtual 23, 3) := dk_182 0 23 (dk_at dksX14_tells_0 5 rfl rfl)
theorem dX14_tells_8 : decode cX14_tells 8 = .ok (.aload_n 0, 1) := dk_42 (dk_at dksX14_tells_0 8 rfl rfl)
theorem dX14_tells_9 : decode cX14_tells 9 = .ok (.iload_n 1, 1) := dk_27 (dk_at dksX14_tells_0 9 rfl rfl)
theorem dX14_tells_10 : decode cX14_tells 10 = .ok (.invokevirtual 31, 3) := dk_182 0 31 (dk_at dksX14_tells_0 10 rfl rfl)
theorem dX14_tells_13 : decode cX14_tells 13 = .ok (.istore_n 2, 1) := dk_61 (dk_at dksX14_tells_0 13 rfl rfl)
theorem dX14_tells_14 : decode cX14_tells 14 = .ok (.iload_n 2, 1) := dk_28 (dk_at dksX14_tells_0 14 rfl rfl)
theorem dX14_tells_15 : decode cX14_tells 15 = .ok (.aload_n 0, 1) := dk_42 (dk_at dksX14_tells_0 15 rfl rfl)
theorem dX14_tells_16 : decode cX14_tells 16 = .ok (.iconst 1, 1) := dk_4 (dk_at dksX14_tells_0 16 rfl rfl)
theorem dX14_tells_17 : decode cX14_tells 17 = .ok (.invokevirtual 34, 3) := dk_182 0 34 (dk_at dksX14_tells_0 17 rfl rfl)
theorem dX14_tells_20 : decode cX14_tells 20 = .ok (.isub, 1) := dk_100 (dk_at dksX14_tells_0 20 rfl rfl)
theorem dX14_tells_21 : decode cX14_tells 21 = .ok (.ireturn, 1) := dk_172 (dk_at dksX14_tells_0 21 rfl rfl)
abbrev cX14_turns : ByteArray := prog_2_method_6_code
def yX14_turns : MethodName := ⟨RX14, "turns", "(I)I"⟩
def dkwX14_turns_0 : List UInt8 := [42, 180, 0, 3, 16, 10, 182, 0, 23, 42, 27, 182, 0, 27, 5, 104, 172]
abbrev dktX14_turns_0 : List UInt8 := dkwX14_turns_0 ++ []
theorem dksX14_turns_0 : cX14_turns.data.toList.drop 0 = dktX14_turns_0 := by decide +kernel
theorem dX14_turns_0 : decode cX14_turns 0 = .ok (.aload_n 0, 1) := dk_42 (dk_at dksX14_turns_0 0 rfl rfl)
theorem dX14_turns_1 : decode cX14_turns 1 = .ok (.getfield 3, 3) := dk_180 0 3 (dk_at dksX14_turns_0 1 rfl rfl)
theorem dX14_turns_4 : decode cX14_turns 4 = .ok (.bipush 10, 2) := dk_16 10 (dk_at dksX14_turns_0 4 rfl rfl)
theorem dX14_turns_6 : decode cX14_turns 6 = .ok (.invokevirtual 23, 3) := dk_182 0 23 (dk_at dksX14_turns_0 6 rfl rfl)
theorem dX14_turns_9 : decode cX14_turns 9 = .ok (.aload_n 0, 1) := dk_42 (dk_at dksX14_turns_0 9 rfl rfl)
theorem dX14_turns_10 : decode cX14_turns 10 = .ok (.iload_n 1, 1) := dk_27 (dk_at dksX14_turns_0 10 rfl rfl)
theorem dX14_turns_11 : decode cX14_turns 11 = .ok (.invokevirtual 27, 3) := dk_182 0 27 (dk_at dksX14_turns_0 11 rfl rfl)
theorem dX14_turns_14 : decode cX14_turns 14 = .ok (.iconst 2, 1) := dk_5 (dk_at dksX14_turns_0 14 rfl rfl)
theorem dX14_turns_15 : decode cX14_turns 15 = .ok (.imul, 1) := dk_104 (dk_at dksX14_turns_0 15 rfl rfl)
theorem dX14_turns_16 : decode cX14_turns 16 = .ok (.ireturn, 1) := dk_172 (dk_at dksX14_turns_0 16 rfl rfl)
abbrev cX14_sinks : ByteArray := prog_2_method_7_code
def yX14_sinks : MethodName := ⟨RX14, "sinks", "(I)I"⟩
def dkwX14_sinks_0 : List UInt8 := [42, 180, 0, 3, 16, 11, 182, 0, 23, 27, 42, 180, 0, 15, 130, 172]
abbrev dktX14_sinks_0 : List UInt8 := dkwX14_sinks_0 ++ []
theorem dksX14_sinks_0 : cX14_sinks.data.toList.drop 0 = dktX14_sinks_0 := by decide +kernel
theorem dX14_sinks_0 : decode cX14_sinks 0 = .ok (.aload_n 0, 1) := dk_42 (dk_at dksX14_sinks_0 0 rfl rfl)
theorem dX14_sinks_1 : decode cX14_sinks 1 = .ok (.getfield 3, 3) := dk_180 0 3 (dk_at dksX14_sinks_0 1 rfl rfl)
theorem dX14_sinks_4 : decode cX14_sinks 4 = .ok (.bipush 11, 2) := dk_16 11 (dk_at dksX14_sinks_0 4 rfl rfl)
theorem dX14_sinks_6 : decode cX14_sinks 6 = .ok (.invokevirtual 23, 3) := dk_182 0 23 (dk_at dksX14_sinks_0 6 rfl rfl)
theorem dX14_sinks_9 : decode cX14_sinks 9 = .ok (.iload_n 1, 1) := dk_27 (dk_at dksX14_sinks_0 9 rfl rfl)
theorem dX14_sinks_10 : decode cX14_sinks 10 = .ok (.aload_n 0, 1) := dk_42 (dk_at dksX14_sinks_0 10 rfl rfl)
theorem dX14_sinks_11 : decode cX14_sinks 11 = .ok (.getfield 15, 3) := dk_180 0 15 (dk_at dksX14_sinks_0 11 rfl rfl)
theorem dX14_sinks_14 : decode cX14_sinks 14 = .ok (.ixor, 1) := dk_130 (dk_at dksX14_sinks_0 14 rfl rfl)
theorem dX14_sinks_15 : decode cX14_sinks 15 = .ok (.ireturn, 1) := dk_172 (dk_at dksX14_sinks_0 15 rfl rfl)
abbrev cX14_isUnder : ByteArray := prog_2_method_4_code
def yX14_isUnder : MethodName := ⟨RX14, "isUnder", "(I)Z"⟩
def dkwX14_isUnder_0 : List UInt8 := [27, 153, 0, 11, 27, 42, 182, 0, 19, 160, 0, 7, 4, 167, 0, 4, 3, 172]
abbrev dktX14_isUnder_0 : List UInt8 := dkwX14_isUnder_0 ++ []
theorem dksX14_isUnder_0 : cX14_isUnder.data.toList.drop 0 = dktX14_isUnder_0 := by decide +kernel
theorem dX14_isUnder_0 : decode cX14_isUnder 0 = .ok (.iload_n 1, 1) := dk_27 (dk_at dksX14_isUnder_0 0 rfl rfl)
theorem dX14_isUnder_1 : decode cX14_isUnder 1 = .ok (.ifCond .eq 11, 3) := dk_153 0 11 (dk_at dksX14_isUnder_0 1 rfl rfl)
theorem dX14_isUnder_4 : decode cX14_isUnder 4 = .ok (.iload_n 1, 1) := dk_27 (dk_at dksX14_isUnder_0 4 rfl rfl)
theorem dX14_isUnder_5 : decode cX14_isUnder 5 = .ok (.aload_n 0, 1) := dk_42 (dk_at dksX14_isUnder_0 5 rfl rfl)
theorem dX14_isUnder_6 : decode cX14_isUnder 6 = .ok (.invokevirtual 19, 3) := dk_182 0 19 (dk_at dksX14_isUnder_0 6 rfl rfl)
theorem dX14_isUnder_9 : decode cX14_isUnder 9 = .ok (.if_icmp .ne 7, 3) := dk_160 0 7 (dk_at dksX14_isUnder_0 9 rfl rfl)
theorem dX14_isUnder_12 : decode cX14_isUnder 12 = .ok (.iconst 1, 1) := dk_4 (dk_at dksX14_isUnder_0 12 rfl rfl)
theorem dX14_isUnder_13 : decode cX14_isUnder 13 = .ok (.goto 4, 3) := dk_167 0 4 (dk_at dksX14_isUnder_0 13 rfl rfl)
theorem dX14_isUnder_16 : decode cX14_isUnder 16 = .ok (.iconst 0, 1) := dk_3 (dk_at dksX14_isUnder_0 16 rfl rfl)
theorem dX14_isUnder_17 : decode cX14_isUnder 17 = .ok (.ireturn, 1) := dk_172 (dk_at dksX14_isUnder_0 17 rfl rfl)
abbrev cX14_kind : ByteArray := prog_2_method_3_code
def yX14_kind : MethodName := ⟨RX14, "kind", "()I"⟩
theorem dX14_kind_0 : decode cX14_kind 0 = .ok (.iconst 0, 1) := by decide +kernel
theorem dX14_kind_1 : decode cX14_kind 1 = .ok (.ireturn, 1) := by decide +kernel
theorem q128 : (Jvm.Cond.initialized "EightLegs$Beat") ∈ lw_all := lw_g (lw_at lw_m1 29 rfl) rfl
theorem q1108 : (Jvm.Cond.instanceMethod ({ cls := "EightLegs$Beat", name := "<init>", desc := "(LEightLegs;I)V" } : Jvm.MethodName)) ∈ lw_all := lw_g (lw_at lw_m5 49 rfl) rfl
theorem q1109 : (Jvm.Cond.code ({ cls := "EightLegs$Beat", name := "<init>", desc := "(LEightLegs;I)V" } : Jvm.MethodName) prog_2_method_1_code (3 : Nat) (Option.none : Option Jvm.ClassFile.FieldType)) ∈ lw_all := lw_g (lw_at lw_m5 50 rfl) rfl
theorem q1110 : (Jvm.Cond.methodLinkNest "EightLegs$Beat" (9 : Nat) ({ cls := "EightLegs$Held", name := "<init>", desc := "()V" } : Jvm.MethodName) "EightLegs") ∈ lw_tbl := lw_at lw_m5 51 rfl
theorem q1115 : (Jvm.Cond.fieldLink "EightLegs$Beat" (15 : Nat) "EightLegs$Beat" "number" "I") ∈ lw_all := lw_g (lw_at lw_m5 56 rfl) rfl
theorem q1116 : (Jvm.Cond.fieldLink "EightLegs$Beat" (3 : Nat) "EightLegs$Beat" "this$0" "LEightLegs;") ∈ lw_all := lw_g (lw_at lw_m5 57 rfl) rfl
theorem q1120 : (Jvm.Cond.soleField "EightLegs$Beat" "number") ∈ lw_all := lw_g (lw_at lw_m5 61 rfl) rfl
theorem q1122 : (Jvm.Cond.soleField "EightLegs$Beat" "this$0") ∈ lw_all := lw_g (lw_at lw_m5 63 rfl) rfl
theorem q1202 : (Jvm.Cond.instantiable "EightLegs$Beat" (2 : Nat)) ∈ lw_all := lw_g (lw_at lw_m5 143 rfl) rfl
theorem q1204 : (Jvm.Cond.laysFinal "EightLegs$Beat" "EightLegs$Beat" "number" "I") ∈ lw_all := lw_g (lw_at lw_m5 145 rfl) rfl
theorem q1205 : (Jvm.Cond.laysFinal "EightLegs$Beat" "EightLegs$Beat" "this$0" "LEightLegs;") ∈ lw_all := lw_g (lw_at lw_m5 146 rfl) rfl
theorem q1206 : (Jvm.Cond.superclass "EightLegs$Beat" "EightLegs$Held") ∈ lw_all := lw_g (lw_at lw_m5 147 rfl) rfl
theorem q1219 : (Jvm.Cond.castable "EightLegs$Beat" "EightLegs$Counts") ∈ lw_tbl := lw_at lw_m5 160 rfl
theorem q1220 : (Jvm.Cond.selects "EightLegs$Beat" ({ cls := "EightLegs$Counts", name := "countsIt", desc := "(I)I" } : Jvm.MethodName) ({ cls := "EightLegs$Beat", name := "countsIt", desc := "(I)I" } : Jvm.MethodName)) ∈ lw_all := lw_g (lw_at lw_m5 161 rfl) rfl
theorem q1221 : (Jvm.Cond.unhidden "EightLegs$Beat" "countsIt" "(I)I") ∈ lw_tbl := lw_at lw_m5 162 rfl
theorem q1222 : (Jvm.Cond.instanceMethod ({ cls := "EightLegs$Beat", name := "countsIt", desc := "(I)I" } : Jvm.MethodName)) ∈ lw_all := lw_g (lw_at lw_m5 163 rfl) rfl
theorem q1223 : (Jvm.Cond.publicMethod ({ cls := "EightLegs$Beat", name := "countsIt", desc := "(I)I" } : Jvm.MethodName)) ∈ lw_tbl := lw_at lw_m5 164 rfl
theorem q1224 : (Jvm.Cond.code ({ cls := "EightLegs$Beat", name := "countsIt", desc := "(I)I" } : Jvm.MethodName) prog_2_method_5_code (2 : Nat) (Option.some Jvm.ClassFile.FieldType.int)) ∈ lw_all := lw_g (lw_at lw_m5 165 rfl) rfl
theorem q1225 : (Jvm.Cond.methodLinkNest "EightLegs$Beat" (23 : Nat) ({ cls := "EightLegs", name := "ran", desc := "(I)V" } : Jvm.MethodName) "EightLegs") ∈ lw_tbl := lw_at lw_m5 166 rfl
theorem q1264 : (Jvm.Cond.castable "EightLegs$Beat" "EightLegs$Tells") ∈ lw_tbl := lw_at lw_m5 205 rfl
theorem q1265 : (Jvm.Cond.selects "EightLegs$Beat" ({ cls := "EightLegs$Tells", name := "tells", desc := "(I)I" } : Jvm.MethodName) ({ cls := "EightLegs$Beat", name := "tells", desc := "(I)I" } : Jvm.MethodName)) ∈ lw_all := lw_g (lw_at lw_m5 206 rfl) rfl
theorem q1266 : (Jvm.Cond.unhidden "EightLegs$Beat" "tells" "(I)I") ∈ lw_tbl := lw_at lw_m5 207 rfl
theorem q1267 : (Jvm.Cond.instanceMethod ({ cls := "EightLegs$Beat", name := "tells", desc := "(I)I" } : Jvm.MethodName)) ∈ lw_all := lw_g (lw_at lw_m5 208 rfl) rfl
theorem q1268 : (Jvm.Cond.publicMethod ({ cls := "EightLegs$Beat", name := "tells", desc := "(I)I" } : Jvm.MethodName)) ∈ lw_tbl := lw_at lw_m5 209 rfl
theorem q1269 : (Jvm.Cond.code ({ cls := "EightLegs$Beat", name := "tells", desc := "(I)I" } : Jvm.MethodName) prog_2_method_8_code (3 : Nat) (Option.some Jvm.ClassFile.FieldType.int)) ∈ lw_all := lw_g (lw_at lw_m5 210 rfl) rfl
theorem q1270 : (Jvm.Cond.methodLink "EightLegs$Beat" (31 : Nat) ({ cls := "EightLegs$Beat", name := "turns", desc := "(I)I" } : Jvm.MethodName)) ∈ lw_all := lw_g (lw_at lw_m5 211 rfl) rfl
theorem q1271 : (Jvm.Cond.instanceMethod ({ cls := "EightLegs$Beat", name := "turns", desc := "(I)I" } : Jvm.MethodName)) ∈ lw_all := lw_g (lw_at lw_m5 212 rfl) rfl
theorem q1272 : (Jvm.Cond.selects "EightLegs$Beat" ({ cls := "EightLegs$Beat", name := "turns", desc := "(I)I" } : Jvm.MethodName) ({ cls := "EightLegs$Beat", name := "turns", desc := "(I)I" } : Jvm.MethodName)) ∈ lw_all := lw_g (lw_at lw_m5 213 rfl) rfl
theorem q1273 : (Jvm.Cond.sameMethod "EightLegs$Beat" "EightLegs$Beat" "turns" "(I)I") ∈ lw_all := lw_g (lw_at lw_m5 214 rfl) rfl
theorem q1279 : (Jvm.Cond.code ({ cls := "EightLegs$Beat", name := "turns", desc := "(I)I" } : Jvm.MethodName) prog_2_method_6_code (2 : Nat) (Option.some Jvm.ClassFile.FieldType.int)) ∈ lw_all := lw_g (lw_at lw_m5 220 rfl) rfl
theorem q1280 : (Jvm.Cond.methodLink "EightLegs$Beat" (27 : Nat) ({ cls := "EightLegs$Beat", name := "countsIt", desc := "(I)I" } : Jvm.MethodName)) ∈ lw_all := lw_g (lw_at lw_m5 221 rfl) rfl
theorem q1288 : (Jvm.Cond.declares ({ cls := "EightLegs$Beat", name := "turns", desc := "(I)I" } : Jvm.MethodName)) ∈ lw_tbl := lw_at lw_m5 229 rfl
theorem q1298 : (Jvm.Cond.declares ({ cls := "EightLegs$Beat", name := "sinks", desc := "(I)I" } : Jvm.MethodName)) ∈ lw_tbl := lw_at lw_m5 239 rfl
theorem q1299 : (Jvm.Cond.instanceMethod ({ cls := "EightLegs$Beat", name := "sinks", desc := "(I)I" } : Jvm.MethodName)) ∈ lw_all := lw_g (lw_at lw_m6 0 rfl) rfl
theorem q1300 : (Jvm.Cond.code ({ cls := "EightLegs$Beat", name := "sinks", desc := "(I)I" } : Jvm.MethodName) prog_2_method_7_code (2 : Nat) (Option.some Jvm.ClassFile.FieldType.int)) ∈ lw_all := lw_g (lw_at lw_m6 1 rfl) rfl
theorem q1314 : (Jvm.Cond.methodLink "EightLegs$Beat" (34 : Nat) ({ cls := "EightLegs$Beat", name := "sinks", desc := "(I)I" } : Jvm.MethodName)) ∈ lw_all := lw_g (lw_at lw_m6 15 rfl) rfl
theorem q1333 : (Jvm.Cond.declares ({ cls := "EightLegs$Beat", name := "tells", desc := "(I)I" } : Jvm.MethodName)) ∈ lw_tbl := lw_at lw_m6 34 rfl
theorem q1518 : (Jvm.Cond.instanceMethod ({ cls := "EightLegs$Beat", name := "isUnder", desc := "(I)Z" } : Jvm.MethodName)) ∈ lw_all := lw_g (lw_at lw_m6 219 rfl) rfl
theorem q1519 : (Jvm.Cond.selects "EightLegs$Beat" ({ cls := "EightLegs$Beat", name := "isUnder", desc := "(I)Z" } : Jvm.MethodName) ({ cls := "EightLegs$Beat", name := "isUnder", desc := "(I)Z" } : Jvm.MethodName)) ∈ lw_all := lw_g (lw_at lw_m6 220 rfl) rfl
theorem q1520 : (Jvm.Cond.sameMethod "EightLegs$Beat" "EightLegs$Beat" "isUnder" "(I)Z") ∈ lw_all := lw_g (lw_at lw_m6 221 rfl) rfl
theorem q1525 : (Jvm.Cond.code ({ cls := "EightLegs$Beat", name := "isUnder", desc := "(I)Z" } : Jvm.MethodName) prog_2_method_4_code (2 : Nat) (Option.some Jvm.ClassFile.FieldType.boolean)) ∈ lw_all := lw_g (lw_at lw_m6 226 rfl) rfl
theorem q1526 : (Jvm.Cond.methodLink "EightLegs$Beat" (19 : Nat) ({ cls := "EightLegs$Beat", name := "kind", desc := "()I" } : Jvm.MethodName)) ∈ lw_all := lw_g (lw_at lw_m6 227 rfl) rfl
theorem q1527 : (Jvm.Cond.instanceMethod ({ cls := "EightLegs$Beat", name := "kind", desc := "()I" } : Jvm.MethodName)) ∈ lw_all := lw_g (lw_at lw_m6 228 rfl) rfl
theorem q1528 : (Jvm.Cond.selects "EightLegs$Beat" ({ cls := "EightLegs$Beat", name := "kind", desc := "()I" } : Jvm.MethodName) ({ cls := "EightLegs$Beat", name := "kind", desc := "()I" } : Jvm.MethodName)) ∈ lw_all := lw_g (lw_at lw_m6 229 rfl) rfl
theorem q1529 : (Jvm.Cond.sameMethod "EightLegs$Beat" "EightLegs$Beat" "kind" "()I") ∈ lw_all := lw_g (lw_at lw_m6 230 rfl) rfl
theorem q1551 : (Jvm.Cond.code ({ cls := "EightLegs$Beat", name := "kind", desc := "()I" } : Jvm.MethodName) prog_2_method_3_code (1 : Nat) (Option.some Jvm.ClassFile.FieldType.int)) ∈ lw_all := lw_g (lw_at lw_m7 12 rfl) rfl
theorem q2139 : (Jvm.Cond.sameMethod "EightLegs$Beat" "EightLegs$Beat" "countsIt" "(I)I") ∈ lw_all := lw_g (lw_at lw_m9 120 rfl) rfl
theorem q2140 : (Jvm.Cond.selects "EightLegs$Beat" ({ cls := "EightLegs$Beat", name := "countsIt", desc := "(I)I" } : Jvm.MethodName) ({ cls := "EightLegs$Beat", name := "countsIt", desc := "(I)I" } : Jvm.MethodName)) ∈ lw_all := lw_g (lw_at lw_m9 121 rfl) rfl
theorem q2149 : (Jvm.Cond.sameMethod "EightLegs$Beat" "EightLegs$Beat" "sinks" "(I)I") ∈ lw_all := lw_g (lw_at lw_m9 130 rfl) rfl
theorem q2150 : (Jvm.Cond.selects "EightLegs$Beat" ({ cls := "EightLegs$Beat", name := "sinks", desc := "(I)I" } : Jvm.MethodName) ({ cls := "EightLegs$Beat", name := "sinks", desc := "(I)I" } : Jvm.MethodName)) ∈ lw_all := lw_g (lw_at lw_m9 131 rfl) rfl
theorem q2180 : (Jvm.Cond.castable "EightLegs$Beat" "EightLegs$Held") ∈ lw_tbl := lw_at lw_m9 161 rfl
theorem in_X14 : ∀ w ∈ wsX140, w ∈ lw_all := lw_in wsX140 [1204, 1205] (by decide +kernel) (by decide +kernel)

/-! EightLegs$Legs -/
set_option maxRecDepth 100000
def RX15 : String := "EightLegs$Legs"
def TX15 : u_T := fun k => match k with
  | 0 => ("EightLegs$Beat", "number", "I", true)
  | 1 => ("EightLegs$Beat", "this$0", "LEightLegs;", true)
  | _ => ("EightLegs$Legs", "this$0", "LEightLegs;", true)
def tyX15 : Nat → FieldType := fun k => match k with
  | 0 => .int
  | 1 => .object "EightLegs"
  | _ => .object "EightLegs"
abbrev wsX150 : List Cond := u_ws RX15 TX15 3
-- two fields of one name: no nmX15
theorem tyX15_ok : ∀ k, k < 3 → parseFieldDescriptor (TX15 k).2.2.1 = some (tyX15 k) := by decide +kernel
abbrev cX15_init : ByteArray := prog_15_method_1_code
def yX15_init : MethodName := ⟨RX15, "<init>", "(LEightLegs;I)V"⟩
def dkwX15_init_0 : List UInt8 := [42, 43, 181, 0, 1, 42, 43, 28, 183, 0, 7, 177]
abbrev dktX15_init_0 : List UInt8 := dkwX15_init_0 ++ []
theorem dksX15_init_0 : cX15_init.data.toList.drop 0 = dktX15_init_0 := by decide +kernel
theorem dX15_init_0 : decode cX15_init 0 = .ok (.aload_n 0, 1) := dk_42 (dk_at dksX15_init_0 0 rfl rfl)
theorem dX15_init_1 : decode cX15_init 1 = .ok (.aload_n 1, 1) := dk_43 (dk_at dksX15_init_0 1 rfl rfl)
theorem dX15_init_2 : decode cX15_init 2 = .ok (.putfield 1, 3) := dk_181 0 1 (dk_at dksX15_init_0 2 rfl rfl)
theorem dX15_init_5 : decode cX15_init 5 = .ok (.aload_n 0, 1) := dk_42 (dk_at dksX15_init_0 5 rfl rfl)
theorem dX15_init_6 : decode cX15_init 6 = .ok (.aload_n 1, 1) := dk_43 (dk_at dksX15_init_0 6 rfl rfl)
theorem dX15_init_7 : decode cX15_init 7 = .ok (.iload_n 2, 1) := dk_28 (dk_at dksX15_init_0 7 rfl rfl)
theorem dX15_init_8 : decode cX15_init 8 = .ok (.invokespecial 7, 3) := dk_183 0 7 (dk_at dksX15_init_0 8 rfl rfl)
theorem dX15_init_11 : decode cX15_init 11 = .ok (.return_, 1) := dk_177 (dk_at dksX15_init_0 11 rfl rfl)
abbrev cX15_countsIt : ByteArray := prog_15_method_4_code
def yX15_countsIt : MethodName := ⟨RX15, "countsIt", "(I)I"⟩
def dkwX15_countsIt_0 : List UInt8 := [42, 180, 0, 1, 16, 20, 182, 0, 17, 42, 27, 183, 0, 23, 6, 96, 172]
abbrev dktX15_countsIt_0 : List UInt8 := dkwX15_countsIt_0 ++ []
theorem dksX15_countsIt_0 : cX15_countsIt.data.toList.drop 0 = dktX15_countsIt_0 := by decide +kernel
theorem dX15_countsIt_0 : decode cX15_countsIt 0 = .ok (.aload_n 0, 1) := dk_42 (dk_at dksX15_countsIt_0 0 rfl rfl)
theorem dX15_countsIt_1 : decode cX15_countsIt 1 = .ok (.getfield 1, 3) := dk_180 0 1 (dk_at dksX15_countsIt_0 1 rfl rfl)
theorem dX15_countsIt_4 : decode cX15_countsIt 4 = .ok (.bipush 20, 2) := dk_16 20 (dk_at dksX15_countsIt_0 4 rfl rfl)
theorem dX15_countsIt_6 : decode cX15_countsIt 6 = .ok (.invokevirtual 17, 3) := dk_182 0 17 (dk_at dksX15_countsIt_0 6 rfl rfl)
theorem dX15_countsIt_9 : decode cX15_countsIt 9 = .ok (.aload_n 0, 1) := dk_42 (dk_at dksX15_countsIt_0 9 rfl rfl)
theorem dX15_countsIt_10 : decode cX15_countsIt 10 = .ok (.iload_n 1, 1) := dk_27 (dk_at dksX15_countsIt_0 10 rfl rfl)
theorem dX15_countsIt_11 : decode cX15_countsIt 11 = .ok (.invokespecial 23, 3) := dk_183 0 23 (dk_at dksX15_countsIt_0 11 rfl rfl)
theorem dX15_countsIt_14 : decode cX15_countsIt 14 = .ok (.iconst 3, 1) := dk_6 (dk_at dksX15_countsIt_0 14 rfl rfl)
theorem dX15_countsIt_15 : decode cX15_countsIt 15 = .ok (.iadd, 1) := dk_96 (dk_at dksX15_countsIt_0 15 rfl rfl)
theorem dX15_countsIt_16 : decode cX15_countsIt 16 = .ok (.ireturn, 1) := dk_172 (dk_at dksX15_countsIt_0 16 rfl rfl)
abbrev cX15_kind : ByteArray := prog_15_method_2_code
def yX15_kind : MethodName := ⟨RX15, "kind", "()I"⟩
theorem dX15_kind_0 : decode cX15_kind 0 = .ok (.iconst 1, 1) := by decide +kernel
theorem dX15_kind_1 : decode cX15_kind 1 = .ok (.ireturn, 1) := by decide +kernel
abbrev cX15_isUnder : ByteArray := prog_15_method_3_code
def yX15_isUnder : MethodName := ⟨RX15, "isUnder", "(I)Z"⟩
def dkwX15_isUnder_0 : List UInt8 := [27, 4, 159, 0, 11, 42, 27, 183, 0, 13, 153, 0, 7, 4, 167, 0, 4, 3, 172]
abbrev dktX15_isUnder_0 : List UInt8 := dkwX15_isUnder_0 ++ []
theorem dksX15_isUnder_0 : cX15_isUnder.data.toList.drop 0 = dktX15_isUnder_0 := by decide +kernel
theorem dX15_isUnder_0 : decode cX15_isUnder 0 = .ok (.iload_n 1, 1) := dk_27 (dk_at dksX15_isUnder_0 0 rfl rfl)
theorem dX15_isUnder_1 : decode cX15_isUnder 1 = .ok (.iconst 1, 1) := dk_4 (dk_at dksX15_isUnder_0 1 rfl rfl)
theorem dX15_isUnder_2 : decode cX15_isUnder 2 = .ok (.if_icmp .eq 11, 3) := dk_159 0 11 (dk_at dksX15_isUnder_0 2 rfl rfl)
theorem dX15_isUnder_5 : decode cX15_isUnder 5 = .ok (.aload_n 0, 1) := dk_42 (dk_at dksX15_isUnder_0 5 rfl rfl)
theorem dX15_isUnder_6 : decode cX15_isUnder 6 = .ok (.iload_n 1, 1) := dk_27 (dk_at dksX15_isUnder_0 6 rfl rfl)
theorem dX15_isUnder_7 : decode cX15_isUnder 7 = .ok (.invokespecial 13, 3) := dk_183 0 13 (dk_at dksX15_isUnder_0 7 rfl rfl)
theorem dX15_isUnder_10 : decode cX15_isUnder 10 = .ok (.ifCond .eq 7, 3) := dk_153 0 7 (dk_at dksX15_isUnder_0 10 rfl rfl)
theorem dX15_isUnder_13 : decode cX15_isUnder 13 = .ok (.iconst 1, 1) := dk_4 (dk_at dksX15_isUnder_0 13 rfl rfl)
theorem dX15_isUnder_14 : decode cX15_isUnder 14 = .ok (.goto 4, 3) := dk_167 0 4 (dk_at dksX15_isUnder_0 14 rfl rfl)
theorem dX15_isUnder_17 : decode cX15_isUnder 17 = .ok (.iconst 0, 1) := dk_3 (dk_at dksX15_isUnder_0 17 rfl rfl)
theorem dX15_isUnder_18 : decode cX15_isUnder 18 = .ok (.ireturn, 1) := dk_172 (dk_at dksX15_isUnder_0 18 rfl rfl)
theorem q129 : (Jvm.Cond.initialized "EightLegs$Legs") ∈ lw_all := lw_g (lw_at lw_m1 30 rfl) rfl
theorem q1103 : (Jvm.Cond.instantiable "EightLegs$Legs" (3 : Nat)) ∈ lw_all := lw_g (lw_at lw_m5 44 rfl) rfl
theorem q1105 : (Jvm.Cond.instanceMethod ({ cls := "EightLegs$Legs", name := "<init>", desc := "(LEightLegs;I)V" } : Jvm.MethodName)) ∈ lw_all := lw_g (lw_at lw_m5 46 rfl) rfl
theorem q1106 : (Jvm.Cond.code ({ cls := "EightLegs$Legs", name := "<init>", desc := "(LEightLegs;I)V" } : Jvm.MethodName) prog_15_method_1_code (3 : Nat) (Option.none : Option Jvm.ClassFile.FieldType)) ∈ lw_all := lw_g (lw_at lw_m5 47 rfl) rfl
theorem q1107 : (Jvm.Cond.methodLink "EightLegs$Legs" (7 : Nat) ({ cls := "EightLegs$Beat", name := "<init>", desc := "(LEightLegs;I)V" } : Jvm.MethodName)) ∈ lw_all := lw_g (lw_at lw_m5 48 rfl) rfl
theorem q1114 : (Jvm.Cond.fieldLink "EightLegs$Legs" (1 : Nat) "EightLegs$Legs" "this$0" "LEightLegs;") ∈ lw_all := lw_g (lw_at lw_m5 55 rfl) rfl
theorem q1117 : (Jvm.Cond.laysFinal "EightLegs$Legs" "EightLegs$Legs" "this$0" "LEightLegs;") ∈ lw_all := lw_g (lw_at lw_m5 58 rfl) rfl
theorem q1118 : (Jvm.Cond.soleField "EightLegs$Legs" "this$0") ∈ lw_all := lw_g (lw_at lw_m5 59 rfl) rfl
theorem q1119 : (Jvm.Cond.laysFinal "EightLegs$Legs" "EightLegs$Beat" "number" "I") ∈ lw_all := lw_g (lw_at lw_m5 60 rfl) rfl
theorem q1121 : (Jvm.Cond.laysFinal "EightLegs$Legs" "EightLegs$Beat" "this$0" "LEightLegs;") ∈ lw_all := lw_g (lw_at lw_m5 62 rfl) rfl
theorem q1123 : (Jvm.Cond.superclass "EightLegs$Legs" "EightLegs$Beat") ∈ lw_all := lw_g (lw_at lw_m5 64 rfl) rfl
theorem q1243 : (Jvm.Cond.instanceMethod ({ cls := "EightLegs$Legs", name := "countsIt", desc := "(I)I" } : Jvm.MethodName)) ∈ lw_all := lw_g (lw_at lw_m5 184 rfl) rfl
theorem q1244 : (Jvm.Cond.publicMethod ({ cls := "EightLegs$Legs", name := "countsIt", desc := "(I)I" } : Jvm.MethodName)) ∈ lw_tbl := lw_at lw_m5 185 rfl
theorem q1245 : (Jvm.Cond.code ({ cls := "EightLegs$Legs", name := "countsIt", desc := "(I)I" } : Jvm.MethodName) prog_15_method_4_code (2 : Nat) (Option.some Jvm.ClassFile.FieldType.int)) ∈ lw_all := lw_g (lw_at lw_m5 186 rfl) rfl
theorem q1246 : (Jvm.Cond.methodLinkNest "EightLegs$Legs" (17 : Nat) ({ cls := "EightLegs", name := "ran", desc := "(I)V" } : Jvm.MethodName) "EightLegs") ∈ lw_tbl := lw_at lw_m5 187 rfl
theorem q1247 : (Jvm.Cond.methodLink "EightLegs$Legs" (23 : Nat) ({ cls := "EightLegs$Beat", name := "countsIt", desc := "(I)I" } : Jvm.MethodName)) ∈ lw_all := lw_g (lw_at lw_m5 188 rfl) rfl
theorem q1248 : (Jvm.Cond.castable "EightLegs$Legs" "EightLegs$Counts") ∈ lw_tbl := lw_at lw_m5 189 rfl
theorem q1249 : (Jvm.Cond.selects "EightLegs$Legs" ({ cls := "EightLegs$Counts", name := "countsIt", desc := "(I)I" } : Jvm.MethodName) ({ cls := "EightLegs$Legs", name := "countsIt", desc := "(I)I" } : Jvm.MethodName)) ∈ lw_all := lw_g (lw_at lw_m5 190 rfl) rfl
theorem q1250 : (Jvm.Cond.unhidden "EightLegs$Legs" "countsIt" "(I)I") ∈ lw_tbl := lw_at lw_m5 191 rfl
theorem q1297 : (Jvm.Cond.sameMethod "EightLegs$Legs" "EightLegs$Beat" "sinks" "(I)I") ∈ lw_all := lw_g (lw_at lw_m5 238 rfl) rfl
theorem q1303 : (Jvm.Cond.declares ({ cls := "EightLegs$Legs", name := "countsIt", desc := "(I)I" } : Jvm.MethodName)) ∈ lw_tbl := lw_at lw_m6 4 rfl
theorem q1306 : (Jvm.Cond.selects "EightLegs$Legs" ({ cls := "EightLegs$Beat", name := "turns", desc := "(I)I" } : Jvm.MethodName) ({ cls := "EightLegs$Beat", name := "turns", desc := "(I)I" } : Jvm.MethodName)) ∈ lw_all := lw_g (lw_at lw_m6 7 rfl) rfl
theorem q1334 : (Jvm.Cond.castable "EightLegs$Legs" "EightLegs$Tells") ∈ lw_tbl := lw_at lw_m6 35 rfl
theorem q1335 : (Jvm.Cond.selects "EightLegs$Legs" ({ cls := "EightLegs$Tells", name := "tells", desc := "(I)I" } : Jvm.MethodName) ({ cls := "EightLegs$Beat", name := "tells", desc := "(I)I" } : Jvm.MethodName)) ∈ lw_all := lw_g (lw_at lw_m6 36 rfl) rfl
theorem q1336 : (Jvm.Cond.unhidden "EightLegs$Legs" "tells" "(I)I") ∈ lw_tbl := lw_at lw_m6 37 rfl
theorem q1539 : (Jvm.Cond.selects "EightLegs$Legs" ({ cls := "EightLegs$Beat", name := "kind", desc := "()I" } : Jvm.MethodName) ({ cls := "EightLegs$Legs", name := "kind", desc := "()I" } : Jvm.MethodName)) ∈ lw_all := lw_g (lw_at lw_m7 0 rfl) rfl
theorem q1540 : (Jvm.Cond.instanceMethod ({ cls := "EightLegs$Legs", name := "kind", desc := "()I" } : Jvm.MethodName)) ∈ lw_all := lw_g (lw_at lw_m7 1 rfl) rfl
theorem q1541 : (Jvm.Cond.code ({ cls := "EightLegs$Legs", name := "kind", desc := "()I" } : Jvm.MethodName) prog_15_method_2_code (1 : Nat) (Option.some Jvm.ClassFile.FieldType.int)) ∈ lw_all := lw_g (lw_at lw_m7 2 rfl) rfl
theorem q1557 : (Jvm.Cond.instanceMethod ({ cls := "EightLegs$Legs", name := "isUnder", desc := "(I)Z" } : Jvm.MethodName)) ∈ lw_all := lw_g (lw_at lw_m7 18 rfl) rfl
theorem q1558 : (Jvm.Cond.code ({ cls := "EightLegs$Legs", name := "isUnder", desc := "(I)Z" } : Jvm.MethodName) prog_15_method_3_code (2 : Nat) (Option.some Jvm.ClassFile.FieldType.boolean)) ∈ lw_all := lw_g (lw_at lw_m7 19 rfl) rfl
theorem q1559 : (Jvm.Cond.methodLink "EightLegs$Legs" (13 : Nat) ({ cls := "EightLegs$Beat", name := "isUnder", desc := "(I)Z" } : Jvm.MethodName)) ∈ lw_all := lw_g (lw_at lw_m7 20 rfl) rfl
theorem q1560 : (Jvm.Cond.selects "EightLegs$Legs" ({ cls := "EightLegs$Beat", name := "isUnder", desc := "(I)Z" } : Jvm.MethodName) ({ cls := "EightLegs$Legs", name := "isUnder", desc := "(I)Z" } : Jvm.MethodName)) ∈ lw_all := lw_g (lw_at lw_m7 21 rfl) rfl
theorem q2144 : (Jvm.Cond.selects "EightLegs$Legs" ({ cls := "EightLegs$Beat", name := "countsIt", desc := "(I)I" } : Jvm.MethodName) ({ cls := "EightLegs$Legs", name := "countsIt", desc := "(I)I" } : Jvm.MethodName)) ∈ lw_all := lw_g (lw_at lw_m9 125 rfl) rfl
theorem q2154 : (Jvm.Cond.selects "EightLegs$Legs" ({ cls := "EightLegs$Beat", name := "sinks", desc := "(I)I" } : Jvm.MethodName) ({ cls := "EightLegs$Beat", name := "sinks", desc := "(I)I" } : Jvm.MethodName)) ∈ lw_all := lw_g (lw_at lw_m9 135 rfl) rfl
theorem q2158 : (Jvm.Cond.sameMethod "EightLegs$Legs" "EightLegs$Legs" "isUnder" "(I)Z") ∈ lw_all := lw_g (lw_at lw_m9 139 rfl) rfl
theorem q2169 : (Jvm.Cond.castable "EightLegs$Legs" "EightLegs$Beat") ∈ lw_tbl := lw_at lw_m9 150 rfl
theorem q2173 : (Jvm.Cond.castable "EightLegs$Legs" "EightLegs$Held") ∈ lw_tbl := lw_at lw_m9 154 rfl
theorem in_X15 : ∀ w ∈ wsX150, w ∈ lw_all := lw_in wsX150 [1119, 1121, 1117] (by decide +kernel) (by decide +kernel)

/-! EightLegs$Breath -/
set_option maxRecDepth 100000
def RX16 : String := "EightLegs$Breath"
def TX16 : u_T := fun k => match k with
  | 0 => ("EightLegs$Beat", "number", "I", true)
  | 1 => ("EightLegs$Beat", "this$0", "LEightLegs;", true)
  | _ => ("EightLegs$Breath", "this$0", "LEightLegs;", true)
def tyX16 : Nat → FieldType := fun k => match k with
  | 0 => .int
  | 1 => .object "EightLegs"
  | _ => .object "EightLegs"
abbrev wsX160 : List Cond := u_ws RX16 TX16 3
-- two fields of one name: no nmX16
theorem tyX16_ok : ∀ k, k < 3 → parseFieldDescriptor (TX16 k).2.2.1 = some (tyX16 k) := by decide +kernel
abbrev cX16_init : ByteArray := prog_4_method_1_code
def yX16_init : MethodName := ⟨RX16, "<init>", "(LEightLegs;I)V"⟩
def dkwX16_init_0 : List UInt8 := [42, 43, 181, 0, 1, 42, 43, 28, 183, 0, 7, 177]
abbrev dktX16_init_0 : List UInt8 := dkwX16_init_0 ++ []
theorem dksX16_init_0 : cX16_init.data.toList.drop 0 = dktX16_init_0 := by decide +kernel
theorem dX16_init_0 : decode cX16_init 0 = .ok (.aload_n 0, 1) := dk_42 (dk_at dksX16_init_0 0 rfl rfl)
theorem dX16_init_1 : decode cX16_init 1 = .ok (.aload_n 1, 1) := dk_43 (dk_at dksX16_init_0 1 rfl rfl)
theorem dX16_init_2 : decode cX16_init 2 = .ok (.putfield 1, 3) := dk_181 0 1 (dk_at dksX16_init_0 2 rfl rfl)
theorem dX16_init_5 : decode cX16_init 5 = .ok (.aload_n 0, 1) := dk_42 (dk_at dksX16_init_0 5 rfl rfl)
theorem dX16_init_6 : decode cX16_init 6 = .ok (.aload_n 1, 1) := dk_43 (dk_at dksX16_init_0 6 rfl rfl)
theorem dX16_init_7 : decode cX16_init 7 = .ok (.iload_n 2, 1) := dk_28 (dk_at dksX16_init_0 7 rfl rfl)
theorem dX16_init_8 : decode cX16_init 8 = .ok (.invokespecial 7, 3) := dk_183 0 7 (dk_at dksX16_init_0 8 rfl rfl)
theorem dX16_init_11 : decode cX16_init 11 = .ok (.return_, 1) := dk_177 (dk_at dksX16_init_0 11 rfl rfl)
abbrev cX16_turns : ByteArray := prog_4_method_4_code
def yX16_turns : MethodName := ⟨RX16, "turns", "(I)I"⟩
def dkwX16_turns_0 : List UInt8 := [42, 180, 0, 1, 16, 30, 182, 0, 17, 42, 27, 183, 0, 23, 116, 172]
abbrev dktX16_turns_0 : List UInt8 := dkwX16_turns_0 ++ []
theorem dksX16_turns_0 : cX16_turns.data.toList.drop 0 = dktX16_turns_0 := by decide +kernel
theorem dX16_turns_0 : decode cX16_turns 0 = .ok (.aload_n 0, 1) := dk_42 (dk_at dksX16_turns_0 0 rfl rfl)
theorem dX16_turns_1 : decode cX16_turns 1 = .ok (.getfield 1, 3) := dk_180 0 1 (dk_at dksX16_turns_0 1 rfl rfl)
theorem dX16_turns_4 : decode cX16_turns 4 = .ok (.bipush 30, 2) := dk_16 30 (dk_at dksX16_turns_0 4 rfl rfl)
theorem dX16_turns_6 : decode cX16_turns 6 = .ok (.invokevirtual 17, 3) := dk_182 0 17 (dk_at dksX16_turns_0 6 rfl rfl)
theorem dX16_turns_9 : decode cX16_turns 9 = .ok (.aload_n 0, 1) := dk_42 (dk_at dksX16_turns_0 9 rfl rfl)
theorem dX16_turns_10 : decode cX16_turns 10 = .ok (.iload_n 1, 1) := dk_27 (dk_at dksX16_turns_0 10 rfl rfl)
theorem dX16_turns_11 : decode cX16_turns 11 = .ok (.invokespecial 23, 3) := dk_183 0 23 (dk_at dksX16_turns_0 11 rfl rfl)
theorem dX16_turns_14 : decode cX16_turns 14 = .ok (.ineg, 1) := dk_116 (dk_at dksX16_turns_0 14 rfl rfl)
theorem dX16_turns_15 : decode cX16_turns 15 = .ok (.ireturn, 1) := dk_172 (dk_at dksX16_turns_0 15 rfl rfl)
abbrev cX16_isUnder : ByteArray := prog_4_method_3_code
def yX16_isUnder : MethodName := ⟨RX16, "isUnder", "(I)Z"⟩
def dkwX16_isUnder_0 : List UInt8 := [27, 5, 159, 0, 11, 42, 27, 183, 0, 13, 153, 0, 7, 4, 167, 0, 4, 3, 172]
abbrev dktX16_isUnder_0 : List UInt8 := dkwX16_isUnder_0 ++ []
theorem dksX16_isUnder_0 : cX16_isUnder.data.toList.drop 0 = dktX16_isUnder_0 := by decide +kernel
theorem dX16_isUnder_0 : decode cX16_isUnder 0 = .ok (.iload_n 1, 1) := dk_27 (dk_at dksX16_isUnder_0 0 rfl rfl)
theorem dX16_isUnder_1 : decode cX16_isUnder 1 = .ok (.iconst 2, 1) := dk_5 (dk_at dksX16_isUnder_0 1 rfl rfl)
theorem dX16_isUnder_2 : decode cX16_isUnder 2 = .ok (.if_icmp .eq 11, 3) := dk_159 0 11 (dk_at dksX16_isUnder_0 2 rfl rfl)
theorem dX16_isUnder_5 : decode cX16_isUnder 5 = .ok (.aload_n 0, 1) := dk_42 (dk_at dksX16_isUnder_0 5 rfl rfl)
theorem dX16_isUnder_6 : decode cX16_isUnder 6 = .ok (.iload_n 1, 1) := dk_27 (dk_at dksX16_isUnder_0 6 rfl rfl)
theorem dX16_isUnder_7 : decode cX16_isUnder 7 = .ok (.invokespecial 13, 3) := dk_183 0 13 (dk_at dksX16_isUnder_0 7 rfl rfl)
theorem dX16_isUnder_10 : decode cX16_isUnder 10 = .ok (.ifCond .eq 7, 3) := dk_153 0 7 (dk_at dksX16_isUnder_0 10 rfl rfl)
theorem dX16_isUnder_13 : decode cX16_isUnder 13 = .ok (.iconst 1, 1) := dk_4 (dk_at dksX16_isUnder_0 13 rfl rfl)
theorem dX16_isUnder_14 : decode cX16_isUnder 14 = .ok (.goto 4, 3) := dk_167 0 4 (dk_at dksX16_isUnder_0 14 rfl rfl)
theorem dX16_isUnder_17 : decode cX16_isUnder 17 = .ok (.iconst 0, 1) := dk_3 (dk_at dksX16_isUnder_0 17 rfl rfl)
theorem dX16_isUnder_18 : decode cX16_isUnder 18 = .ok (.ireturn, 1) := dk_172 (dk_at dksX16_isUnder_0 18 rfl rfl)
abbrev cX16_kind : ByteArray := prog_4_method_2_code
def yX16_kind : MethodName := ⟨RX16, "kind", "()I"⟩
theorem dX16_kind_0 : decode cX16_kind 0 = .ok (.iconst 2, 1) := by decide +kernel
theorem dX16_kind_1 : decode cX16_kind 1 = .ok (.ireturn, 1) := by decide +kernel
theorem q130 : (Jvm.Cond.initialized "EightLegs$Breath") ∈ lw_all := lw_g (lw_at lw_m1 31 rfl) rfl
theorem q1125 : (Jvm.Cond.instantiable "EightLegs$Breath" (3 : Nat)) ∈ lw_all := lw_g (lw_at lw_m5 66 rfl) rfl
theorem q1127 : (Jvm.Cond.instanceMethod ({ cls := "EightLegs$Breath", name := "<init>", desc := "(LEightLegs;I)V" } : Jvm.MethodName)) ∈ lw_all := lw_g (lw_at lw_m5 68 rfl) rfl
theorem q1128 : (Jvm.Cond.code ({ cls := "EightLegs$Breath", name := "<init>", desc := "(LEightLegs;I)V" } : Jvm.MethodName) prog_4_method_1_code (3 : Nat) (Option.none : Option Jvm.ClassFile.FieldType)) ∈ lw_all := lw_g (lw_at lw_m5 69 rfl) rfl
theorem q1129 : (Jvm.Cond.methodLink "EightLegs$Breath" (7 : Nat) ({ cls := "EightLegs$Beat", name := "<init>", desc := "(LEightLegs;I)V" } : Jvm.MethodName)) ∈ lw_all := lw_g (lw_at lw_m5 70 rfl) rfl
theorem q1130 : (Jvm.Cond.fieldLink "EightLegs$Breath" (1 : Nat) "EightLegs$Breath" "this$0" "LEightLegs;") ∈ lw_all := lw_g (lw_at lw_m5 71 rfl) rfl
theorem q1131 : (Jvm.Cond.laysFinal "EightLegs$Breath" "EightLegs$Breath" "this$0" "LEightLegs;") ∈ lw_all := lw_g (lw_at lw_m5 72 rfl) rfl
theorem q1132 : (Jvm.Cond.soleField "EightLegs$Breath" "this$0") ∈ lw_all := lw_g (lw_at lw_m5 73 rfl) rfl
theorem q1133 : (Jvm.Cond.laysFinal "EightLegs$Breath" "EightLegs$Beat" "number" "I") ∈ lw_all := lw_g (lw_at lw_m5 74 rfl) rfl
theorem q1134 : (Jvm.Cond.laysFinal "EightLegs$Breath" "EightLegs$Beat" "this$0" "LEightLegs;") ∈ lw_all := lw_g (lw_at lw_m5 75 rfl) rfl
theorem q1135 : (Jvm.Cond.superclass "EightLegs$Breath" "EightLegs$Beat") ∈ lw_all := lw_g (lw_at lw_m5 76 rfl) rfl
theorem q1229 : (Jvm.Cond.castable "EightLegs$Breath" "EightLegs$Counts") ∈ lw_tbl := lw_at lw_m5 170 rfl
theorem q1230 : (Jvm.Cond.selects "EightLegs$Breath" ({ cls := "EightLegs$Counts", name := "countsIt", desc := "(I)I" } : Jvm.MethodName) ({ cls := "EightLegs$Beat", name := "countsIt", desc := "(I)I" } : Jvm.MethodName)) ∈ lw_all := lw_g (lw_at lw_m5 171 rfl) rfl
theorem q1231 : (Jvm.Cond.unhidden "EightLegs$Breath" "countsIt" "(I)I") ∈ lw_tbl := lw_at lw_m5 172 rfl
theorem q1274 : (Jvm.Cond.selects "EightLegs$Breath" ({ cls := "EightLegs$Beat", name := "turns", desc := "(I)I" } : Jvm.MethodName) ({ cls := "EightLegs$Breath", name := "turns", desc := "(I)I" } : Jvm.MethodName)) ∈ lw_all := lw_g (lw_at lw_m5 215 rfl) rfl
theorem q1275 : (Jvm.Cond.instanceMethod ({ cls := "EightLegs$Breath", name := "turns", desc := "(I)I" } : Jvm.MethodName)) ∈ lw_all := lw_g (lw_at lw_m5 216 rfl) rfl
theorem q1276 : (Jvm.Cond.code ({ cls := "EightLegs$Breath", name := "turns", desc := "(I)I" } : Jvm.MethodName) prog_4_method_4_code (2 : Nat) (Option.some Jvm.ClassFile.FieldType.int)) ∈ lw_all := lw_g (lw_at lw_m5 217 rfl) rfl
theorem q1277 : (Jvm.Cond.methodLinkNest "EightLegs$Breath" (17 : Nat) ({ cls := "EightLegs", name := "ran", desc := "(I)V" } : Jvm.MethodName) "EightLegs") ∈ lw_tbl := lw_at lw_m5 218 rfl
theorem q1278 : (Jvm.Cond.methodLink "EightLegs$Breath" (23 : Nat) ({ cls := "EightLegs$Beat", name := "turns", desc := "(I)I" } : Jvm.MethodName)) ∈ lw_all := lw_g (lw_at lw_m5 219 rfl) rfl
theorem q1318 : (Jvm.Cond.sameMethod "EightLegs$Breath" "EightLegs$Beat" "sinks" "(I)I") ∈ lw_all := lw_g (lw_at lw_m6 19 rfl) rfl
theorem q1319 : (Jvm.Cond.castable "EightLegs$Breath" "EightLegs$Tells") ∈ lw_tbl := lw_at lw_m6 20 rfl
theorem q1320 : (Jvm.Cond.selects "EightLegs$Breath" ({ cls := "EightLegs$Tells", name := "tells", desc := "(I)I" } : Jvm.MethodName) ({ cls := "EightLegs$Beat", name := "tells", desc := "(I)I" } : Jvm.MethodName)) ∈ lw_all := lw_g (lw_at lw_m6 21 rfl) rfl
theorem q1321 : (Jvm.Cond.unhidden "EightLegs$Breath" "tells" "(I)I") ∈ lw_tbl := lw_at lw_m6 22 rfl
theorem q1521 : (Jvm.Cond.selects "EightLegs$Breath" ({ cls := "EightLegs$Beat", name := "isUnder", desc := "(I)Z" } : Jvm.MethodName) ({ cls := "EightLegs$Breath", name := "isUnder", desc := "(I)Z" } : Jvm.MethodName)) ∈ lw_all := lw_g (lw_at lw_m6 222 rfl) rfl
theorem q1522 : (Jvm.Cond.instanceMethod ({ cls := "EightLegs$Breath", name := "isUnder", desc := "(I)Z" } : Jvm.MethodName)) ∈ lw_all := lw_g (lw_at lw_m6 223 rfl) rfl
theorem q1523 : (Jvm.Cond.code ({ cls := "EightLegs$Breath", name := "isUnder", desc := "(I)Z" } : Jvm.MethodName) prog_4_method_3_code (2 : Nat) (Option.some Jvm.ClassFile.FieldType.boolean)) ∈ lw_all := lw_g (lw_at lw_m6 224 rfl) rfl
theorem q1524 : (Jvm.Cond.methodLink "EightLegs$Breath" (13 : Nat) ({ cls := "EightLegs$Beat", name := "isUnder", desc := "(I)Z" } : Jvm.MethodName)) ∈ lw_all := lw_g (lw_at lw_m6 225 rfl) rfl
theorem q1530 : (Jvm.Cond.selects "EightLegs$Breath" ({ cls := "EightLegs$Beat", name := "kind", desc := "()I" } : Jvm.MethodName) ({ cls := "EightLegs$Breath", name := "kind", desc := "()I" } : Jvm.MethodName)) ∈ lw_all := lw_g (lw_at lw_m6 231 rfl) rfl
theorem q1531 : (Jvm.Cond.instanceMethod ({ cls := "EightLegs$Breath", name := "kind", desc := "()I" } : Jvm.MethodName)) ∈ lw_all := lw_g (lw_at lw_m6 232 rfl) rfl
theorem q1532 : (Jvm.Cond.code ({ cls := "EightLegs$Breath", name := "kind", desc := "()I" } : Jvm.MethodName) prog_4_method_2_code (1 : Nat) (Option.some Jvm.ClassFile.FieldType.int)) ∈ lw_all := lw_g (lw_at lw_m6 233 rfl) rfl
theorem q2141 : (Jvm.Cond.selects "EightLegs$Breath" ({ cls := "EightLegs$Beat", name := "countsIt", desc := "(I)I" } : Jvm.MethodName) ({ cls := "EightLegs$Beat", name := "countsIt", desc := "(I)I" } : Jvm.MethodName)) ∈ lw_all := lw_g (lw_at lw_m9 122 rfl) rfl
theorem q2148 : (Jvm.Cond.sameMethod "EightLegs$Breath" "EightLegs$Breath" "turns" "(I)I") ∈ lw_all := lw_g (lw_at lw_m9 129 rfl) rfl
theorem q2151 : (Jvm.Cond.selects "EightLegs$Breath" ({ cls := "EightLegs$Beat", name := "sinks", desc := "(I)I" } : Jvm.MethodName) ({ cls := "EightLegs$Beat", name := "sinks", desc := "(I)I" } : Jvm.MethodName)) ∈ lw_all := lw_g (lw_at lw_m9 132 rfl) rfl
theorem q2159 : (Jvm.Cond.sameMethod "EightLegs$Breath" "EightLegs$Breath" "isUnder" "(I)Z") ∈ lw_all := lw_g (lw_at lw_m9 140 rfl) rfl
theorem q2166 : (Jvm.Cond.castable "EightLegs$Breath" "EightLegs$Beat") ∈ lw_tbl := lw_at lw_m9 147 rfl
theorem q2174 : (Jvm.Cond.castable "EightLegs$Breath" "EightLegs$Held") ∈ lw_tbl := lw_at lw_m9 155 rfl
theorem in_X16 : ∀ w ∈ wsX160, w ∈ lw_all := lw_in wsX160 [1133, 1134, 1131] (by decide +kernel) (by decide +kernel)

/-! EightLegs$Smile -/
set_option maxRecDepth 100000
def RX17 : String := "EightLegs$Smile"
def TX17 : u_T := fun k => match k with
  | 0 => ("EightLegs$Beat", "number", "I", true)
  | 1 => ("EightLegs$Beat", "this$0", "LEightLegs;", true)
  | 2 => ("EightLegs$Breath", "this$0", "LEightLegs;", true)
  | _ => ("EightLegs$Smile", "this$0", "LEightLegs;", true)
def tyX17 : Nat → FieldType := fun k => match k with
  | 0 => .int
  | 1 => .object "EightLegs"
  | 2 => .object "EightLegs"
  | _ => .object "EightLegs"
abbrev wsX170 : List Cond := u_ws RX17 TX17 4
-- two fields of one name: no nmX17
theorem tyX17_ok : ∀ k, k < 4 → parseFieldDescriptor (TX17 k).2.2.1 = some (tyX17 k) := by decide +kernel
abbrev cX17_init : ByteArray := prog_25_method_1_code
def yX17_init : MethodName := ⟨RX17, "<init>", "(LEightLegs;I)V"⟩
def dkwX17_init_0 : List UInt8 := [42, 43, 181, 0, 1, 42, 43, 28, 183, 0, 7, 177]
abbrev dktX17_init_0 : List UInt8 := dkwX17_init_0 ++ []
theorem dksX17_init_0 : cX17_init.data.toList.drop 0 = dktX17_init_0 := by decide +kernel
theorem dX17_init_0 : decode cX17_init 0 = .ok (.aload_n 0, 1) := dk_42 (dk_at dksX17_init_0 0 rfl rfl)
theorem dX17_init_1 : decode cX17_init 1 = .ok (.aload_n 1, 1) := dk_43 (dk_at dksX17_init_0 1 rfl rfl)
theorem dX17_init_2 : decode cX17_init 2 = .ok (.putfield 1, 3) := dk_181 0 1 (dk_at dksX17_init_0 2 rfl rfl)
theorem dX17_init_5 : decode cX17_init 5 = .ok (.aload_n 0, 1) := dk_42 (dk_at dksX17_init_0 5 rfl rfl)
theorem dX17_init_6 : decode cX17_init 6 = .ok (.aload_n 1, 1) := dk_43 (dk_at dksX17_init_0 6 rfl rfl)
theorem dX17_init_7 : decode cX17_init 7 = .ok (.iload_n 2, 1) := dk_28 (dk_at dksX17_init_0 7 rfl rfl)
theorem dX17_init_8 : decode cX17_init 8 = .ok (.invokespecial 7, 3) := dk_183 0 7 (dk_at dksX17_init_0 8 rfl rfl)
theorem dX17_init_11 : decode cX17_init 11 = .ok (.return_, 1) := dk_177 (dk_at dksX17_init_0 11 rfl rfl)
abbrev cX17_turns : ByteArray := prog_25_method_5_code
def yX17_turns : MethodName := ⟨RX17, "turns", "(I)I"⟩
def dkwX17_turns_0 : List UInt8 := [42, 180, 0, 1, 16, 41, 182, 0, 17, 42, 27, 4, 96, 183, 0, 27, 172]
abbrev dktX17_turns_0 : List UInt8 := dkwX17_turns_0 ++ []
theorem dksX17_turns_0 : cX17_turns.data.toList.drop 0 = dktX17_turns_0 := by decide +kernel
theorem dX17_turns_0 : decode cX17_turns 0 = .ok (.aload_n 0, 1) := dk_42 (dk_at dksX17_turns_0 0 rfl rfl)
theorem dX17_turns_1 : decode cX17_turns 1 = .ok (.getfield 1, 3) := dk_180 0 1 (dk_at dksX17_turns_0 1 rfl rfl)
theorem dX17_turns_4 : decode cX17_turns 4 = .ok (.bipush 41, 2) := dk_16 41 (dk_at dksX17_turns_0 4 rfl rfl)
theorem dX17_turns_6 : decode cX17_turns 6 = .ok (.invokevirtual 17, 3) := dk_182 0 17 (dk_at dksX17_turns_0 6 rfl rfl)
theorem dX17_turns_9 : decode cX17_turns 9 = .ok (.aload_n 0, 1) := dk_42 (dk_at dksX17_turns_0 9 rfl rfl)
theorem dX17_turns_10 : decode cX17_turns 10 = .ok (.iload_n 1, 1) := dk_27 (dk_at dksX17_turns_0 10 rfl rfl)
theorem dX17_turns_11 : decode cX17_turns 11 = .ok (.iconst 1, 1) := dk_4 (dk_at dksX17_turns_0 11 rfl rfl)
theorem dX17_turns_12 : decode cX17_turns 12 = .ok (.iadd, 1) := dk_96 (dk_at dksX17_turns_0 12 rfl rfl)
theorem dX17_turns_13 : decode cX17_turns 13 = .ok (.invokespecial 27, 3) := dk_183 0 27 (dk_at dksX17_turns_0 13 rfl rfl)
theorem dX17_turns_16 : decode cX17_turns 16 = .ok (.ireturn, 1) := dk_172 (dk_at dksX17_turns_0 16 rfl rfl)
abbrev cX17_sinks : ByteArray := prog_25_method_4_code
def yX17_sinks : MethodName := ⟨RX17, "sinks", "(I)I"⟩
def dkwX17_sinks_0 : List UInt8 := [42, 180, 0, 1, 16, 40, 182, 0, 17, 42, 27, 183, 0, 23, 6, 104, 172]
abbrev dktX17_sinks_0 : List UInt8 := dkwX17_sinks_0 ++ []
theorem dksX17_sinks_0 : cX17_sinks.data.toList.drop 0 = dktX17_sinks_0 := by decide +kernel
theorem dX17_sinks_0 : decode cX17_sinks 0 = .ok (.aload_n 0, 1) := dk_42 (dk_at dksX17_sinks_0 0 rfl rfl)
theorem dX17_sinks_1 : decode cX17_sinks 1 = .ok (.getfield 1, 3) := dk_180 0 1 (dk_at dksX17_sinks_0 1 rfl rfl)
theorem dX17_sinks_4 : decode cX17_sinks 4 = .ok (.bipush 40, 2) := dk_16 40 (dk_at dksX17_sinks_0 4 rfl rfl)
theorem dX17_sinks_6 : decode cX17_sinks 6 = .ok (.invokevirtual 17, 3) := dk_182 0 17 (dk_at dksX17_sinks_0 6 rfl rfl)
theorem dX17_sinks_9 : decode cX17_sinks 9 = .ok (.aload_n 0, 1) := dk_42 (dk_at dksX17_sinks_0 9 rfl rfl)
theorem dX17_sinks_10 : decode cX17_sinks 10 = .ok (.iload_n 1, 1) := dk_27 (dk_at dksX17_sinks_0 10 rfl rfl)
theorem dX17_sinks_11 : decode cX17_sinks 11 = .ok (.invokespecial 23, 3) := dk_183 0 23 (dk_at dksX17_sinks_0 11 rfl rfl)
theorem dX17_sinks_14 : decode cX17_sinks 14 = .ok (.iconst 3, 1) := dk_6 (dk_at dksX17_sinks_0 14 rfl rfl)
theorem dX17_sinks_15 : decode cX17_sinks 15 = .ok (.imul, 1) := dk_104 (dk_at dksX17_sinks_0 15 rfl rfl)
theorem dX17_sinks_16 : decode cX17_sinks 16 = .ok (.ireturn, 1) := dk_172 (dk_at dksX17_sinks_0 16 rfl rfl)
abbrev cX17_kind : ByteArray := prog_25_method_2_code
def yX17_kind : MethodName := ⟨RX17, "kind", "()I"⟩
theorem dX17_kind_0 : decode cX17_kind 0 = .ok (.iconst 3, 1) := by decide +kernel
theorem dX17_kind_1 : decode cX17_kind 1 = .ok (.ireturn, 1) := by decide +kernel
abbrev cX17_isUnder : ByteArray := prog_25_method_3_code
def yX17_isUnder : MethodName := ⟨RX17, "isUnder", "(I)Z"⟩
def dkwX17_isUnder_0 : List UInt8 := [27, 6, 159, 0, 11, 42, 27, 183, 0, 13, 153, 0, 7, 4, 167, 0, 4, 3, 172]
abbrev dktX17_isUnder_0 : List UInt8 := dkwX17_isUnder_0 ++ []
theorem dksX17_isUnder_0 : cX17_isUnder.data.toList.drop 0 = dktX17_isUnder_0 := by decide +kernel
theorem dX17_isUnder_0 : decode cX17_isUnder 0 = .ok (.iload_n 1, 1) := dk_27 (dk_at dksX17_isUnder_0 0 rfl rfl)
theorem dX17_isUnder_1 : decode cX17_isUnder 1 = .ok (.iconst 3, 1) := dk_6 (dk_at dksX17_isUnder_0 1 rfl rfl)
theorem dX17_isUnder_2 : decode cX17_isUnder 2 = .ok (.if_icmp .eq 11, 3) := dk_159 0 11 (dk_at dksX17_isUnder_0 2 rfl rfl)
theorem dX17_isUnder_5 : decode cX17_isUnder 5 = .ok (.aload_n 0, 1) := dk_42 (dk_at dksX17_isUnder_0 5 rfl rfl)
theorem dX17_isUnder_6 : decode cX17_isUnder 6 = .ok (.iload_n 1, 1) := dk_27 (dk_at dksX17_isUnder_0 6 rfl rfl)
theorem dX17_isUnder_7 : decode cX17_isUnder 7 = .ok (.invokespecial 13, 3) := dk_183 0 13 (dk_at dksX17_isUnder_0 7 rfl rfl)
theorem dX17_isUnder_10 : decode cX17_isUnder 10 = .ok (.ifCond .eq 7, 3) := dk_153 0 7 (dk_at dksX17_isUnder_0 10 rfl rfl)
theorem dX17_isUnder_13 : decode cX17_isUnder 13 = .ok (.iconst 1, 1) := dk_4 (dk_at dksX17_isUnder_0 13 rfl rfl)
theorem dX17_isUnder_14 : decode cX17_isUnder 14 = .ok (.goto 4, 3) := dk_167 0 4 (dk_at dksX17_isUnder_0 14 rfl rfl)
theorem dX17_isUnder_17 : decode cX17_isUnder 17 = .ok (.iconst 0, 1) := dk_3 (dk_at dksX17_isUnder_0 17 rfl rfl)
theorem dX17_isUnder_18 : decode cX17_isUnder 18 = .ok (.ireturn, 1) := dk_172 (dk_at dksX17_isUnder_0 18 rfl rfl)
theorem q131 : (Jvm.Cond.initialized "EightLegs$Smile") ∈ lw_all := lw_g (lw_at lw_m1 32 rfl) rfl
theorem q1137 : (Jvm.Cond.instantiable "EightLegs$Smile" (4 : Nat)) ∈ lw_all := lw_g (lw_at lw_m5 78 rfl) rfl
theorem q1139 : (Jvm.Cond.instanceMethod ({ cls := "EightLegs$Smile", name := "<init>", desc := "(LEightLegs;I)V" } : Jvm.MethodName)) ∈ lw_all := lw_g (lw_at lw_m5 80 rfl) rfl
theorem q1140 : (Jvm.Cond.code ({ cls := "EightLegs$Smile", name := "<init>", desc := "(LEightLegs;I)V" } : Jvm.MethodName) prog_25_method_1_code (3 : Nat) (Option.none : Option Jvm.ClassFile.FieldType)) ∈ lw_all := lw_g (lw_at lw_m5 81 rfl) rfl
theorem q1141 : (Jvm.Cond.methodLink "EightLegs$Smile" (7 : Nat) ({ cls := "EightLegs$Breath", name := "<init>", desc := "(LEightLegs;I)V" } : Jvm.MethodName)) ∈ lw_all := lw_g (lw_at lw_m5 82 rfl) rfl
theorem q1142 : (Jvm.Cond.fieldLink "EightLegs$Smile" (1 : Nat) "EightLegs$Smile" "this$0" "LEightLegs;") ∈ lw_all := lw_g (lw_at lw_m5 83 rfl) rfl
theorem q1143 : (Jvm.Cond.laysFinal "EightLegs$Smile" "EightLegs$Smile" "this$0" "LEightLegs;") ∈ lw_all := lw_g (lw_at lw_m5 84 rfl) rfl
theorem q1144 : (Jvm.Cond.soleField "EightLegs$Smile" "this$0") ∈ lw_all := lw_g (lw_at lw_m5 85 rfl) rfl
theorem q1145 : (Jvm.Cond.laysFinal "EightLegs$Smile" "EightLegs$Breath" "this$0" "LEightLegs;") ∈ lw_all := lw_g (lw_at lw_m5 86 rfl) rfl
theorem q1146 : (Jvm.Cond.laysFinal "EightLegs$Smile" "EightLegs$Beat" "number" "I") ∈ lw_all := lw_g (lw_at lw_m5 87 rfl) rfl
theorem q1147 : (Jvm.Cond.laysFinal "EightLegs$Smile" "EightLegs$Beat" "this$0" "LEightLegs;") ∈ lw_all := lw_g (lw_at lw_m5 88 rfl) rfl
theorem q1148 : (Jvm.Cond.superclass "EightLegs$Smile" "EightLegs$Breath") ∈ lw_all := lw_g (lw_at lw_m5 89 rfl) rfl
theorem q1254 : (Jvm.Cond.castable "EightLegs$Smile" "EightLegs$Counts") ∈ lw_tbl := lw_at lw_m5 195 rfl
theorem q1255 : (Jvm.Cond.selects "EightLegs$Smile" ({ cls := "EightLegs$Counts", name := "countsIt", desc := "(I)I" } : Jvm.MethodName) ({ cls := "EightLegs$Beat", name := "countsIt", desc := "(I)I" } : Jvm.MethodName)) ∈ lw_all := lw_g (lw_at lw_m5 196 rfl) rfl
theorem q1256 : (Jvm.Cond.unhidden "EightLegs$Smile" "countsIt" "(I)I") ∈ lw_tbl := lw_at lw_m5 197 rfl
theorem q1308 : (Jvm.Cond.selects "EightLegs$Smile" ({ cls := "EightLegs$Beat", name := "turns", desc := "(I)I" } : Jvm.MethodName) ({ cls := "EightLegs$Smile", name := "turns", desc := "(I)I" } : Jvm.MethodName)) ∈ lw_all := lw_g (lw_at lw_m6 9 rfl) rfl
theorem q1309 : (Jvm.Cond.instanceMethod ({ cls := "EightLegs$Smile", name := "turns", desc := "(I)I" } : Jvm.MethodName)) ∈ lw_all := lw_g (lw_at lw_m6 10 rfl) rfl
theorem q1310 : (Jvm.Cond.code ({ cls := "EightLegs$Smile", name := "turns", desc := "(I)I" } : Jvm.MethodName) prog_25_method_5_code (2 : Nat) (Option.some Jvm.ClassFile.FieldType.int)) ∈ lw_all := lw_g (lw_at lw_m6 11 rfl) rfl
theorem q1311 : (Jvm.Cond.methodLinkNest "EightLegs$Smile" (17 : Nat) ({ cls := "EightLegs", name := "ran", desc := "(I)V" } : Jvm.MethodName) "EightLegs") ∈ lw_tbl := lw_at lw_m6 12 rfl
theorem q1312 : (Jvm.Cond.methodLink "EightLegs$Smile" (27 : Nat) ({ cls := "EightLegs$Breath", name := "turns", desc := "(I)I" } : Jvm.MethodName)) ∈ lw_all := lw_g (lw_at lw_m6 13 rfl) rfl
theorem q1315 : (Jvm.Cond.instanceMethod ({ cls := "EightLegs$Smile", name := "sinks", desc := "(I)I" } : Jvm.MethodName)) ∈ lw_all := lw_g (lw_at lw_m6 16 rfl) rfl
theorem q1316 : (Jvm.Cond.code ({ cls := "EightLegs$Smile", name := "sinks", desc := "(I)I" } : Jvm.MethodName) prog_25_method_4_code (2 : Nat) (Option.some Jvm.ClassFile.FieldType.int)) ∈ lw_all := lw_g (lw_at lw_m6 17 rfl) rfl
theorem q1317 : (Jvm.Cond.methodLink "EightLegs$Smile" (23 : Nat) ({ cls := "EightLegs$Breath", name := "sinks", desc := "(I)I" } : Jvm.MethodName)) ∈ lw_all := lw_g (lw_at lw_m6 18 rfl) rfl
theorem q1340 : (Jvm.Cond.castable "EightLegs$Smile" "EightLegs$Tells") ∈ lw_tbl := lw_at lw_m6 41 rfl
theorem q1341 : (Jvm.Cond.selects "EightLegs$Smile" ({ cls := "EightLegs$Tells", name := "tells", desc := "(I)I" } : Jvm.MethodName) ({ cls := "EightLegs$Beat", name := "tells", desc := "(I)I" } : Jvm.MethodName)) ∈ lw_all := lw_g (lw_at lw_m6 42 rfl) rfl
theorem q1342 : (Jvm.Cond.unhidden "EightLegs$Smile" "tells" "(I)I") ∈ lw_tbl := lw_at lw_m6 43 rfl
theorem q1351 : (Jvm.Cond.sameMethod "EightLegs$Smile" "EightLegs$Beat" "tells" "(I)I") ∈ lw_all := lw_g (lw_at lw_m6 52 rfl) rfl
theorem q1545 : (Jvm.Cond.selects "EightLegs$Smile" ({ cls := "EightLegs$Beat", name := "kind", desc := "()I" } : Jvm.MethodName) ({ cls := "EightLegs$Smile", name := "kind", desc := "()I" } : Jvm.MethodName)) ∈ lw_all := lw_g (lw_at lw_m7 6 rfl) rfl
theorem q1546 : (Jvm.Cond.instanceMethod ({ cls := "EightLegs$Smile", name := "kind", desc := "()I" } : Jvm.MethodName)) ∈ lw_all := lw_g (lw_at lw_m7 7 rfl) rfl
theorem q1547 : (Jvm.Cond.code ({ cls := "EightLegs$Smile", name := "kind", desc := "()I" } : Jvm.MethodName) prog_25_method_2_code (1 : Nat) (Option.some Jvm.ClassFile.FieldType.int)) ∈ lw_all := lw_g (lw_at lw_m7 8 rfl) rfl
theorem q1562 : (Jvm.Cond.selects "EightLegs$Smile" ({ cls := "EightLegs$Beat", name := "isUnder", desc := "(I)Z" } : Jvm.MethodName) ({ cls := "EightLegs$Smile", name := "isUnder", desc := "(I)Z" } : Jvm.MethodName)) ∈ lw_all := lw_g (lw_at lw_m7 23 rfl) rfl
theorem q1563 : (Jvm.Cond.instanceMethod ({ cls := "EightLegs$Smile", name := "isUnder", desc := "(I)Z" } : Jvm.MethodName)) ∈ lw_all := lw_g (lw_at lw_m7 24 rfl) rfl
theorem q1564 : (Jvm.Cond.code ({ cls := "EightLegs$Smile", name := "isUnder", desc := "(I)Z" } : Jvm.MethodName) prog_25_method_3_code (2 : Nat) (Option.some Jvm.ClassFile.FieldType.boolean)) ∈ lw_all := lw_g (lw_at lw_m7 25 rfl) rfl
theorem q1565 : (Jvm.Cond.methodLink "EightLegs$Smile" (13 : Nat) ({ cls := "EightLegs$Breath", name := "isUnder", desc := "(I)Z" } : Jvm.MethodName)) ∈ lw_all := lw_g (lw_at lw_m7 26 rfl) rfl
theorem q2146 : (Jvm.Cond.selects "EightLegs$Smile" ({ cls := "EightLegs$Beat", name := "countsIt", desc := "(I)I" } : Jvm.MethodName) ({ cls := "EightLegs$Beat", name := "countsIt", desc := "(I)I" } : Jvm.MethodName)) ∈ lw_all := lw_g (lw_at lw_m9 127 rfl) rfl
theorem q2156 : (Jvm.Cond.selects "EightLegs$Smile" ({ cls := "EightLegs$Beat", name := "sinks", desc := "(I)I" } : Jvm.MethodName) ({ cls := "EightLegs$Smile", name := "sinks", desc := "(I)I" } : Jvm.MethodName)) ∈ lw_all := lw_g (lw_at lw_m9 137 rfl) rfl
theorem q2171 : (Jvm.Cond.castable "EightLegs$Smile" "EightLegs$Beat") ∈ lw_tbl := lw_at lw_m9 152 rfl
theorem q2175 : (Jvm.Cond.castable "EightLegs$Smile" "EightLegs$Held") ∈ lw_tbl := lw_at lw_m9 156 rfl
theorem in_X17 : ∀ w ∈ wsX170, w ∈ lw_all := lw_in wsX170 [1146, 1147, 1145, 1143] (by decide +kernel) (by decide +kernel)

/-! EightLegs$Lift -/
set_option maxRecDepth 100000
def RX18 : String := "EightLegs$Lift"
def TX18 : u_T := fun k => match k with
  | 0 => ("EightLegs$Beat", "number", "I", true)
  | 1 => ("EightLegs$Beat", "this$0", "LEightLegs;", true)
  | 2 => ("EightLegs$Legs", "this$0", "LEightLegs;", true)
  | _ => ("EightLegs$Lift", "this$0", "LEightLegs;", true)
def tyX18 : Nat → FieldType := fun k => match k with
  | 0 => .int
  | 1 => .object "EightLegs"
  | 2 => .object "EightLegs"
  | _ => .object "EightLegs"
abbrev wsX180 : List Cond := u_ws RX18 TX18 4
-- two fields of one name: no nmX18
theorem tyX18_ok : ∀ k, k < 4 → parseFieldDescriptor (TX18 k).2.2.1 = some (tyX18 k) := by decide +kernel
abbrev cX18_init : ByteArray := prog_16_method_1_code
def yX18_init : MethodName := ⟨RX18, "<init>", "(LEightLegs;I)V"⟩
def dkwX18_init_0 : List UInt8 := [42, 43, 181, 0, 1, 42, 43, 28, 183, 0, 7, 177]
abbrev dktX18_init_0 : List UInt8 := dkwX18_init_0 ++ []
theorem dksX18_init_0 : cX18_init.data.toList.drop 0 = dktX18_init_0 := by decide +kernel
theorem dX18_init_0 : decode cX18_init 0 = .ok (.aload_n 0, 1) := dk_42 (dk_at dksX18_init_0 0 rfl rfl)
theorem dX18_init_1 : decode cX18_init 1 = .ok (.aload_n 1, 1) := dk_43 (dk_at dksX18_init_0 1 rfl rfl)
theorem dX18_init_2 : decode cX18_init 2 = .ok (.putfield 1, 3) := dk_181 0 1 (dk_at dksX18_init_0 2 rfl rfl)
theorem dX18_init_5 : decode cX18_init 5 = .ok (.aload_n 0, 1) := dk_42 (dk_at dksX18_init_0 5 rfl rfl)
theorem dX18_init_6 : decode cX18_init 6 = .ok (.aload_n 1, 1) := dk_43 (dk_at dksX18_init_0 6 rfl rfl)
theorem dX18_init_7 : decode cX18_init 7 = .ok (.iload_n 2, 1) := dk_28 (dk_at dksX18_init_0 7 rfl rfl)
theorem dX18_init_8 : decode cX18_init 8 = .ok (.invokespecial 7, 3) := dk_183 0 7 (dk_at dksX18_init_0 8 rfl rfl)
theorem dX18_init_11 : decode cX18_init 11 = .ok (.return_, 1) := dk_177 (dk_at dksX18_init_0 11 rfl rfl)
abbrev cX18_sinks : ByteArray := prog_16_method_4_code
def yX18_sinks : MethodName := ⟨RX18, "sinks", "(I)I"⟩
def dkwX18_sinks_0 : List UInt8 := [42, 180, 0, 1, 16, 50, 182, 0, 17, 42, 27, 183, 0, 23, 61, 28, 42, 5, 182, 0, 27, 100, 172]
abbrev dktX18_sinks_0 : List UInt8 := dkwX18_sinks_0 ++ []
theorem dksX18_sinks_0 : cX18_sinks.data.toList.drop 0 = dktX18_sinks_0 := by decide +kernel
theorem dX18_sinks_0 : decode cX18_sinks 0 = .ok (.aload_n 0, 1) := dk_42 (dk_at dksX18_sinks_0 0 rfl rfl)
theorem dX18_sinks_1 : decode cX18_sinks 1 = .ok (.getfield 1, 3) := dk_180 0 1 (dk_at dksX18_sinks_0 1 rfl rfl)
theorem dX18_sinks_4 : decode cX18_sinks 4 = .ok (.bipush 50, 2) := dk_16 50 (dk_at dksX18_sinks_0 4 rfl rfl)
theorem dX18_sinks_6 : decode cX18_sinks 6 = .ok (.invokevirtual 17, 3) := dk_182 0 17 (dk_at dksX18_sinks_0 6 rfl rfl)
theorem dX18_sinks_9 : decode cX18_sinks 9 = .ok (.aload_n 0, 1) := dk_42 (dk_at dksX18_sinks_0 9 rfl rfl)
theorem dX18_sinks_10 : decode cX18_sinks 10 = .ok (.iload_n 1, 1) := dk_27 (dk_at dksX18_sinks_0 10 rfl rfl)
theorem dX18_sinks_11 : decode cX18_sinks 11 = .ok (.invokespecial 23, 3) := dk_183 0 23 (dk_at dksX18_sinks_0 11 rfl rfl)
theorem dX18_sinks_14 : decode cX18_sinks 14 = .ok (.istore_n 2, 1) := dk_61 (dk_at dksX18_sinks_0 14 rfl rfl)
theorem dX18_sinks_15 : decode cX18_sinks 15 = .ok (.iload_n 2, 1) := dk_28 (dk_at dksX18_sinks_0 15 rfl rfl)
theorem dX18_sinks_16 : decode cX18_sinks 16 = .ok (.aload_n 0, 1) := dk_42 (dk_at dksX18_sinks_0 16 rfl rfl)
theorem dX18_sinks_17 : decode cX18_sinks 17 = .ok (.iconst 2, 1) := dk_5 (dk_at dksX18_sinks_0 17 rfl rfl)
theorem dX18_sinks_18 : decode cX18_sinks 18 = .ok (.invokevirtual 27, 3) := dk_182 0 27 (dk_at dksX18_sinks_0 18 rfl rfl)
theorem dX18_sinks_21 : decode cX18_sinks 21 = .ok (.isub, 1) := dk_100 (dk_at dksX18_sinks_0 21 rfl rfl)
theorem dX18_sinks_22 : decode cX18_sinks 22 = .ok (.ireturn, 1) := dk_172 (dk_at dksX18_sinks_0 22 rfl rfl)
abbrev cX18_kind : ByteArray := prog_16_method_2_code
def yX18_kind : MethodName := ⟨RX18, "kind", "()I"⟩
theorem dX18_kind_0 : decode cX18_kind 0 = .ok (.iconst 4, 1) := by decide +kernel
theorem dX18_kind_1 : decode cX18_kind 1 = .ok (.ireturn, 1) := by decide +kernel
abbrev cX18_isUnder : ByteArray := prog_16_method_3_code
def yX18_isUnder : MethodName := ⟨RX18, "isUnder", "(I)Z"⟩
def dkwX18_isUnder_0 : List UInt8 := [27, 7, 159, 0, 11, 42, 27, 183, 0, 13, 153, 0, 7, 4, 167, 0, 4, 3, 172]
abbrev dktX18_isUnder_0 : List UInt8 := dkwX18_isUnder_0 ++ []
theorem dksX18_isUnder_0 : cX18_isUnder.data.toList.drop 0 = dktX18_isUnder_0 := by decide +kernel
theorem dX18_isUnder_0 : decode cX18_isUnder 0 = .ok (.iload_n 1, 1) := dk_27 (dk_at dksX18_isUnder_0 0 rfl rfl)
theorem dX18_isUnder_1 : decode cX18_isUnder 1 = .ok (.iconst 4, 1) := dk_7 (dk_at dksX18_isUnder_0 1 rfl rfl)
theorem dX18_isUnder_2 : decode cX18_isUnder 2 = .ok (.if_icmp .eq 11, 3) := dk_159 0 11 (dk_at dksX18_isUnder_0 2 rfl rfl)
theorem dX18_isUnder_5 : decode cX18_isUnder 5 = .ok (.aload_n 0, 1) := dk_42 (dk_at dksX18_isUnder_0 5 rfl rfl)
theorem dX18_isUnder_6 : decode cX18_isUnder 6 = .ok (.iload_n 1, 1) := dk_27 (dk_at dksX18_isUnder_0 6 rfl rfl)
theorem dX18_isUnder_7 : decode cX18_isUnder 7 = .ok (.invokespecial 13, 3) := dk_183 0 13 (dk_at dksX18_isUnder_0 7 rfl rfl)
theorem dX18_isUnder_10 : decode cX18_isUnder 10 = .ok (.ifCond .eq 7, 3) := dk_153 0 7 (dk_at dksX18_isUnder_0 10 rfl rfl)
theorem dX18_isUnder_13 : decode cX18_isUnder 13 = .ok (.iconst 1, 1) := dk_4 (dk_at dksX18_isUnder_0 13 rfl rfl)
theorem dX18_isUnder_14 : decode cX18_isUnder 14 = .ok (.goto 4, 3) := dk_167 0 4 (dk_at dksX18_isUnder_0 14 rfl rfl)
theorem dX18_isUnder_17 : decode cX18_isUnder 17 = .ok (.iconst 0, 1) := dk_3 (dk_at dksX18_isUnder_0 17 rfl rfl)
theorem dX18_isUnder_18 : decode cX18_isUnder 18 = .ok (.ireturn, 1) := dk_172 (dk_at dksX18_isUnder_0 18 rfl rfl)
theorem q132 : (Jvm.Cond.initialized "EightLegs$Lift") ∈ lw_all := lw_g (lw_at lw_m1 33 rfl) rfl
theorem q1150 : (Jvm.Cond.instantiable "EightLegs$Lift" (4 : Nat)) ∈ lw_all := lw_g (lw_at lw_m5 91 rfl) rfl
theorem q1152 : (Jvm.Cond.instanceMethod ({ cls := "EightLegs$Lift", name := "<init>", desc := "(LEightLegs;I)V" } : Jvm.MethodName)) ∈ lw_all := lw_g (lw_at lw_m5 93 rfl) rfl
theorem q1153 : (Jvm.Cond.code ({ cls := "EightLegs$Lift", name := "<init>", desc := "(LEightLegs;I)V" } : Jvm.MethodName) prog_16_method_1_code (3 : Nat) (Option.none : Option Jvm.ClassFile.FieldType)) ∈ lw_all := lw_g (lw_at lw_m5 94 rfl) rfl
theorem q1154 : (Jvm.Cond.methodLink "EightLegs$Lift" (7 : Nat) ({ cls := "EightLegs$Legs", name := "<init>", desc := "(LEightLegs;I)V" } : Jvm.MethodName)) ∈ lw_all := lw_g (lw_at lw_m5 95 rfl) rfl
theorem q1155 : (Jvm.Cond.fieldLink "EightLegs$Lift" (1 : Nat) "EightLegs$Lift" "this$0" "LEightLegs;") ∈ lw_all := lw_g (lw_at lw_m5 96 rfl) rfl
theorem q1156 : (Jvm.Cond.laysFinal "EightLegs$Lift" "EightLegs$Lift" "this$0" "LEightLegs;") ∈ lw_all := lw_g (lw_at lw_m5 97 rfl) rfl
theorem q1157 : (Jvm.Cond.soleField "EightLegs$Lift" "this$0") ∈ lw_all := lw_g (lw_at lw_m5 98 rfl) rfl
theorem q1158 : (Jvm.Cond.laysFinal "EightLegs$Lift" "EightLegs$Legs" "this$0" "LEightLegs;") ∈ lw_all := lw_g (lw_at lw_m5 99 rfl) rfl
theorem q1159 : (Jvm.Cond.laysFinal "EightLegs$Lift" "EightLegs$Beat" "number" "I") ∈ lw_all := lw_g (lw_at lw_m5 100 rfl) rfl
theorem q1160 : (Jvm.Cond.laysFinal "EightLegs$Lift" "EightLegs$Beat" "this$0" "LEightLegs;") ∈ lw_all := lw_g (lw_at lw_m5 101 rfl) rfl
theorem q1161 : (Jvm.Cond.superclass "EightLegs$Lift" "EightLegs$Legs") ∈ lw_all := lw_g (lw_at lw_m5 102 rfl) rfl
theorem q1251 : (Jvm.Cond.castable "EightLegs$Lift" "EightLegs$Counts") ∈ lw_tbl := lw_at lw_m5 192 rfl
theorem q1252 : (Jvm.Cond.selects "EightLegs$Lift" ({ cls := "EightLegs$Counts", name := "countsIt", desc := "(I)I" } : Jvm.MethodName) ({ cls := "EightLegs$Legs", name := "countsIt", desc := "(I)I" } : Jvm.MethodName)) ∈ lw_all := lw_g (lw_at lw_m5 193 rfl) rfl
theorem q1253 : (Jvm.Cond.unhidden "EightLegs$Lift" "countsIt" "(I)I") ∈ lw_tbl := lw_at lw_m5 194 rfl
theorem q1287 : (Jvm.Cond.sameMethod "EightLegs$Lift" "EightLegs$Beat" "turns" "(I)I") ∈ lw_all := lw_g (lw_at lw_m5 228 rfl) rfl
theorem q1291 : (Jvm.Cond.declares ({ cls := "EightLegs$Lift", name := "sinks", desc := "(I)I" } : Jvm.MethodName)) ∈ lw_tbl := lw_at lw_m5 232 rfl
theorem q1293 : (Jvm.Cond.instanceMethod ({ cls := "EightLegs$Lift", name := "sinks", desc := "(I)I" } : Jvm.MethodName)) ∈ lw_all := lw_g (lw_at lw_m5 234 rfl) rfl
theorem q1294 : (Jvm.Cond.code ({ cls := "EightLegs$Lift", name := "sinks", desc := "(I)I" } : Jvm.MethodName) prog_16_method_4_code (3 : Nat) (Option.some Jvm.ClassFile.FieldType.int)) ∈ lw_all := lw_g (lw_at lw_m5 235 rfl) rfl
theorem q1295 : (Jvm.Cond.methodLinkNest "EightLegs$Lift" (17 : Nat) ({ cls := "EightLegs", name := "ran", desc := "(I)V" } : Jvm.MethodName) "EightLegs") ∈ lw_tbl := lw_at lw_m5 236 rfl
theorem q1296 : (Jvm.Cond.methodLink "EightLegs$Lift" (23 : Nat) ({ cls := "EightLegs$Legs", name := "sinks", desc := "(I)I" } : Jvm.MethodName)) ∈ lw_all := lw_g (lw_at lw_m5 237 rfl) rfl
theorem q1301 : (Jvm.Cond.methodLink "EightLegs$Lift" (27 : Nat) ({ cls := "EightLegs$Lift", name := "countsIt", desc := "(I)I" } : Jvm.MethodName)) ∈ lw_all := lw_g (lw_at lw_m6 2 rfl) rfl
theorem q1302 : (Jvm.Cond.sameMethod "EightLegs$Lift" "EightLegs$Legs" "countsIt" "(I)I") ∈ lw_all := lw_g (lw_at lw_m6 3 rfl) rfl
theorem q1305 : (Jvm.Cond.selects "EightLegs$Lift" ({ cls := "EightLegs$Lift", name := "countsIt", desc := "(I)I" } : Jvm.MethodName) ({ cls := "EightLegs$Legs", name := "countsIt", desc := "(I)I" } : Jvm.MethodName)) ∈ lw_all := lw_g (lw_at lw_m6 6 rfl) rfl
theorem q1307 : (Jvm.Cond.selects "EightLegs$Lift" ({ cls := "EightLegs$Beat", name := "turns", desc := "(I)I" } : Jvm.MethodName) ({ cls := "EightLegs$Beat", name := "turns", desc := "(I)I" } : Jvm.MethodName)) ∈ lw_all := lw_g (lw_at lw_m6 8 rfl) rfl
theorem q1332 : (Jvm.Cond.sameMethod "EightLegs$Lift" "EightLegs$Beat" "tells" "(I)I") ∈ lw_all := lw_g (lw_at lw_m6 33 rfl) rfl
theorem q1337 : (Jvm.Cond.castable "EightLegs$Lift" "EightLegs$Tells") ∈ lw_tbl := lw_at lw_m6 38 rfl
theorem q1338 : (Jvm.Cond.selects "EightLegs$Lift" ({ cls := "EightLegs$Tells", name := "tells", desc := "(I)I" } : Jvm.MethodName) ({ cls := "EightLegs$Beat", name := "tells", desc := "(I)I" } : Jvm.MethodName)) ∈ lw_all := lw_g (lw_at lw_m6 39 rfl) rfl
theorem q1339 : (Jvm.Cond.unhidden "EightLegs$Lift" "tells" "(I)I") ∈ lw_tbl := lw_at lw_m6 40 rfl
theorem q1542 : (Jvm.Cond.selects "EightLegs$Lift" ({ cls := "EightLegs$Beat", name := "kind", desc := "()I" } : Jvm.MethodName) ({ cls := "EightLegs$Lift", name := "kind", desc := "()I" } : Jvm.MethodName)) ∈ lw_all := lw_g (lw_at lw_m7 3 rfl) rfl
theorem q1543 : (Jvm.Cond.instanceMethod ({ cls := "EightLegs$Lift", name := "kind", desc := "()I" } : Jvm.MethodName)) ∈ lw_all := lw_g (lw_at lw_m7 4 rfl) rfl
theorem q1544 : (Jvm.Cond.code ({ cls := "EightLegs$Lift", name := "kind", desc := "()I" } : Jvm.MethodName) prog_16_method_2_code (1 : Nat) (Option.some Jvm.ClassFile.FieldType.int)) ∈ lw_all := lw_g (lw_at lw_m7 5 rfl) rfl
theorem q1554 : (Jvm.Cond.instanceMethod ({ cls := "EightLegs$Lift", name := "isUnder", desc := "(I)Z" } : Jvm.MethodName)) ∈ lw_all := lw_g (lw_at lw_m7 15 rfl) rfl
theorem q1555 : (Jvm.Cond.code ({ cls := "EightLegs$Lift", name := "isUnder", desc := "(I)Z" } : Jvm.MethodName) prog_16_method_3_code (2 : Nat) (Option.some Jvm.ClassFile.FieldType.boolean)) ∈ lw_all := lw_g (lw_at lw_m7 16 rfl) rfl
theorem q1556 : (Jvm.Cond.methodLink "EightLegs$Lift" (13 : Nat) ({ cls := "EightLegs$Legs", name := "isUnder", desc := "(I)Z" } : Jvm.MethodName)) ∈ lw_all := lw_g (lw_at lw_m7 17 rfl) rfl
theorem q1561 : (Jvm.Cond.selects "EightLegs$Lift" ({ cls := "EightLegs$Beat", name := "isUnder", desc := "(I)Z" } : Jvm.MethodName) ({ cls := "EightLegs$Lift", name := "isUnder", desc := "(I)Z" } : Jvm.MethodName)) ∈ lw_all := lw_g (lw_at lw_m7 22 rfl) rfl
theorem q2145 : (Jvm.Cond.selects "EightLegs$Lift" ({ cls := "EightLegs$Beat", name := "countsIt", desc := "(I)I" } : Jvm.MethodName) ({ cls := "EightLegs$Legs", name := "countsIt", desc := "(I)I" } : Jvm.MethodName)) ∈ lw_all := lw_g (lw_at lw_m9 126 rfl) rfl
theorem q2155 : (Jvm.Cond.selects "EightLegs$Lift" ({ cls := "EightLegs$Beat", name := "sinks", desc := "(I)I" } : Jvm.MethodName) ({ cls := "EightLegs$Lift", name := "sinks", desc := "(I)I" } : Jvm.MethodName)) ∈ lw_all := lw_g (lw_at lw_m9 136 rfl) rfl
theorem q2170 : (Jvm.Cond.castable "EightLegs$Lift" "EightLegs$Beat") ∈ lw_tbl := lw_at lw_m9 151 rfl
theorem q2176 : (Jvm.Cond.castable "EightLegs$Lift" "EightLegs$Held") ∈ lw_tbl := lw_at lw_m9 157 rfl
theorem in_X18 : ∀ w ∈ wsX180, w ∈ lw_all := lw_in wsX180 [1159, 1160, 1158, 1156] (by decide +kernel) (by decide +kernel)

/-! EightLegs$Star -/
set_option maxRecDepth 100000
def RX19 : String := "EightLegs$Star"
def TX19 : u_T := fun k => match k with
  | 0 => ("EightLegs$Beat", "number", "I", true)
  | 1 => ("EightLegs$Beat", "this$0", "LEightLegs;", true)
  | 2 => ("EightLegs$Breath", "this$0", "LEightLegs;", true)
  | 3 => ("EightLegs$Smile", "this$0", "LEightLegs;", true)
  | _ => ("EightLegs$Star", "this$0", "LEightLegs;", true)
def tyX19 : Nat → FieldType := fun k => match k with
  | 0 => .int
  | 1 => .object "EightLegs"
  | 2 => .object "EightLegs"
  | 3 => .object "EightLegs"
  | _ => .object "EightLegs"
abbrev wsX190 : List Cond := u_ws RX19 TX19 5
-- two fields of one name: no nmX19
theorem tyX19_ok : ∀ k, k < 5 → parseFieldDescriptor (TX19 k).2.2.1 = some (tyX19 k) := by decide +kernel
abbrev cX19_init : ByteArray := prog_26_method_1_code
def yX19_init : MethodName := ⟨RX19, "<init>", "(LEightLegs;I)V"⟩
def dkwX19_init_0 : List UInt8 := [42, 43, 181, 0, 1, 42, 43, 28, 183, 0, 7, 177]
abbrev dktX19_init_0 : List UInt8 := dkwX19_init_0 ++ []
theorem dksX19_init_0 : cX19_init.data.toList.drop 0 = dktX19_init_0 := by decide +kernel
theorem dX19_init_0 : decode cX19_init 0 = .ok (.aload_n 0, 1) := dk_42 (dk_at dksX19_init_0 0 rfl rfl)
theorem dX19_init_1 : decode cX19_init 1 = .ok (.aload_n 1, 1) := dk_43 (dk_at dksX19_init_0 1 rfl rfl)
theorem dX19_init_2 : decode cX19_init 2 = .ok (.putfield 1, 3) := dk_181 0 1 (dk_at dksX19_init_0 2 rfl rfl)
theorem dX19_init_5 : decode cX19_init 5 = .ok (.aload_n 0, 1) := dk_42 (dk_at dksX19_init_0 5 rfl rfl)
theorem dX19_init_6 : decode cX19_init 6 = .ok (.aload_n 1, 1) := dk_43 (dk_at dksX19_init_0 6 rfl rfl)
theorem dX19_init_7 : decode cX19_init 7 = .ok (.iload_n 2, 1) := dk_28 (dk_at dksX19_init_0 7 rfl rfl)
theorem dX19_init_8 : decode cX19_init 8 = .ok (.invokespecial 7, 3) := dk_183 0 7 (dk_at dksX19_init_0 8 rfl rfl)
theorem dX19_init_11 : decode cX19_init 11 = .ok (.return_, 1) := dk_177 (dk_at dksX19_init_0 11 rfl rfl)
abbrev cX19_tells : ByteArray := prog_26_method_3_code
def yX19_tells : MethodName := ⟨RX19, "tells", "(I)I"⟩
def dkwX19_tells_0 : List UInt8 := [42, 180, 0, 1, 16, 60, 182, 0, 13, 42, 27, 183, 0, 19, 8, 130, 172]
abbrev dktX19_tells_0 : List UInt8 := dkwX19_tells_0 ++ []
theorem dksX19_tells_0 : cX19_tells.data.toList.drop 0 = dktX19_tells_0 := by decide +kernel
theorem dX19_tells_0 : decode cX19_tells 0 = .ok (.aload_n 0, 1) := dk_42 (dk_at dksX19_tells_0 0 rfl rfl)
theorem dX19_tells_1 : decode cX19_tells 1 = .ok (.getfield 1, 3) := dk_180 0 1 (dk_at dksX19_tells_0 1 rfl rfl)
theorem dX19_tells_4 : decode cX19_tells 4 = .ok (.bipush 60, 2) := dk_16 60 (dk_at dksX19_tells_0 4 rfl rfl)
theorem dX19_tells_6 : decode cX19_tells 6 = .ok (.invokevirtual 13, 3) := dk_182 0 13 (dk_at dksX19_tells_0 6 rfl rfl)
theorem dX19_tells_9 : decode cX19_tells 9 = .ok (.aload_n 0, 1) := dk_42 (dk_at dksX19_tells_0 9 rfl rfl)
theorem dX19_tells_10 : decode cX19_tells 10 = .ok (.iload_n 1, 1) := dk_27 (dk_at dksX19_tells_0 10 rfl rfl)
theorem dX19_tells_11 : decode cX19_tells 11 = .ok (.invokespecial 19, 3) := dk_183 0 19 (dk_at dksX19_tells_0 11 rfl rfl)
theorem dX19_tells_14 : decode cX19_tells 14 = .ok (.iconst 5, 1) := dk_8 (dk_at dksX19_tells_0 14 rfl rfl)
theorem dX19_tells_15 : decode cX19_tells 15 = .ok (.ixor, 1) := dk_130 (dk_at dksX19_tells_0 15 rfl rfl)
theorem dX19_tells_16 : decode cX19_tells 16 = .ok (.ireturn, 1) := dk_172 (dk_at dksX19_tells_0 16 rfl rfl)
abbrev cX19_kind : ByteArray := prog_26_method_2_code
def yX19_kind : MethodName := ⟨RX19, "kind", "()I"⟩
theorem dX19_kind_0 : decode cX19_kind 0 = .ok (.iconst 5, 1) := by decide +kernel
theorem dX19_kind_1 : decode cX19_kind 1 = .ok (.ireturn, 1) := by decide +kernel
theorem q133 : (Jvm.Cond.initialized "EightLegs$Star") ∈ lw_all := lw_g (lw_at lw_m1 34 rfl) rfl
theorem q1163 : (Jvm.Cond.instantiable "EightLegs$Star" (5 : Nat)) ∈ lw_all := lw_g (lw_at lw_m5 104 rfl) rfl
theorem q1165 : (Jvm.Cond.instanceMethod ({ cls := "EightLegs$Star", name := "<init>", desc := "(LEightLegs;I)V" } : Jvm.MethodName)) ∈ lw_all := lw_g (lw_at lw_m5 106 rfl) rfl
theorem q1166 : (Jvm.Cond.code ({ cls := "EightLegs$Star", name := "<init>", desc := "(LEightLegs;I)V" } : Jvm.MethodName) prog_26_method_1_code (3 : Nat) (Option.none : Option Jvm.ClassFile.FieldType)) ∈ lw_all := lw_g (lw_at lw_m5 107 rfl) rfl
theorem q1167 : (Jvm.Cond.methodLink "EightLegs$Star" (7 : Nat) ({ cls := "EightLegs$Smile", name := "<init>", desc := "(LEightLegs;I)V" } : Jvm.MethodName)) ∈ lw_all := lw_g (lw_at lw_m5 108 rfl) rfl
theorem q1168 : (Jvm.Cond.fieldLink "EightLegs$Star" (1 : Nat) "EightLegs$Star" "this$0" "LEightLegs;") ∈ lw_all := lw_g (lw_at lw_m5 109 rfl) rfl
theorem q1169 : (Jvm.Cond.laysFinal "EightLegs$Star" "EightLegs$Star" "this$0" "LEightLegs;") ∈ lw_all := lw_g (lw_at lw_m5 110 rfl) rfl
theorem q1170 : (Jvm.Cond.soleField "EightLegs$Star" "this$0") ∈ lw_all := lw_g (lw_at lw_m5 111 rfl) rfl
theorem q1171 : (Jvm.Cond.laysFinal "EightLegs$Star" "EightLegs$Smile" "this$0" "LEightLegs;") ∈ lw_all := lw_g (lw_at lw_m5 112 rfl) rfl
theorem q1172 : (Jvm.Cond.laysFinal "EightLegs$Star" "EightLegs$Breath" "this$0" "LEightLegs;") ∈ lw_all := lw_g (lw_at lw_m5 113 rfl) rfl
theorem q1173 : (Jvm.Cond.laysFinal "EightLegs$Star" "EightLegs$Beat" "number" "I") ∈ lw_all := lw_g (lw_at lw_m5 114 rfl) rfl
theorem q1174 : (Jvm.Cond.laysFinal "EightLegs$Star" "EightLegs$Beat" "this$0" "LEightLegs;") ∈ lw_all := lw_g (lw_at lw_m5 115 rfl) rfl
theorem q1175 : (Jvm.Cond.superclass "EightLegs$Star" "EightLegs$Smile") ∈ lw_all := lw_g (lw_at lw_m5 116 rfl) rfl
theorem q1257 : (Jvm.Cond.castable "EightLegs$Star" "EightLegs$Counts") ∈ lw_tbl := lw_at lw_m5 198 rfl
theorem q1258 : (Jvm.Cond.selects "EightLegs$Star" ({ cls := "EightLegs$Counts", name := "countsIt", desc := "(I)I" } : Jvm.MethodName) ({ cls := "EightLegs$Beat", name := "countsIt", desc := "(I)I" } : Jvm.MethodName)) ∈ lw_all := lw_g (lw_at lw_m5 199 rfl) rfl
theorem q1259 : (Jvm.Cond.unhidden "EightLegs$Star" "countsIt" "(I)I") ∈ lw_tbl := lw_at lw_m5 200 rfl
theorem q1313 : (Jvm.Cond.selects "EightLegs$Star" ({ cls := "EightLegs$Beat", name := "turns", desc := "(I)I" } : Jvm.MethodName) ({ cls := "EightLegs$Smile", name := "turns", desc := "(I)I" } : Jvm.MethodName)) ∈ lw_all := lw_g (lw_at lw_m6 14 rfl) rfl
theorem q1343 : (Jvm.Cond.castable "EightLegs$Star" "EightLegs$Tells") ∈ lw_tbl := lw_at lw_m6 44 rfl
theorem q1344 : (Jvm.Cond.selects "EightLegs$Star" ({ cls := "EightLegs$Tells", name := "tells", desc := "(I)I" } : Jvm.MethodName) ({ cls := "EightLegs$Star", name := "tells", desc := "(I)I" } : Jvm.MethodName)) ∈ lw_all := lw_g (lw_at lw_m6 45 rfl) rfl
theorem q1345 : (Jvm.Cond.unhidden "EightLegs$Star" "tells" "(I)I") ∈ lw_tbl := lw_at lw_m6 46 rfl
theorem q1346 : (Jvm.Cond.instanceMethod ({ cls := "EightLegs$Star", name := "tells", desc := "(I)I" } : Jvm.MethodName)) ∈ lw_all := lw_g (lw_at lw_m6 47 rfl) rfl
theorem q1347 : (Jvm.Cond.publicMethod ({ cls := "EightLegs$Star", name := "tells", desc := "(I)I" } : Jvm.MethodName)) ∈ lw_tbl := lw_at lw_m6 48 rfl
theorem q1348 : (Jvm.Cond.code ({ cls := "EightLegs$Star", name := "tells", desc := "(I)I" } : Jvm.MethodName) prog_26_method_3_code (2 : Nat) (Option.some Jvm.ClassFile.FieldType.int)) ∈ lw_all := lw_g (lw_at lw_m6 49 rfl) rfl
theorem q1349 : (Jvm.Cond.methodLinkNest "EightLegs$Star" (13 : Nat) ({ cls := "EightLegs", name := "ran", desc := "(I)V" } : Jvm.MethodName) "EightLegs") ∈ lw_tbl := lw_at lw_m6 50 rfl
theorem q1350 : (Jvm.Cond.methodLink "EightLegs$Star" (19 : Nat) ({ cls := "EightLegs$Smile", name := "tells", desc := "(I)I" } : Jvm.MethodName)) ∈ lw_all := lw_g (lw_at lw_m6 51 rfl) rfl
theorem q1548 : (Jvm.Cond.selects "EightLegs$Star" ({ cls := "EightLegs$Beat", name := "kind", desc := "()I" } : Jvm.MethodName) ({ cls := "EightLegs$Star", name := "kind", desc := "()I" } : Jvm.MethodName)) ∈ lw_all := lw_g (lw_at lw_m7 9 rfl) rfl
theorem q1549 : (Jvm.Cond.instanceMethod ({ cls := "EightLegs$Star", name := "kind", desc := "()I" } : Jvm.MethodName)) ∈ lw_all := lw_g (lw_at lw_m7 10 rfl) rfl
theorem q1550 : (Jvm.Cond.code ({ cls := "EightLegs$Star", name := "kind", desc := "()I" } : Jvm.MethodName) prog_26_method_2_code (1 : Nat) (Option.some Jvm.ClassFile.FieldType.int)) ∈ lw_all := lw_g (lw_at lw_m7 11 rfl) rfl
theorem q1566 : (Jvm.Cond.selects "EightLegs$Star" ({ cls := "EightLegs$Beat", name := "isUnder", desc := "(I)Z" } : Jvm.MethodName) ({ cls := "EightLegs$Smile", name := "isUnder", desc := "(I)Z" } : Jvm.MethodName)) ∈ lw_all := lw_g (lw_at lw_m7 27 rfl) rfl
theorem q2147 : (Jvm.Cond.selects "EightLegs$Star" ({ cls := "EightLegs$Beat", name := "countsIt", desc := "(I)I" } : Jvm.MethodName) ({ cls := "EightLegs$Beat", name := "countsIt", desc := "(I)I" } : Jvm.MethodName)) ∈ lw_all := lw_g (lw_at lw_m9 128 rfl) rfl
theorem q2157 : (Jvm.Cond.selects "EightLegs$Star" ({ cls := "EightLegs$Beat", name := "sinks", desc := "(I)I" } : Jvm.MethodName) ({ cls := "EightLegs$Smile", name := "sinks", desc := "(I)I" } : Jvm.MethodName)) ∈ lw_all := lw_g (lw_at lw_m9 138 rfl) rfl
theorem q2172 : (Jvm.Cond.castable "EightLegs$Star" "EightLegs$Beat") ∈ lw_tbl := lw_at lw_m9 153 rfl
theorem q2177 : (Jvm.Cond.castable "EightLegs$Star" "EightLegs$Held") ∈ lw_tbl := lw_at lw_m9 158 rfl
theorem in_X19 : ∀ w ∈ wsX190, w ∈ lw_all := lw_in wsX190 [1173, 1174, 1172, 1171, 1169] (by decide +kernel) (by decide +kernel)

/-! EightLegs$Echo -/
set_option maxRecDepth 100000
def RX20 : String := "EightLegs$Echo"
def TX20 : u_T := fun k => match k with
  | 0 => ("EightLegs$Beat", "number", "I", true)
  | 1 => ("EightLegs$Beat", "this$0", "LEightLegs;", true)
  | _ => ("EightLegs$Echo", "this$0", "LEightLegs;", true)
def tyX20 : Nat → FieldType := fun k => match k with
  | 0 => .int
  | 1 => .object "EightLegs"
  | _ => .object "EightLegs"
abbrev wsX200 : List Cond := u_ws RX20 TX20 3
-- two fields of one name: no nmX20
theorem tyX20_ok : ∀ k, k < 3 → parseFieldDescriptor (TX20 k).2.2.1 = some (tyX20 k) := by decide +kernel
abbrev cX20_init : ByteArray := prog_9_method_1_code
def yX20_init : MethodName := ⟨RX20, "<init>", "(LEightLegs;I)V"⟩
def dkwX20_init_0 : List UInt8 := [42, 43, 181, 0, 1, 42, 43, 28, 183, 0, 7, 177]
abbrev dktX20_init_0 : List UInt8 := dkwX20_init_0 ++ []
theorem dksX20_init_0 : cX20_init.data.toList.drop 0 = dktX20_init_0 := by decide +kernel
theorem dX20_init_0 : decode cX20_init 0 = .ok (.aload_n 0, 1) := dk_42 (dk_at dksX20_init_0 0 rfl rfl)
theorem dX20_init_1 : decode cX20_init 1 = .ok (.aload_n 1, 1) := dk_43 (dk_at dksX20_init_0 1 rfl rfl)
theorem dX20_init_2 : decode cX20_init 2 = .ok (.putfield 1, 3) := dk_181 0 1 (dk_at dksX20_init_0 2 rfl rfl)
theorem dX20_init_5 : decode cX20_init 5 = .ok (.aload_n 0, 1) := dk_42 (dk_at dksX20_init_0 5 rfl rfl)
theorem dX20_init_6 : decode cX20_init 6 = .ok (.aload_n 1, 1) := dk_43 (dk_at dksX20_init_0 6 rfl rfl)
theorem dX20_init_7 : decode cX20_init 7 = .ok (.iload_n 2, 1) := dk_28 (dk_at dksX20_init_0 7 rfl rfl)
theorem dX20_init_8 : decode cX20_init 8 = .ok (.invokespecial 7, 3) := dk_183 0 7 (dk_at dksX20_init_0 8 rfl rfl)
theorem dX20_init_11 : decode cX20_init 11 = .ok (.return_, 1) := dk_177 (dk_at dksX20_init_0 11 rfl rfl)
abbrev cX20_countsIt : ByteArray := prog_9_method_3_code
def yX20_countsIt : MethodName := ⟨RX20, "countsIt", "(I)I"⟩
def dkwX20_countsIt_0 : List UInt8 := [42, 180, 0, 1, 16, 70, 182, 0, 13, 42, 27, 183, 0, 19, 5, 104, 172]
abbrev dktX20_countsIt_0 : List UInt8 := dkwX20_countsIt_0 ++ []
theorem dksX20_countsIt_0 : cX20_countsIt.data.toList.drop 0 = dktX20_countsIt_0 := by decide +kernel
theorem dX20_countsIt_0 : decode cX20_countsIt 0 = .ok (.aload_n 0, 1) := dk_42 (dk_at dksX20_countsIt_0 0 rfl rfl)
theorem dX20_countsIt_1 : decode cX20_countsIt 1 = .ok (.getfield 1, 3) := dk_180 0 1 (dk_at dksX20_countsIt_0 1 rfl rfl)
theorem dX20_countsIt_4 : decode cX20_countsIt 4 = .ok (.bipush 70, 2) := dk_16 70 (dk_at dksX20_countsIt_0 4 rfl rfl)
theorem dX20_countsIt_6 : decode cX20_countsIt 6 = .ok (.invokevirtual 13, 3) := dk_182 0 13 (dk_at dksX20_countsIt_0 6 rfl rfl)
theorem dX20_countsIt_9 : decode cX20_countsIt 9 = .ok (.aload_n 0, 1) := dk_42 (dk_at dksX20_countsIt_0 9 rfl rfl)
theorem dX20_countsIt_10 : decode cX20_countsIt 10 = .ok (.iload_n 1, 1) := dk_27 (dk_at dksX20_countsIt_0 10 rfl rfl)
theorem dX20_countsIt_11 : decode cX20_countsIt 11 = .ok (.invokespecial 19, 3) := dk_183 0 19 (dk_at dksX20_countsIt_0 11 rfl rfl)
theorem dX20_countsIt_14 : decode cX20_countsIt 14 = .ok (.iconst 2, 1) := dk_5 (dk_at dksX20_countsIt_0 14 rfl rfl)
theorem dX20_countsIt_15 : decode cX20_countsIt 15 = .ok (.imul, 1) := dk_104 (dk_at dksX20_countsIt_0 15 rfl rfl)
theorem dX20_countsIt_16 : decode cX20_countsIt 16 = .ok (.ireturn, 1) := dk_172 (dk_at dksX20_countsIt_0 16 rfl rfl)
abbrev cX20_kind : ByteArray := prog_9_method_2_code
def yX20_kind : MethodName := ⟨RX20, "kind", "()I"⟩
theorem dX20_kind_0 : decode cX20_kind 0 = .ok (.bipush 6, 2) := by decide +kernel
theorem dX20_kind_2 : decode cX20_kind 2 = .ok (.ireturn, 1) := by decide +kernel
theorem q134 : (Jvm.Cond.initialized "EightLegs$Echo") ∈ lw_all := lw_g (lw_at lw_m1 35 rfl) rfl
theorem q1177 : (Jvm.Cond.instantiable "EightLegs$Echo" (3 : Nat)) ∈ lw_all := lw_g (lw_at lw_m5 118 rfl) rfl
theorem q1179 : (Jvm.Cond.instanceMethod ({ cls := "EightLegs$Echo", name := "<init>", desc := "(LEightLegs;I)V" } : Jvm.MethodName)) ∈ lw_all := lw_g (lw_at lw_m5 120 rfl) rfl
theorem q1180 : (Jvm.Cond.code ({ cls := "EightLegs$Echo", name := "<init>", desc := "(LEightLegs;I)V" } : Jvm.MethodName) prog_9_method_1_code (3 : Nat) (Option.none : Option Jvm.ClassFile.FieldType)) ∈ lw_all := lw_g (lw_at lw_m5 121 rfl) rfl
theorem q1181 : (Jvm.Cond.methodLink "EightLegs$Echo" (7 : Nat) ({ cls := "EightLegs$Beat", name := "<init>", desc := "(LEightLegs;I)V" } : Jvm.MethodName)) ∈ lw_all := lw_g (lw_at lw_m5 122 rfl) rfl
theorem q1182 : (Jvm.Cond.fieldLink "EightLegs$Echo" (1 : Nat) "EightLegs$Echo" "this$0" "LEightLegs;") ∈ lw_all := lw_g (lw_at lw_m5 123 rfl) rfl
theorem q1183 : (Jvm.Cond.laysFinal "EightLegs$Echo" "EightLegs$Echo" "this$0" "LEightLegs;") ∈ lw_all := lw_g (lw_at lw_m5 124 rfl) rfl
theorem q1184 : (Jvm.Cond.soleField "EightLegs$Echo" "this$0") ∈ lw_all := lw_g (lw_at lw_m5 125 rfl) rfl
theorem q1185 : (Jvm.Cond.laysFinal "EightLegs$Echo" "EightLegs$Beat" "number" "I") ∈ lw_all := lw_g (lw_at lw_m5 126 rfl) rfl
theorem q1186 : (Jvm.Cond.laysFinal "EightLegs$Echo" "EightLegs$Beat" "this$0" "LEightLegs;") ∈ lw_all := lw_g (lw_at lw_m5 127 rfl) rfl
theorem q1187 : (Jvm.Cond.superclass "EightLegs$Echo" "EightLegs$Beat") ∈ lw_all := lw_g (lw_at lw_m5 128 rfl) rfl
theorem q1232 : (Jvm.Cond.castable "EightLegs$Echo" "EightLegs$Counts") ∈ lw_tbl := lw_at lw_m5 173 rfl
theorem q1233 : (Jvm.Cond.selects "EightLegs$Echo" ({ cls := "EightLegs$Counts", name := "countsIt", desc := "(I)I" } : Jvm.MethodName) ({ cls := "EightLegs$Echo", name := "countsIt", desc := "(I)I" } : Jvm.MethodName)) ∈ lw_all := lw_g (lw_at lw_m5 174 rfl) rfl
theorem q1234 : (Jvm.Cond.unhidden "EightLegs$Echo" "countsIt" "(I)I") ∈ lw_tbl := lw_at lw_m5 175 rfl
theorem q1235 : (Jvm.Cond.instanceMethod ({ cls := "EightLegs$Echo", name := "countsIt", desc := "(I)I" } : Jvm.MethodName)) ∈ lw_all := lw_g (lw_at lw_m5 176 rfl) rfl
theorem q1236 : (Jvm.Cond.publicMethod ({ cls := "EightLegs$Echo", name := "countsIt", desc := "(I)I" } : Jvm.MethodName)) ∈ lw_tbl := lw_at lw_m5 177 rfl
theorem q1237 : (Jvm.Cond.code ({ cls := "EightLegs$Echo", name := "countsIt", desc := "(I)I" } : Jvm.MethodName) prog_9_method_3_code (2 : Nat) (Option.some Jvm.ClassFile.FieldType.int)) ∈ lw_all := lw_g (lw_at lw_m5 178 rfl) rfl
theorem q1238 : (Jvm.Cond.methodLinkNest "EightLegs$Echo" (13 : Nat) ({ cls := "EightLegs", name := "ran", desc := "(I)V" } : Jvm.MethodName) "EightLegs") ∈ lw_tbl := lw_at lw_m5 179 rfl
theorem q1239 : (Jvm.Cond.methodLink "EightLegs$Echo" (19 : Nat) ({ cls := "EightLegs$Beat", name := "countsIt", desc := "(I)I" } : Jvm.MethodName)) ∈ lw_all := lw_g (lw_at lw_m5 180 rfl) rfl
theorem q1281 : (Jvm.Cond.selects "EightLegs$Echo" ({ cls := "EightLegs$Beat", name := "turns", desc := "(I)I" } : Jvm.MethodName) ({ cls := "EightLegs$Beat", name := "turns", desc := "(I)I" } : Jvm.MethodName)) ∈ lw_all := lw_g (lw_at lw_m5 222 rfl) rfl
theorem q1322 : (Jvm.Cond.castable "EightLegs$Echo" "EightLegs$Tells") ∈ lw_tbl := lw_at lw_m6 23 rfl
theorem q1323 : (Jvm.Cond.selects "EightLegs$Echo" ({ cls := "EightLegs$Tells", name := "tells", desc := "(I)I" } : Jvm.MethodName) ({ cls := "EightLegs$Beat", name := "tells", desc := "(I)I" } : Jvm.MethodName)) ∈ lw_all := lw_g (lw_at lw_m6 24 rfl) rfl
theorem q1324 : (Jvm.Cond.unhidden "EightLegs$Echo" "tells" "(I)I") ∈ lw_tbl := lw_at lw_m6 25 rfl
theorem q1533 : (Jvm.Cond.selects "EightLegs$Echo" ({ cls := "EightLegs$Beat", name := "kind", desc := "()I" } : Jvm.MethodName) ({ cls := "EightLegs$Echo", name := "kind", desc := "()I" } : Jvm.MethodName)) ∈ lw_all := lw_g (lw_at lw_m6 234 rfl) rfl
theorem q1534 : (Jvm.Cond.instanceMethod ({ cls := "EightLegs$Echo", name := "kind", desc := "()I" } : Jvm.MethodName)) ∈ lw_all := lw_g (lw_at lw_m6 235 rfl) rfl
theorem q1535 : (Jvm.Cond.code ({ cls := "EightLegs$Echo", name := "kind", desc := "()I" } : Jvm.MethodName) prog_9_method_2_code (1 : Nat) (Option.some Jvm.ClassFile.FieldType.int)) ∈ lw_all := lw_g (lw_at lw_m6 236 rfl) rfl
theorem q1552 : (Jvm.Cond.selects "EightLegs$Echo" ({ cls := "EightLegs$Beat", name := "isUnder", desc := "(I)Z" } : Jvm.MethodName) ({ cls := "EightLegs$Beat", name := "isUnder", desc := "(I)Z" } : Jvm.MethodName)) ∈ lw_all := lw_g (lw_at lw_m7 13 rfl) rfl
theorem q2142 : (Jvm.Cond.selects "EightLegs$Echo" ({ cls := "EightLegs$Beat", name := "countsIt", desc := "(I)I" } : Jvm.MethodName) ({ cls := "EightLegs$Echo", name := "countsIt", desc := "(I)I" } : Jvm.MethodName)) ∈ lw_all := lw_g (lw_at lw_m9 123 rfl) rfl
theorem q2152 : (Jvm.Cond.selects "EightLegs$Echo" ({ cls := "EightLegs$Beat", name := "sinks", desc := "(I)I" } : Jvm.MethodName) ({ cls := "EightLegs$Beat", name := "sinks", desc := "(I)I" } : Jvm.MethodName)) ∈ lw_all := lw_g (lw_at lw_m9 133 rfl) rfl
theorem q2167 : (Jvm.Cond.castable "EightLegs$Echo" "EightLegs$Beat") ∈ lw_tbl := lw_at lw_m9 148 rfl
theorem q2178 : (Jvm.Cond.castable "EightLegs$Echo" "EightLegs$Held") ∈ lw_tbl := lw_at lw_m9 159 rfl
theorem in_X20 : ∀ w ∈ wsX200, w ∈ lw_all := lw_in wsX200 [1185, 1186, 1183] (by decide +kernel) (by decide +kernel)

/-! EightLegs$Judge -/
set_option maxRecDepth 100000
def RX21 : String := "EightLegs$Judge"
def TX21 : u_T := fun k => match k with
  | 0 => ("EightLegs$Beat", "number", "I", true)
  | 1 => ("EightLegs$Beat", "this$0", "LEightLegs;", true)
  | 2 => ("EightLegs$Legs", "this$0", "LEightLegs;", true)
  | 3 => ("EightLegs$Lift", "this$0", "LEightLegs;", true)
  | _ => ("EightLegs$Judge", "this$0", "LEightLegs;", true)
def tyX21 : Nat → FieldType := fun k => match k with
  | 0 => .int
  | 1 => .object "EightLegs"
  | 2 => .object "EightLegs"
  | 3 => .object "EightLegs"
  | _ => .object "EightLegs"
abbrev wsX210 : List Cond := u_ws RX21 TX21 5
-- two fields of one name: no nmX21
theorem tyX21_ok : ∀ k, k < 5 → parseFieldDescriptor (TX21 k).2.2.1 = some (tyX21 k) := by decide +kernel
abbrev cX21_init : ByteArray := prog_13_method_1_code
def yX21_init : MethodName := ⟨RX21, "<init>", "(LEightLegs;I)V"⟩
def dkwX21_init_0 : List UInt8 := [42, 43, 181, 0, 1, 42, 43, 28, 183, 0, 7, 177]
abbrev dktX21_init_0 : List UInt8 := dkwX21_init_0 ++ []
theorem dksX21_init_0 : cX21_init.data.toList.drop 0 = dktX21_init_0 := by decide +kernel
theorem dX21_init_0 : decode cX21_init 0 = .ok (.aload_n 0, 1) := dk_42 (dk_at dksX21_init_0 0 rfl rfl)
theorem dX21_init_1 : decode cX21_init 1 = .ok (.aload_n 1, 1) := dk_43 (dk_at dksX21_init_0 1 rfl rfl)
theorem dX21_init_2 : decode cX21_init 2 = .ok (.putfield 1, 3) := dk_181 0 1 (dk_at dksX21_init_0 2 rfl rfl)
theorem dX21_init_5 : decode cX21_init 5 = .ok (.aload_n 0, 1) := dk_42 (dk_at dksX21_init_0 5 rfl rfl)
theorem dX21_init_6 : decode cX21_init 6 = .ok (.aload_n 1, 1) := dk_43 (dk_at dksX21_init_0 6 rfl rfl)
theorem dX21_init_7 : decode cX21_init 7 = .ok (.iload_n 2, 1) := dk_28 (dk_at dksX21_init_0 7 rfl rfl)
theorem dX21_init_8 : decode cX21_init 8 = .ok (.invokespecial 7, 3) := dk_183 0 7 (dk_at dksX21_init_0 8 rfl rfl)
theorem dX21_init_11 : decode cX21_init 11 = .ok (.return_, 1) := dk_177 (dk_at dksX21_init_0 11 rfl rfl)
abbrev cX21_turns : ByteArray := prog_13_method_3_code
def yX21_turns : MethodName := ⟨RX21, "turns", "(I)I"⟩
def dkwX21_turns_0 : List UInt8 := [42, 180, 0, 1, 16, 80, 182, 0, 13, 42, 27, 183, 0, 19, 61, 28, 42, 5, 182, 0, 23, 96, 172]
abbrev dktX21_turns_0 : List UInt8 := dkwX21_turns_0 ++ []
theorem dksX21_turns_0 : cX21_turns.data.toList.drop 0 = dktX21_turns_0 := by decide +kernel
theorem dX21_turns_0 : decode cX21_turns 0 = .ok (.aload_n 0, 1) := dk_42 (dk_at dksX21_turns_0 0 rfl rfl)
theorem dX21_turns_1 : decode cX21_turns 1 = .ok (.getfield 1, 3) := dk_180 0 1 (dk_at dksX21_turns_0 1 rfl rfl)
theorem dX21_turns_4 : decode cX21_turns 4 = .ok (.bipush 80, 2) := dk_16 80 (dk_at dksX21_turns_0 4 rfl rfl)
theorem dX21_turns_6 : decode cX21_turns 6 = .ok (.invokevirtual 13, 3) := dk_182 0 13 (dk_at dksX21_turns_0 6 rfl rfl)
theorem dX21_turns_9 : decode cX21_turns 9 = .ok (.aload_n 0, 1) := dk_42 (dk_at dksX21_turns_0 9 rfl rfl)
theorem dX21_turns_10 : decode cX21_turns 10 = .ok (.iload_n 1, 1) := dk_27 (dk_at dksX21_turns_0 10 rfl rfl)
theorem dX21_turns_11 : decode cX21_turns 11 = .ok (.invokespecial 19, 3) := dk_183 0 19 (dk_at dksX21_turns_0 11 rfl rfl)
theorem dX21_turns_14 : decode cX21_turns 14 = .ok (.istore_n 2, 1) := dk_61 (dk_at dksX21_turns_0 14 rfl rfl)
theorem dX21_turns_15 : decode cX21_turns 15 = .ok (.iload_n 2, 1) := dk_28 (dk_at dksX21_turns_0 15 rfl rfl)
theorem dX21_turns_16 : decode cX21_turns 16 = .ok (.aload_n 0, 1) := dk_42 (dk_at dksX21_turns_0 16 rfl rfl)
theorem dX21_turns_17 : decode cX21_turns 17 = .ok (.iconst 2, 1) := dk_5 (dk_at dksX21_turns_0 17 rfl rfl)
theorem dX21_turns_18 : decode cX21_turns 18 = .ok (.invokevirtual 23, 3) := dk_182 0 23 (dk_at dksX21_turns_0 18 rfl rfl)
theorem dX21_turns_21 : decode cX21_turns 21 = .ok (.iadd, 1) := dk_96 (dk_at dksX21_turns_0 21 rfl rfl)
theorem dX21_turns_22 : decode cX21_turns 22 = .ok (.ireturn, 1) := dk_172 (dk_at dksX21_turns_0 22 rfl rfl)
abbrev cX21_tells : ByteArray := prog_13_method_4_code
def yX21_tells : MethodName := ⟨RX21, "tells", "(I)I"⟩
def dkwX21_tells_0 : List UInt8 := [42, 180, 0, 1, 16, 81, 182, 0, 13, 42, 27, 183, 0, 26, 4, 100, 172]
abbrev dktX21_tells_0 : List UInt8 := dkwX21_tells_0 ++ []
theorem dksX21_tells_0 : cX21_tells.data.toList.drop 0 = dktX21_tells_0 := by decide +kernel
theorem dX21_tells_0 : decode cX21_tells 0 = .ok (.aload_n 0, 1) := dk_42 (dk_at dksX21_tells_0 0 rfl rfl)
theorem dX21_tells_1 : decode cX21_tells 1 = .ok (.getfield 1, 3) := dk_180 0 1 (dk_at dksX21_tells_0 1 rfl rfl)
theorem dX21_tells_4 : decode cX21_tells 4 = .ok (.bipush 81, 2) := dk_16 81 (dk_at dksX21_tells_0 4 rfl rfl)
theorem dX21_tells_6 : decode cX21_tells 6 = .ok (.invokevirtual 13, 3) := dk_182 0 13 (dk_at dksX21_tells_0 6 rfl rfl)
theorem dX21_tells_9 : decode cX21_tells 9 = .ok (.aload_n 0, 1) := dk_42 (dk_at dksX21_tells_0 9 rfl rfl)
theorem dX21_tells_10 : decode cX21_tells 10 = .ok (.iload_n 1, 1) := dk_27 (dk_at dksX21_tells_0 10 rfl rfl)
theorem dX21_tells_11 : decode cX21_tells 11 = .ok (.invokespecial 26, 3) := dk_183 0 26 (dk_at dksX21_tells_0 11 rfl rfl)
theorem dX21_tells_14 : decode cX21_tells 14 = .ok (.iconst 1, 1) := dk_4 (dk_at dksX21_tells_0 14 rfl rfl)
theorem dX21_tells_15 : decode cX21_tells 15 = .ok (.isub, 1) := dk_100 (dk_at dksX21_tells_0 15 rfl rfl)
theorem dX21_tells_16 : decode cX21_tells 16 = .ok (.ireturn, 1) := dk_172 (dk_at dksX21_tells_0 16 rfl rfl)
abbrev cX21_kind : ByteArray := prog_13_method_2_code
def yX21_kind : MethodName := ⟨RX21, "kind", "()I"⟩
theorem dX21_kind_0 : decode cX21_kind 0 = .ok (.bipush 7, 2) := by decide +kernel
theorem dX21_kind_2 : decode cX21_kind 2 = .ok (.ireturn, 1) := by decide +kernel
theorem q135 : (Jvm.Cond.initialized "EightLegs$Judge") ∈ lw_all := lw_g (lw_at lw_m1 36 rfl) rfl
theorem q1189 : (Jvm.Cond.instantiable "EightLegs$Judge" (5 : Nat)) ∈ lw_all := lw_g (lw_at lw_m5 130 rfl) rfl
theorem q1191 : (Jvm.Cond.instanceMethod ({ cls := "EightLegs$Judge", name := "<init>", desc := "(LEightLegs;I)V" } : Jvm.MethodName)) ∈ lw_all := lw_g (lw_at lw_m5 132 rfl) rfl
theorem q1192 : (Jvm.Cond.code ({ cls := "EightLegs$Judge", name := "<init>", desc := "(LEightLegs;I)V" } : Jvm.MethodName) prog_13_method_1_code (3 : Nat) (Option.none : Option Jvm.ClassFile.FieldType)) ∈ lw_all := lw_g (lw_at lw_m5 133 rfl) rfl
theorem q1193 : (Jvm.Cond.methodLink "EightLegs$Judge" (7 : Nat) ({ cls := "EightLegs$Lift", name := "<init>", desc := "(LEightLegs;I)V" } : Jvm.MethodName)) ∈ lw_all := lw_g (lw_at lw_m5 134 rfl) rfl
theorem q1194 : (Jvm.Cond.fieldLink "EightLegs$Judge" (1 : Nat) "EightLegs$Judge" "this$0" "LEightLegs;") ∈ lw_all := lw_g (lw_at lw_m5 135 rfl) rfl
theorem q1195 : (Jvm.Cond.laysFinal "EightLegs$Judge" "EightLegs$Judge" "this$0" "LEightLegs;") ∈ lw_all := lw_g (lw_at lw_m5 136 rfl) rfl
theorem q1196 : (Jvm.Cond.soleField "EightLegs$Judge" "this$0") ∈ lw_all := lw_g (lw_at lw_m5 137 rfl) rfl
theorem q1197 : (Jvm.Cond.laysFinal "EightLegs$Judge" "EightLegs$Lift" "this$0" "LEightLegs;") ∈ lw_all := lw_g (lw_at lw_m5 138 rfl) rfl
theorem q1198 : (Jvm.Cond.laysFinal "EightLegs$Judge" "EightLegs$Legs" "this$0" "LEightLegs;") ∈ lw_all := lw_g (lw_at lw_m5 139 rfl) rfl
theorem q1199 : (Jvm.Cond.laysFinal "EightLegs$Judge" "EightLegs$Beat" "number" "I") ∈ lw_all := lw_g (lw_at lw_m5 140 rfl) rfl
theorem q1200 : (Jvm.Cond.laysFinal "EightLegs$Judge" "EightLegs$Beat" "this$0" "LEightLegs;") ∈ lw_all := lw_g (lw_at lw_m5 141 rfl) rfl
theorem q1201 : (Jvm.Cond.superclass "EightLegs$Judge" "EightLegs$Lift") ∈ lw_all := lw_g (lw_at lw_m5 142 rfl) rfl
theorem q1240 : (Jvm.Cond.castable "EightLegs$Judge" "EightLegs$Counts") ∈ lw_tbl := lw_at lw_m5 181 rfl
theorem q1241 : (Jvm.Cond.selects "EightLegs$Judge" ({ cls := "EightLegs$Counts", name := "countsIt", desc := "(I)I" } : Jvm.MethodName) ({ cls := "EightLegs$Legs", name := "countsIt", desc := "(I)I" } : Jvm.MethodName)) ∈ lw_all := lw_g (lw_at lw_m5 182 rfl) rfl
theorem q1242 : (Jvm.Cond.unhidden "EightLegs$Judge" "countsIt" "(I)I") ∈ lw_tbl := lw_at lw_m5 183 rfl
theorem q1282 : (Jvm.Cond.selects "EightLegs$Judge" ({ cls := "EightLegs$Beat", name := "turns", desc := "(I)I" } : Jvm.MethodName) ({ cls := "EightLegs$Judge", name := "turns", desc := "(I)I" } : Jvm.MethodName)) ∈ lw_all := lw_g (lw_at lw_m5 223 rfl) rfl
theorem q1283 : (Jvm.Cond.instanceMethod ({ cls := "EightLegs$Judge", name := "turns", desc := "(I)I" } : Jvm.MethodName)) ∈ lw_all := lw_g (lw_at lw_m5 224 rfl) rfl
theorem q1284 : (Jvm.Cond.code ({ cls := "EightLegs$Judge", name := "turns", desc := "(I)I" } : Jvm.MethodName) prog_13_method_3_code (3 : Nat) (Option.some Jvm.ClassFile.FieldType.int)) ∈ lw_all := lw_g (lw_at lw_m5 225 rfl) rfl
theorem q1285 : (Jvm.Cond.methodLinkNest "EightLegs$Judge" (13 : Nat) ({ cls := "EightLegs", name := "ran", desc := "(I)V" } : Jvm.MethodName) "EightLegs") ∈ lw_tbl := lw_at lw_m5 226 rfl
theorem q1286 : (Jvm.Cond.methodLink "EightLegs$Judge" (19 : Nat) ({ cls := "EightLegs$Lift", name := "turns", desc := "(I)I" } : Jvm.MethodName)) ∈ lw_all := lw_g (lw_at lw_m5 227 rfl) rfl
theorem q1289 : (Jvm.Cond.methodLink "EightLegs$Judge" (23 : Nat) ({ cls := "EightLegs$Judge", name := "sinks", desc := "(I)I" } : Jvm.MethodName)) ∈ lw_all := lw_g (lw_at lw_m5 230 rfl) rfl
theorem q1290 : (Jvm.Cond.sameMethod "EightLegs$Judge" "EightLegs$Lift" "sinks" "(I)I") ∈ lw_all := lw_g (lw_at lw_m5 231 rfl) rfl
theorem q1292 : (Jvm.Cond.selects "EightLegs$Judge" ({ cls := "EightLegs$Judge", name := "sinks", desc := "(I)I" } : Jvm.MethodName) ({ cls := "EightLegs$Lift", name := "sinks", desc := "(I)I" } : Jvm.MethodName)) ∈ lw_all := lw_g (lw_at lw_m5 233 rfl) rfl
theorem q1304 : (Jvm.Cond.selects "EightLegs$Judge" ({ cls := "EightLegs$Lift", name := "countsIt", desc := "(I)I" } : Jvm.MethodName) ({ cls := "EightLegs$Legs", name := "countsIt", desc := "(I)I" } : Jvm.MethodName)) ∈ lw_all := lw_g (lw_at lw_m6 5 rfl) rfl
theorem q1325 : (Jvm.Cond.castable "EightLegs$Judge" "EightLegs$Tells") ∈ lw_tbl := lw_at lw_m6 26 rfl
theorem q1326 : (Jvm.Cond.selects "EightLegs$Judge" ({ cls := "EightLegs$Tells", name := "tells", desc := "(I)I" } : Jvm.MethodName) ({ cls := "EightLegs$Judge", name := "tells", desc := "(I)I" } : Jvm.MethodName)) ∈ lw_all := lw_g (lw_at lw_m6 27 rfl) rfl
theorem q1327 : (Jvm.Cond.unhidden "EightLegs$Judge" "tells" "(I)I") ∈ lw_tbl := lw_at lw_m6 28 rfl
theorem q1328 : (Jvm.Cond.instanceMethod ({ cls := "EightLegs$Judge", name := "tells", desc := "(I)I" } : Jvm.MethodName)) ∈ lw_all := lw_g (lw_at lw_m6 29 rfl) rfl
theorem q1329 : (Jvm.Cond.publicMethod ({ cls := "EightLegs$Judge", name := "tells", desc := "(I)I" } : Jvm.MethodName)) ∈ lw_tbl := lw_at lw_m6 30 rfl
theorem q1330 : (Jvm.Cond.code ({ cls := "EightLegs$Judge", name := "tells", desc := "(I)I" } : Jvm.MethodName) prog_13_method_4_code (2 : Nat) (Option.some Jvm.ClassFile.FieldType.int)) ∈ lw_all := lw_g (lw_at lw_m6 31 rfl) rfl
theorem q1331 : (Jvm.Cond.methodLink "EightLegs$Judge" (26 : Nat) ({ cls := "EightLegs$Lift", name := "tells", desc := "(I)I" } : Jvm.MethodName)) ∈ lw_all := lw_g (lw_at lw_m6 32 rfl) rfl
theorem q1536 : (Jvm.Cond.selects "EightLegs$Judge" ({ cls := "EightLegs$Beat", name := "kind", desc := "()I" } : Jvm.MethodName) ({ cls := "EightLegs$Judge", name := "kind", desc := "()I" } : Jvm.MethodName)) ∈ lw_all := lw_g (lw_at lw_m6 237 rfl) rfl
theorem q1537 : (Jvm.Cond.instanceMethod ({ cls := "EightLegs$Judge", name := "kind", desc := "()I" } : Jvm.MethodName)) ∈ lw_all := lw_g (lw_at lw_m6 238 rfl) rfl
theorem q1538 : (Jvm.Cond.code ({ cls := "EightLegs$Judge", name := "kind", desc := "()I" } : Jvm.MethodName) prog_13_method_2_code (1 : Nat) (Option.some Jvm.ClassFile.FieldType.int)) ∈ lw_all := lw_g (lw_at lw_m6 239 rfl) rfl
theorem q1553 : (Jvm.Cond.selects "EightLegs$Judge" ({ cls := "EightLegs$Beat", name := "isUnder", desc := "(I)Z" } : Jvm.MethodName) ({ cls := "EightLegs$Lift", name := "isUnder", desc := "(I)Z" } : Jvm.MethodName)) ∈ lw_all := lw_g (lw_at lw_m7 14 rfl) rfl
theorem q2143 : (Jvm.Cond.selects "EightLegs$Judge" ({ cls := "EightLegs$Beat", name := "countsIt", desc := "(I)I" } : Jvm.MethodName) ({ cls := "EightLegs$Legs", name := "countsIt", desc := "(I)I" } : Jvm.MethodName)) ∈ lw_all := lw_g (lw_at lw_m9 124 rfl) rfl
theorem q2153 : (Jvm.Cond.selects "EightLegs$Judge" ({ cls := "EightLegs$Beat", name := "sinks", desc := "(I)I" } : Jvm.MethodName) ({ cls := "EightLegs$Lift", name := "sinks", desc := "(I)I" } : Jvm.MethodName)) ∈ lw_all := lw_g (lw_at lw_m9 134 rfl) rfl
theorem q2168 : (Jvm.Cond.castable "EightLegs$Judge" "EightLegs$Beat") ∈ lw_tbl := lw_at lw_m9 149 rfl
theorem q2179 : (Jvm.Cond.castable "EightLegs$Judge" "EightLegs$Held") ∈ lw_tbl := lw_at lw_m9 160 rfl
theorem in_X21 : ∀ w ∈ wsX210, w ∈ lw_all := lw_in wsX210 [1199, 1200, 1198, 1197, 1195] (by decide +kernel) (by decide +kernel)

/-! EightLegs$Row -/
set_option maxRecDepth 100000
def RX22 : String := "EightLegs$Row"
abbrev cX22_init : ByteArray := prog_23_method_1_code
def yX22_init : MethodName := ⟨RX22, "<init>", "()V"⟩
theorem dX22_init_0 : decode cX22_init 0 = .ok (.aload_n 0, 1) := by decide +kernel
theorem dX22_init_1 : decode cX22_init 1 = .ok (.invokespecial 1, 3) := by decide +kernel
theorem dX22_init_4 : decode cX22_init 4 = .ok (.return_, 1) := by decide +kernel
theorem q137 : (Jvm.Cond.initialized "EightLegs$Row") ∈ lw_all := lw_g (lw_at lw_m1 38 rfl) rfl
theorem q1388 : (Jvm.Cond.instanceMethod ({ cls := "EightLegs$Row", name := "<init>", desc := "()V" } : Jvm.MethodName)) ∈ lw_all := lw_g (lw_at lw_m6 89 rfl) rfl
theorem q1389 : (Jvm.Cond.code ({ cls := "EightLegs$Row", name := "<init>", desc := "()V" } : Jvm.MethodName) prog_23_method_1_code (1 : Nat) (Option.none : Option Jvm.ClassFile.FieldType)) ∈ lw_all := lw_g (lw_at lw_m6 90 rfl) rfl
theorem q1390 : (Jvm.Cond.methodLinkNest "EightLegs$Row" (1 : Nat) ({ cls := "EightLegs$Held", name := "<init>", desc := "()V" } : Jvm.MethodName) "EightLegs") ∈ lw_tbl := lw_at lw_m6 91 rfl
theorem q1443 : (Jvm.Cond.declares ({ cls := "EightLegs$Row", name := "put", desc := "(IJ)Z" } : Jvm.MethodName)) ∈ lw_tbl := lw_at lw_m6 144 rfl
theorem q1444 : (Jvm.Cond.sameMethod "EightLegs$Row" "EightLegs$Row" "put" "(IJ)Z") ∈ lw_all := lw_g (lw_at lw_m6 145 rfl) rfl
theorem q1466 : (Jvm.Cond.declares ({ cls := "EightLegs$Row", name := "at", desc := "(I)J" } : Jvm.MethodName)) ∈ lw_tbl := lw_at lw_m6 167 rfl
theorem q1467 : (Jvm.Cond.sameMethod "EightLegs$Row" "EightLegs$Row" "at" "(I)J") ∈ lw_all := lw_g (lw_at lw_m6 168 rfl) rfl
theorem q1484 : (Jvm.Cond.declares ({ cls := "EightLegs$Row", name := "copy", desc := "(ILEightLegs$Row;II)V" } : Jvm.MethodName)) ∈ lw_tbl := lw_at lw_m6 185 rfl
theorem q1485 : (Jvm.Cond.sameMethod "EightLegs$Row" "EightLegs$Row" "copy" "(ILEightLegs$Row;II)V") ∈ lw_all := lw_g (lw_at lw_m6 186 rfl) rfl

/-! EightLegs$ByteRow -/
set_option maxRecDepth 100000
def RX23 : String := "EightLegs$ByteRow"
def TX23 : u_T := fun k => match k with
  | _ => ("EightLegs$ByteRow", "items", "[B", true)
def tyX23 : Nat → FieldType := fun k => match k with
  | _ => .array .byte
abbrev wsX230 : List Cond := u_ws RX23 TX23 1
theorem nmX23 : ∀ a, a < 1 → ∀ b, b < 1 → a ≠ b → (TX23 a).2.1 ≠ (TX23 b).2.1 := by decide +kernel
theorem tyX23_ok : ∀ k, k < 1 → parseFieldDescriptor (TX23 k).2.2.1 = some (tyX23 k) := by decide +kernel
abbrev cX23_at : ByteArray := prog_5_method_4_code
def yX23_at : MethodName := ⟨RX23, "at", "(I)J"⟩
def dkwX23_at_0 : List UInt8 := [42, 180, 0, 7, 27, 51, 133, 173]
abbrev dktX23_at_0 : List UInt8 := dkwX23_at_0 ++ []
theorem dksX23_at_0 : cX23_at.data.toList.drop 0 = dktX23_at_0 := by decide +kernel
theorem dX23_at_0 : decode cX23_at 0 = .ok (.aload_n 0, 1) := dk_42 (dk_at dksX23_at_0 0 rfl rfl)
theorem dX23_at_1 : decode cX23_at 1 = .ok (.getfield 7, 3) := dk_180 0 7 (dk_at dksX23_at_0 1 rfl rfl)
theorem dX23_at_4 : decode cX23_at 4 = .ok (.iload_n 1, 1) := dk_27 (dk_at dksX23_at_0 4 rfl rfl)
theorem dX23_at_5 : decode cX23_at 5 = .ok (.baload, 1) := dk_51 (dk_at dksX23_at_0 5 rfl rfl)
theorem dX23_at_6 : decode cX23_at 6 = .ok (.i2l, 1) := dk_133 (dk_at dksX23_at_0 6 rfl rfl)
theorem dX23_at_7 : decode cX23_at 7 = .ok (.lreturn, 1) := dk_173 (dk_at dksX23_at_0 7 rfl rfl)
abbrev cX23_size : ByteArray := prog_5_method_3_code
def yX23_size : MethodName := ⟨RX23, "size", "()I"⟩
def dkwX23_size_0 : List UInt8 := [42, 180, 0, 7, 190, 172]
abbrev dktX23_size_0 : List UInt8 := dkwX23_size_0 ++ []
theorem dksX23_size_0 : cX23_size.data.toList.drop 0 = dktX23_size_0 := by decide +kernel
theorem dX23_size_0 : decode cX23_size 0 = .ok (.aload_n 0, 1) := dk_42 (dk_at dksX23_size_0 0 rfl rfl)
theorem dX23_size_1 : decode cX23_size 1 = .ok (.getfield 7, 3) := dk_180 0 7 (dk_at dksX23_size_0 1 rfl rfl)
theorem dX23_size_4 : decode cX23_size 4 = .ok (.arraylength, 1) := dk_190 (dk_at dksX23_size_0 4 rfl rfl)
theorem dX23_size_5 : decode cX23_size 5 = .ok (.ireturn, 1) := dk_172 (dk_at dksX23_size_0 5 rfl rfl)
abbrev cX23_init : ByteArray := prog_5_method_1_code
def yX23_init : MethodName := ⟨RX23, "<init>", "(I)V"⟩
def dkwX23_init_0 : List UInt8 := [42, 183, 0, 1, 42, 27, 188, 8, 181, 0, 7, 177]
abbrev dktX23_init_0 : List UInt8 := dkwX23_init_0 ++ []
theorem dksX23_init_0 : cX23_init.data.toList.drop 0 = dktX23_init_0 := by decide +kernel
theorem dX23_init_0 : decode cX23_init 0 = .ok (.aload_n 0, 1) := dk_42 (dk_at dksX23_init_0 0 rfl rfl)
theorem dX23_init_1 : decode cX23_init 1 = .ok (.invokespecial 1, 3) := dk_183 0 1 (dk_at dksX23_init_0 1 rfl rfl)
theorem dX23_init_4 : decode cX23_init 4 = .ok (.aload_n 0, 1) := dk_42 (dk_at dksX23_init_0 4 rfl rfl)
theorem dX23_init_5 : decode cX23_init 5 = .ok (.iload_n 1, 1) := dk_27 (dk_at dksX23_init_0 5 rfl rfl)
theorem dX23_init_6 : decode cX23_init 6 = .ok (.newarray .byte, 2) := dk_188_8 (dk_at dksX23_init_0 6 rfl rfl)
theorem dX23_init_8 : decode cX23_init 8 = .ok (.putfield 7, 3) := dk_181 0 7 (dk_at dksX23_init_0 8 rfl rfl)
theorem dX23_init_11 : decode cX23_init 11 = .ok (.return_, 1) := dk_177 (dk_at dksX23_init_0 11 rfl rfl)
abbrev cX23_put : ByteArray := prog_5_method_5_code
def yX23_put : MethodName := ⟨RX23, "put", "(IJ)Z"⟩
def dkwX23_put_0 : List UInt8 := [42, 180, 0, 7, 27, 32, 136, 145, 84, 4, 172]
abbrev dktX23_put_0 : List UInt8 := dkwX23_put_0 ++ []
theorem dksX23_put_0 : cX23_put.data.toList.drop 0 = dktX23_put_0 := by decide +kernel
theorem dX23_put_0 : decode cX23_put 0 = .ok (.aload_n 0, 1) := dk_42 (dk_at dksX23_put_0 0 rfl rfl)
theorem dX23_put_1 : decode cX23_put 1 = .ok (.getfield 7, 3) := dk_180 0 7 (dk_at dksX23_put_0 1 rfl rfl)
theorem dX23_put_4 : decode cX23_put 4 = .ok (.iload_n 1, 1) := dk_27 (dk_at dksX23_put_0 4 rfl rfl)
theorem dX23_put_5 : decode cX23_put 5 = .ok (.lload_n 2, 1) := dk_32 (dk_at dksX23_put_0 5 rfl rfl)
theorem dX23_put_6 : decode cX23_put 6 = .ok (.l2i, 1) := dk_136 (dk_at dksX23_put_0 6 rfl rfl)
theorem dX23_put_7 : decode cX23_put 7 = .ok (.i2b, 1) := dk_145 (dk_at dksX23_put_0 7 rfl rfl)
theorem dX23_put_8 : decode cX23_put 8 = .ok (.bastore, 1) := dk_84 (dk_at dksX23_put_0 8 rfl rfl)
theorem dX23_put_9 : decode cX23_put 9 = .ok (.iconst 1, 1) := dk_4 (dk_at dksX23_put_0 9 rfl rfl)
theorem dX23_put_10 : decode cX23_put 10 = .ok (.ireturn, 1) := dk_172 (dk_at dksX23_put_0 10 rfl rfl)
abbrev cX23_copy : ByteArray := prog_5_method_6_code
def yX23_copy : MethodName := ⟨RX23, "copy", "(ILEightLegs$Row;II)V"⟩
def dkwX23_copy_0 : List UInt8 := [42, 180, 0, 7, 27, 44, 192, 0, 8, 180, 0, 7, 29, 21, 4, 184, 0, 13, 177]
abbrev dktX23_copy_0 : List UInt8 := dkwX23_copy_0 ++ []
theorem dksX23_copy_0 : cX23_copy.data.toList.drop 0 = dktX23_copy_0 := by decide +kernel
theorem dX23_copy_0 : decode cX23_copy 0 = .ok (.aload_n 0, 1) := dk_42 (dk_at dksX23_copy_0 0 rfl rfl)
theorem dX23_copy_1 : decode cX23_copy 1 = .ok (.getfield 7, 3) := dk_180 0 7 (dk_at dksX23_copy_0 1 rfl rfl)
theorem dX23_copy_4 : decode cX23_copy 4 = .ok (.iload_n 1, 1) := dk_27 (dk_at dksX23_copy_0 4 rfl rfl)
theorem dX23_copy_5 : decode cX23_copy 5 = .ok (.aload_n 2, 1) := dk_44 (dk_at dksX23_copy_0 5 rfl rfl)
theorem dX23_copy_6 : decode cX23_copy 6 = .ok (.checkcast 8, 3) := dk_192 0 8 (dk_at dksX23_copy_0 6 rfl rfl)
theorem dX23_copy_9 : decode cX23_copy 9 = .ok (.getfield 7, 3) := dk_180 0 7 (dk_at dksX23_copy_0 9 rfl rfl)
theorem dX23_copy_12 : decode cX23_copy 12 = .ok (.iload_n 3, 1) := dk_29 (dk_at dksX23_copy_0 12 rfl rfl)
theorem dX23_copy_13 : decode cX23_copy 13 = .ok (.iload 4, 2) := dk_21 4 (dk_at dksX23_copy_0 13 rfl rfl)
theorem dX23_copy_15 : decode cX23_copy 15 = .ok (.invokestatic 13, 3) := dk_184 0 13 (dk_at dksX23_copy_0 15 rfl rfl)
theorem dX23_copy_18 : decode cX23_copy 18 = .ok (.return_, 1) := dk_177 (dk_at dksX23_copy_0 18 rfl rfl)
theorem q138 : (Jvm.Cond.initialized "EightLegs$ByteRow") ∈ lw_all := lw_g (lw_at lw_m1 39 rfl) rfl
theorem q494 : (Jvm.Cond.instanceMethod ({ cls := "EightLegs$ByteRow", name := "at", desc := "(I)J" } : Jvm.MethodName)) ∈ lw_all := lw_g (lw_at lw_m2 155 rfl) rfl
theorem q495 : (Jvm.Cond.selects "EightLegs$ByteRow" ({ cls := "EightLegs$ByteRow", name := "at", desc := "(I)J" } : Jvm.MethodName) ({ cls := "EightLegs$ByteRow", name := "at", desc := "(I)J" } : Jvm.MethodName)) ∈ lw_all := lw_g (lw_at lw_m2 156 rfl) rfl
theorem q496 : (Jvm.Cond.code ({ cls := "EightLegs$ByteRow", name := "at", desc := "(I)J" } : Jvm.MethodName) prog_5_method_4_code (2 : Nat) (Option.some Jvm.ClassFile.FieldType.long)) ∈ lw_all := lw_g (lw_at lw_m2 157 rfl) rfl
theorem q867 : (Jvm.Cond.instanceMethod ({ cls := "EightLegs$ByteRow", name := "size", desc := "()I" } : Jvm.MethodName)) ∈ lw_all := lw_g (lw_at lw_m4 48 rfl) rfl
theorem q868 : (Jvm.Cond.selects "EightLegs$ByteRow" ({ cls := "EightLegs$ByteRow", name := "size", desc := "()I" } : Jvm.MethodName) ({ cls := "EightLegs$ByteRow", name := "size", desc := "()I" } : Jvm.MethodName)) ∈ lw_all := lw_g (lw_at lw_m4 49 rfl) rfl
theorem q869 : (Jvm.Cond.code ({ cls := "EightLegs$ByteRow", name := "size", desc := "()I" } : Jvm.MethodName) prog_5_method_3_code (1 : Nat) (Option.some Jvm.ClassFile.FieldType.int)) ∈ lw_all := lw_g (lw_at lw_m4 50 rfl) rfl
theorem q1383 : (Jvm.Cond.instantiable "EightLegs$ByteRow" (1 : Nat)) ∈ lw_all := lw_g (lw_at lw_m6 84 rfl) rfl
theorem q1385 : (Jvm.Cond.instanceMethod ({ cls := "EightLegs$ByteRow", name := "<init>", desc := "(I)V" } : Jvm.MethodName)) ∈ lw_all := lw_g (lw_at lw_m6 86 rfl) rfl
theorem q1386 : (Jvm.Cond.code ({ cls := "EightLegs$ByteRow", name := "<init>", desc := "(I)V" } : Jvm.MethodName) prog_5_method_1_code (2 : Nat) (Option.none : Option Jvm.ClassFile.FieldType)) ∈ lw_all := lw_g (lw_at lw_m6 87 rfl) rfl
theorem q1387 : (Jvm.Cond.methodLinkNest "EightLegs$ByteRow" (1 : Nat) ({ cls := "EightLegs$Row", name := "<init>", desc := "()V" } : Jvm.MethodName) "EightLegs") ∈ lw_tbl := lw_at lw_m6 88 rfl
theorem q1391 : (Jvm.Cond.fieldLink "EightLegs$ByteRow" (7 : Nat) "EightLegs$ByteRow" "items" "[B") ∈ lw_all := lw_g (lw_at lw_m6 92 rfl) rfl
theorem q1392 : (Jvm.Cond.laysFinal "EightLegs$ByteRow" "EightLegs$ByteRow" "items" "[B") ∈ lw_all := lw_g (lw_at lw_m6 93 rfl) rfl
theorem q1393 : (Jvm.Cond.soleField "EightLegs$ByteRow" "items") ∈ lw_all := lw_g (lw_at lw_m6 94 rfl) rfl
theorem q1394 : (Jvm.Cond.superclass "EightLegs$ByteRow" "EightLegs$Row") ∈ lw_all := lw_g (lw_at lw_m6 95 rfl) rfl
theorem q1448 : (Jvm.Cond.selects "EightLegs$ByteRow" ({ cls := "EightLegs$Row", name := "put", desc := "(IJ)Z" } : Jvm.MethodName) ({ cls := "EightLegs$ByteRow", name := "put", desc := "(IJ)Z" } : Jvm.MethodName)) ∈ lw_all := lw_g (lw_at lw_m6 149 rfl) rfl
theorem q1449 : (Jvm.Cond.instanceMethod ({ cls := "EightLegs$ByteRow", name := "put", desc := "(IJ)Z" } : Jvm.MethodName)) ∈ lw_all := lw_g (lw_at lw_m6 150 rfl) rfl
theorem q1450 : (Jvm.Cond.code ({ cls := "EightLegs$ByteRow", name := "put", desc := "(IJ)Z" } : Jvm.MethodName) prog_5_method_5_code (4 : Nat) (Option.some Jvm.ClassFile.FieldType.boolean)) ∈ lw_all := lw_g (lw_at lw_m6 151 rfl) rfl
theorem q1471 : (Jvm.Cond.selects "EightLegs$ByteRow" ({ cls := "EightLegs$Row", name := "at", desc := "(I)J" } : Jvm.MethodName) ({ cls := "EightLegs$ByteRow", name := "at", desc := "(I)J" } : Jvm.MethodName)) ∈ lw_all := lw_g (lw_at lw_m6 172 rfl) rfl
theorem q1493 : (Jvm.Cond.selects "EightLegs$ByteRow" ({ cls := "EightLegs$Row", name := "copy", desc := "(ILEightLegs$Row;II)V" } : Jvm.MethodName) ({ cls := "EightLegs$ByteRow", name := "copy", desc := "(ILEightLegs$Row;II)V" } : Jvm.MethodName)) ∈ lw_all := lw_g (lw_at lw_m6 194 rfl) rfl
theorem q1494 : (Jvm.Cond.instanceMethod ({ cls := "EightLegs$ByteRow", name := "copy", desc := "(ILEightLegs$Row;II)V" } : Jvm.MethodName)) ∈ lw_all := lw_g (lw_at lw_m6 195 rfl) rfl
theorem q1495 : (Jvm.Cond.code ({ cls := "EightLegs$ByteRow", name := "copy", desc := "(ILEightLegs$Row;II)V" } : Jvm.MethodName) prog_5_method_6_code (5 : Nat) (Option.none : Option Jvm.ClassFile.FieldType)) ∈ lw_all := lw_g (lw_at lw_m6 196 rfl) rfl
theorem q1496 : (Jvm.Cond.classLink "EightLegs$ByteRow" (8 : Nat) "EightLegs$ByteRow") ∈ lw_all := lw_g (lw_at lw_m6 197 rfl) rfl
theorem q1497 : (Jvm.Cond.methodLink "EightLegs$ByteRow" (13 : Nat) ({ cls := "java/lang/System", name := "arraycopy", desc := "(Ljava/lang/Object;ILjava/lang/Object;II)V" } : Jvm.MethodName)) ∈ lw_all := lw_g (lw_at lw_m6 198 rfl) rfl
theorem q2162 : (Jvm.Cond.castable "EightLegs$ByteRow" "EightLegs$Row") ∈ lw_tbl := lw_at lw_m9 143 rfl
theorem q2181 : (Jvm.Cond.castable "EightLegs$ByteRow" "EightLegs$Held") ∈ lw_tbl := lw_at lw_m9 162 rfl
theorem in_X23 : ∀ w ∈ wsX230, w ∈ lw_all := lw_in wsX230 [1392] (by decide +kernel) (by decide +kernel)

/-! EightLegs$ShortRow -/
set_option maxRecDepth 100000
def RX24 : String := "EightLegs$ShortRow"
def TX24 : u_T := fun k => match k with
  | _ => ("EightLegs$ShortRow", "items", "[S", true)
def tyX24 : Nat → FieldType := fun k => match k with
  | _ => .array .short
abbrev wsX240 : List Cond := u_ws RX24 TX24 1
theorem nmX24 : ∀ a, a < 1 → ∀ b, b < 1 → a ≠ b → (TX24 a).2.1 ≠ (TX24 b).2.1 := by decide +kernel
theorem tyX24_ok : ∀ k, k < 1 → parseFieldDescriptor (TX24 k).2.2.1 = some (tyX24 k) := by decide +kernel
abbrev cX24_size : ByteArray := prog_24_method_3_code
def yX24_size : MethodName := ⟨RX24, "size", "()I"⟩
def dkwX24_size_0 : List UInt8 := [42, 180, 0, 7, 190, 172]
abbrev dktX24_size_0 : List UInt8 := dkwX24_size_0 ++ []
theorem dksX24_size_0 : cX24_size.data.toList.drop 0 = dktX24_size_0 := by decide +kernel
theorem dX24_size_0 : decode cX24_size 0 = .ok (.aload_n 0, 1) := dk_42 (dk_at dksX24_size_0 0 rfl rfl)
theorem dX24_size_1 : decode cX24_size 1 = .ok (.getfield 7, 3) := dk_180 0 7 (dk_at dksX24_size_0 1 rfl rfl)
theorem dX24_size_4 : decode cX24_size 4 = .ok (.arraylength, 1) := dk_190 (dk_at dksX24_size_0 4 rfl rfl)
theorem dX24_size_5 : decode cX24_size 5 = .ok (.ireturn, 1) := dk_172 (dk_at dksX24_size_0 5 rfl rfl)
abbrev cX24_at : ByteArray := prog_24_method_4_code
def yX24_at : MethodName := ⟨RX24, "at", "(I)J"⟩
def dkwX24_at_0 : List UInt8 := [42, 180, 0, 7, 27, 53, 133, 173]
abbrev dktX24_at_0 : List UInt8 := dkwX24_at_0 ++ []
theorem dksX24_at_0 : cX24_at.data.toList.drop 0 = dktX24_at_0 := by decide +kernel
theorem dX24_at_0 : decode cX24_at 0 = .ok (.aload_n 0, 1) := dk_42 (dk_at dksX24_at_0 0 rfl rfl)
theorem dX24_at_1 : decode cX24_at 1 = .ok (.getfield 7, 3) := dk_180 0 7 (dk_at dksX24_at_0 1 rfl rfl)
theorem dX24_at_4 : decode cX24_at 4 = .ok (.iload_n 1, 1) := dk_27 (dk_at dksX24_at_0 4 rfl rfl)
theorem dX24_at_5 : decode cX24_at 5 = .ok (.saload, 1) := dk_53 (dk_at dksX24_at_0 5 rfl rfl)
theorem dX24_at_6 : decode cX24_at 6 = .ok (.i2l, 1) := dk_133 (dk_at dksX24_at_0 6 rfl rfl)
theorem dX24_at_7 : decode cX24_at 7 = .ok (.lreturn, 1) := dk_173 (dk_at dksX24_at_0 7 rfl rfl)
abbrev cX24_init : ByteArray := prog_24_method_1_code
def yX24_init : MethodName := ⟨RX24, "<init>", "(I)V"⟩
def dkwX24_init_0 : List UInt8 := [42, 183, 0, 1, 42, 27, 188, 9, 181, 0, 7, 177]
abbrev dktX24_init_0 : List UInt8 := dkwX24_init_0 ++ []
theorem dksX24_init_0 : cX24_init.data.toList.drop 0 = dktX24_init_0 := by decide +kernel
theorem dX24_init_0 : decode cX24_init 0 = .ok (.aload_n 0, 1) := dk_42 (dk_at dksX24_init_0 0 rfl rfl)
theorem dX24_init_1 : decode cX24_init 1 = .ok (.invokespecial 1, 3) := dk_183 0 1 (dk_at dksX24_init_0 1 rfl rfl)
theorem dX24_init_4 : decode cX24_init 4 = .ok (.aload_n 0, 1) := dk_42 (dk_at dksX24_init_0 4 rfl rfl)
theorem dX24_init_5 : decode cX24_init 5 = .ok (.iload_n 1, 1) := dk_27 (dk_at dksX24_init_0 5 rfl rfl)
theorem dX24_init_6 : decode cX24_init 6 = .ok (.newarray .short, 2) := dk_188_9 (dk_at dksX24_init_0 6 rfl rfl)
theorem dX24_init_8 : decode cX24_init 8 = .ok (.putfield 7, 3) := dk_181 0 7 (dk_at dksX24_init_0 8 rfl rfl)
theorem dX24_init_11 : decode cX24_init 11 = .ok (.return_, 1) := dk_177 (dk_at dksX24_init_0 11 rfl rfl)
abbrev cX24_put : ByteArray := prog_24_method_5_code
def yX24_put : MethodName := ⟨RX24, "put", "(IJ)Z"⟩
def dkwX24_put_0 : List UInt8 := [42, 180, 0, 7, 27, 32, 136, 147, 86, 4, 172]
abbrev dktX24_put_0 : List UInt8 := dkwX24_put_0 ++ []
theorem dksX24_put_0 : cX24_put.data.toList.drop 0 = dktX24_put_0 := by decide +kernel
theorem dX24_put_0 : decode cX24_put 0 = .ok (.aload_n 0, 1) := dk_42 (dk_at dksX24_put_0 0 rfl rfl)
theorem dX24_put_1 : decode cX24_put 1 = .ok (.getfield 7, 3) := dk_180 0 7 (dk_at dksX24_put_0 1 rfl rfl)
theorem dX24_put_4 : decode cX24_put 4 = .ok (.iload_n 1, 1) := dk_27 (dk_at dksX24_put_0 4 rfl rfl)
theorem dX24_put_5 : decode cX24_put 5 = .ok (.lload_n 2, 1) := dk_32 (dk_at dksX24_put_0 5 rfl rfl)
theorem dX24_put_6 : decode cX24_put 6 = .ok (.l2i, 1) := dk_136 (dk_at dksX24_put_0 6 rfl rfl)
theorem dX24_put_7 : decode cX24_put 7 = .ok (.i2s, 1) := dk_147 (dk_at dksX24_put_0 7 rfl rfl)
theorem dX24_put_8 : decode cX24_put 8 = .ok (.sastore, 1) := dk_86 (dk_at dksX24_put_0 8 rfl rfl)
theorem dX24_put_9 : decode cX24_put 9 = .ok (.iconst 1, 1) := dk_4 (dk_at dksX24_put_0 9 rfl rfl)
theorem dX24_put_10 : decode cX24_put 10 = .ok (.ireturn, 1) := dk_172 (dk_at dksX24_put_0 10 rfl rfl)
abbrev cX24_copy : ByteArray := prog_24_method_6_code
def yX24_copy : MethodName := ⟨RX24, "copy", "(ILEightLegs$Row;II)V"⟩
def dkwX24_copy_0 : List UInt8 := [42, 180, 0, 7, 27, 44, 192, 0, 8, 180, 0, 7, 29, 21, 4, 184, 0, 13, 177]
abbrev dktX24_copy_0 : List UInt8 := dkwX24_copy_0 ++ []
theorem dksX24_copy_0 : cX24_copy.data.toList.drop 0 = dktX24_copy_0 := by decide +kernel
theorem dX24_copy_0 : decode cX24_copy 0 = .ok (.aload_n 0, 1) := dk_42 (dk_at dksX24_copy_0 0 rfl rfl)
theorem dX24_copy_1 : decode cX24_copy 1 = .ok (.getfield 7, 3) := dk_180 0 7 (dk_at dksX24_copy_0 1 rfl rfl)
theorem dX24_copy_4 : decode cX24_copy 4 = .ok (.iload_n 1, 1) := dk_27 (dk_at dksX24_copy_0 4 rfl rfl)
theorem dX24_copy_5 : decode cX24_copy 5 = .ok (.aload_n 2, 1) := dk_44 (dk_at dksX24_copy_0 5 rfl rfl)
theorem dX24_copy_6 : decode cX24_copy 6 = .ok (.checkcast 8, 3) := dk_192 0 8 (dk_at dksX24_copy_0 6 rfl rfl)
theorem dX24_copy_9 : decode cX24_copy 9 = .ok (.getfield 7, 3) := dk_180 0 7 (dk_at dksX24_copy_0 9 rfl rfl)
theorem dX24_copy_12 : decode cX24_copy 12 = .ok (.iload_n 3, 1) := dk_29 (dk_at dksX24_copy_0 12 rfl rfl)
theorem dX24_copy_13 : decode cX24_copy 13 = .ok (.iload 4, 2) := dk_21 4 (dk_at dksX24_copy_0 13 rfl rfl)
theorem dX24_copy_15 : decode cX24_copy 15 = .ok (.invokestatic 13, 3) := dk_184 0 13 (dk_at dksX24_copy_0 15 rfl rfl)
theorem dX24_copy_18 : decode cX24_copy 18 = .ok (.return_, 1) := dk_177 (dk_at dksX24_copy_0 18 rfl rfl)
theorem q139 : (Jvm.Cond.initialized "EightLegs$ShortRow") ∈ lw_all := lw_g (lw_at lw_m1 40 rfl) rfl
theorem q1046 : (Jvm.Cond.instanceMethod ({ cls := "EightLegs$ShortRow", name := "size", desc := "()I" } : Jvm.MethodName)) ∈ lw_all := lw_g (lw_at lw_m4 227 rfl) rfl
theorem q1047 : (Jvm.Cond.selects "EightLegs$ShortRow" ({ cls := "EightLegs$ShortRow", name := "size", desc := "()I" } : Jvm.MethodName) ({ cls := "EightLegs$ShortRow", name := "size", desc := "()I" } : Jvm.MethodName)) ∈ lw_all := lw_g (lw_at lw_m4 228 rfl) rfl
theorem q1048 : (Jvm.Cond.code ({ cls := "EightLegs$ShortRow", name := "size", desc := "()I" } : Jvm.MethodName) prog_24_method_3_code (1 : Nat) (Option.some Jvm.ClassFile.FieldType.int)) ∈ lw_all := lw_g (lw_at lw_m4 229 rfl) rfl
theorem q1050 : (Jvm.Cond.instanceMethod ({ cls := "EightLegs$ShortRow", name := "at", desc := "(I)J" } : Jvm.MethodName)) ∈ lw_all := lw_g (lw_at lw_m4 231 rfl) rfl
theorem q1051 : (Jvm.Cond.selects "EightLegs$ShortRow" ({ cls := "EightLegs$ShortRow", name := "at", desc := "(I)J" } : Jvm.MethodName) ({ cls := "EightLegs$ShortRow", name := "at", desc := "(I)J" } : Jvm.MethodName)) ∈ lw_all := lw_g (lw_at lw_m4 232 rfl) rfl
theorem q1052 : (Jvm.Cond.code ({ cls := "EightLegs$ShortRow", name := "at", desc := "(I)J" } : Jvm.MethodName) prog_24_method_4_code (2 : Nat) (Option.some Jvm.ClassFile.FieldType.long)) ∈ lw_all := lw_g (lw_at lw_m4 233 rfl) rfl
theorem q1395 : (Jvm.Cond.instantiable "EightLegs$ShortRow" (1 : Nat)) ∈ lw_all := lw_g (lw_at lw_m6 96 rfl) rfl
theorem q1397 : (Jvm.Cond.instanceMethod ({ cls := "EightLegs$ShortRow", name := "<init>", desc := "(I)V" } : Jvm.MethodName)) ∈ lw_all := lw_g (lw_at lw_m6 98 rfl) rfl
theorem q1398 : (Jvm.Cond.code ({ cls := "EightLegs$ShortRow", name := "<init>", desc := "(I)V" } : Jvm.MethodName) prog_24_method_1_code (2 : Nat) (Option.none : Option Jvm.ClassFile.FieldType)) ∈ lw_all := lw_g (lw_at lw_m6 99 rfl) rfl
theorem q1399 : (Jvm.Cond.methodLinkNest "EightLegs$ShortRow" (1 : Nat) ({ cls := "EightLegs$Row", name := "<init>", desc := "()V" } : Jvm.MethodName) "EightLegs") ∈ lw_tbl := lw_at lw_m6 100 rfl
theorem q1400 : (Jvm.Cond.fieldLink "EightLegs$ShortRow" (7 : Nat) "EightLegs$ShortRow" "items" "[S") ∈ lw_all := lw_g (lw_at lw_m6 101 rfl) rfl
theorem q1401 : (Jvm.Cond.laysFinal "EightLegs$ShortRow" "EightLegs$ShortRow" "items" "[S") ∈ lw_all := lw_g (lw_at lw_m6 102 rfl) rfl
theorem q1402 : (Jvm.Cond.soleField "EightLegs$ShortRow" "items") ∈ lw_all := lw_g (lw_at lw_m6 103 rfl) rfl
theorem q1403 : (Jvm.Cond.superclass "EightLegs$ShortRow" "EightLegs$Row") ∈ lw_all := lw_g (lw_at lw_m6 104 rfl) rfl
theorem q1457 : (Jvm.Cond.selects "EightLegs$ShortRow" ({ cls := "EightLegs$Row", name := "put", desc := "(IJ)Z" } : Jvm.MethodName) ({ cls := "EightLegs$ShortRow", name := "put", desc := "(IJ)Z" } : Jvm.MethodName)) ∈ lw_all := lw_g (lw_at lw_m6 158 rfl) rfl
theorem q1458 : (Jvm.Cond.instanceMethod ({ cls := "EightLegs$ShortRow", name := "put", desc := "(IJ)Z" } : Jvm.MethodName)) ∈ lw_all := lw_g (lw_at lw_m6 159 rfl) rfl
theorem q1459 : (Jvm.Cond.code ({ cls := "EightLegs$ShortRow", name := "put", desc := "(IJ)Z" } : Jvm.MethodName) prog_24_method_5_code (4 : Nat) (Option.some Jvm.ClassFile.FieldType.boolean)) ∈ lw_all := lw_g (lw_at lw_m6 160 rfl) rfl
theorem q1478 : (Jvm.Cond.selects "EightLegs$ShortRow" ({ cls := "EightLegs$Row", name := "at", desc := "(I)J" } : Jvm.MethodName) ({ cls := "EightLegs$ShortRow", name := "at", desc := "(I)J" } : Jvm.MethodName)) ∈ lw_all := lw_g (lw_at lw_m6 179 rfl) rfl
theorem q1508 : (Jvm.Cond.selects "EightLegs$ShortRow" ({ cls := "EightLegs$Row", name := "copy", desc := "(ILEightLegs$Row;II)V" } : Jvm.MethodName) ({ cls := "EightLegs$ShortRow", name := "copy", desc := "(ILEightLegs$Row;II)V" } : Jvm.MethodName)) ∈ lw_all := lw_g (lw_at lw_m6 209 rfl) rfl
theorem q1509 : (Jvm.Cond.instanceMethod ({ cls := "EightLegs$ShortRow", name := "copy", desc := "(ILEightLegs$Row;II)V" } : Jvm.MethodName)) ∈ lw_all := lw_g (lw_at lw_m6 210 rfl) rfl
theorem q1510 : (Jvm.Cond.code ({ cls := "EightLegs$ShortRow", name := "copy", desc := "(ILEightLegs$Row;II)V" } : Jvm.MethodName) prog_24_method_6_code (5 : Nat) (Option.none : Option Jvm.ClassFile.FieldType)) ∈ lw_all := lw_g (lw_at lw_m6 211 rfl) rfl
theorem q1511 : (Jvm.Cond.classLink "EightLegs$ShortRow" (8 : Nat) "EightLegs$ShortRow") ∈ lw_all := lw_g (lw_at lw_m6 212 rfl) rfl
theorem q1512 : (Jvm.Cond.methodLink "EightLegs$ShortRow" (13 : Nat) ({ cls := "java/lang/System", name := "arraycopy", desc := "(Ljava/lang/Object;ILjava/lang/Object;II)V" } : Jvm.MethodName)) ∈ lw_all := lw_g (lw_at lw_m6 213 rfl) rfl
theorem q2165 : (Jvm.Cond.castable "EightLegs$ShortRow" "EightLegs$Row") ∈ lw_tbl := lw_at lw_m9 146 rfl
theorem q2182 : (Jvm.Cond.castable "EightLegs$ShortRow" "EightLegs$Held") ∈ lw_tbl := lw_at lw_m9 163 rfl
theorem in_X24 : ∀ w ∈ wsX240, w ∈ lw_all := lw_in wsX240 [1401] (by decide +kernel) (by decide +kernel)

/-! EightLegs$IntRow -/
set_option maxRecDepth 100000
def RX25 : String := "EightLegs$IntRow"
def TX25 : u_T := fun k => match k with
  | _ => ("EightLegs$IntRow", "items", "[I", true)
def tyX25 : Nat → FieldType := fun k => match k with
  | _ => .array .int
abbrev wsX250 : List Cond := u_ws RX25 TX25 1
theorem nmX25 : ∀ a, a < 1 → ∀ b, b < 1 → a ≠ b → (TX25 a).2.1 ≠ (TX25 b).2.1 := by decide +kernel
theorem tyX25_ok : ∀ k, k < 1 → parseFieldDescriptor (TX25 k).2.2.1 = some (tyX25 k) := by decide +kernel
abbrev cX25_init : ByteArray := prog_12_method_1_code
def yX25_init : MethodName := ⟨RX25, "<init>", "(I)V"⟩
def dkwX25_init_0 : List UInt8 := [42, 183, 0, 1, 42, 27, 188, 10, 181, 0, 7, 177]
abbrev dktX25_init_0 : List UInt8 := dkwX25_init_0 ++ []
theorem dksX25_init_0 : cX25_init.data.toList.drop 0 = dktX25_init_0 := by decide +kernel
theorem dX25_init_0 : decode cX25_init 0 = .ok (.aload_n 0, 1) := dk_42 (dk_at dksX25_init_0 0 rfl rfl)
theorem dX25_init_1 : decode cX25_init 1 = .ok (.invokespecial 1, 3) := dk_183 0 1 (dk_at dksX25_init_0 1 rfl rfl)
theorem dX25_init_4 : decode cX25_init 4 = .ok (.aload_n 0, 1) := dk_42 (dk_at dksX25_init_0 4 rfl rfl)
theorem dX25_init_5 : decode cX25_init 5 = .ok (.iload_n 1, 1) := dk_27 (dk_at dksX25_init_0 5 rfl rfl)
theorem dX25_init_6 : decode cX25_init 6 = .ok (.newarray .int, 2) := dk_188_10 (dk_at dksX25_init_0 6 rfl rfl)
theorem dX25_init_8 : decode cX25_init 8 = .ok (.putfield 7, 3) := dk_181 0 7 (dk_at dksX25_init_0 8 rfl rfl)
theorem dX25_init_11 : decode cX25_init 11 = .ok (.return_, 1) := dk_177 (dk_at dksX25_init_0 11 rfl rfl)
abbrev cX25_put : ByteArray := prog_12_method_5_code
def yX25_put : MethodName := ⟨RX25, "put", "(IJ)Z"⟩
def dkwX25_put_0 : List UInt8 := [42, 180, 0, 7, 27, 32, 136, 79, 4, 172]
abbrev dktX25_put_0 : List UInt8 := dkwX25_put_0 ++ []
theorem dksX25_put_0 : cX25_put.data.toList.drop 0 = dktX25_put_0 := by decide +kernel
theorem dX25_put_0 : decode cX25_put 0 = .ok (.aload_n 0, 1) := dk_42 (dk_at dksX25_put_0 0 rfl rfl)
theorem dX25_put_1 : decode cX25_put 1 = .ok (.getfield 7, 3) := dk_180 0 7 (dk_at dksX25_put_0 1 rfl rfl)
theorem dX25_put_4 : decode cX25_put 4 = .ok (.iload_n 1, 1) := dk_27 (dk_at dksX25_put_0 4 rfl rfl)
theorem dX25_put_5 : decode cX25_put 5 = .ok (.lload_n 2, 1) := dk_32 (dk_at dksX25_put_0 5 rfl rfl)
theorem dX25_put_6 : decode cX25_put 6 = .ok (.l2i, 1) := dk_136 (dk_at dksX25_put_0 6 rfl rfl)
theorem dX25_put_7 : decode cX25_put 7 = .ok (.iastore, 1) := dk_79 (dk_at dksX25_put_0 7 rfl rfl)
theorem dX25_put_8 : decode cX25_put 8 = .ok (.iconst 1, 1) := dk_4 (dk_at dksX25_put_0 8 rfl rfl)
theorem dX25_put_9 : decode cX25_put 9 = .ok (.ireturn, 1) := dk_172 (dk_at dksX25_put_0 9 rfl rfl)
abbrev cX25_at : ByteArray := prog_12_method_4_code
def yX25_at : MethodName := ⟨RX25, "at", "(I)J"⟩
def dkwX25_at_0 : List UInt8 := [42, 180, 0, 7, 27, 46, 133, 173]
abbrev dktX25_at_0 : List UInt8 := dkwX25_at_0 ++ []
theorem dksX25_at_0 : cX25_at.data.toList.drop 0 = dktX25_at_0 := by decide +kernel
theorem dX25_at_0 : decode cX25_at 0 = .ok (.aload_n 0, 1) := dk_42 (dk_at dksX25_at_0 0 rfl rfl)
theorem dX25_at_1 : decode cX25_at 1 = .ok (.getfield 7, 3) := dk_180 0 7 (dk_at dksX25_at_0 1 rfl rfl)
theorem dX25_at_4 : decode cX25_at 4 = .ok (.iload_n 1, 1) := dk_27 (dk_at dksX25_at_0 4 rfl rfl)
theorem dX25_at_5 : decode cX25_at 5 = .ok (.iaload, 1) := dk_46 (dk_at dksX25_at_0 5 rfl rfl)
theorem dX25_at_6 : decode cX25_at 6 = .ok (.i2l, 1) := dk_133 (dk_at dksX25_at_0 6 rfl rfl)
theorem dX25_at_7 : decode cX25_at 7 = .ok (.lreturn, 1) := dk_173 (dk_at dksX25_at_0 7 rfl rfl)
abbrev cX25_copy : ByteArray := prog_12_method_6_code
def yX25_copy : MethodName := ⟨RX25, "copy", "(ILEightLegs$Row;II)V"⟩
def dkwX25_copy_0 : List UInt8 := [42, 180, 0, 7, 27, 44, 192, 0, 8, 180, 0, 7, 29, 21, 4, 184, 0, 13, 177]
abbrev dktX25_copy_0 : List UInt8 := dkwX25_copy_0 ++ []
theorem dksX25_copy_0 : cX25_copy.data.toList.drop 0 = dktX25_copy_0 := by decide +kernel
theorem dX25_copy_0 : decode cX25_copy 0 = .ok (.aload_n 0, 1) := dk_42 (dk_at dksX25_copy_0 0 rfl rfl)
theorem dX25_copy_1 : decode cX25_copy 1 = .ok (.getfield 7, 3) := dk_180 0 7 (dk_at dksX25_copy_0 1 rfl rfl)
theorem dX25_copy_4 : decode cX25_copy 4 = .ok (.iload_n 1, 1) := dk_27 (dk_at dksX25_copy_0 4 rfl rfl)
theorem dX25_copy_5 : decode cX25_copy 5 = .ok (.aload_n 2, 1) := dk_44 (dk_at dksX25_copy_0 5 rfl rfl)
theorem dX25_copy_6 : decode cX25_copy 6 = .ok (.checkcast 8, 3) := dk_192 0 8 (dk_at dksX25_copy_0 6 rfl rfl)
theorem dX25_copy_9 : decode cX25_copy 9 = .ok (.getfield 7, 3) := dk_180 0 7 (dk_at dksX25_copy_0 9 rfl rfl)
theorem dX25_copy_12 : decode cX25_copy 12 = .ok (.iload_n 3, 1) := dk_29 (dk_at dksX25_copy_0 12 rfl rfl)
theorem dX25_copy_13 : decode cX25_copy 13 = .ok (.iload 4, 2) := dk_21 4 (dk_at dksX25_copy_0 13 rfl rfl)
theorem dX25_copy_15 : decode cX25_copy 15 = .ok (.invokestatic 13, 3) := dk_184 0 13 (dk_at dksX25_copy_0 15 rfl rfl)
theorem dX25_copy_18 : decode cX25_copy 18 = .ok (.return_, 1) := dk_177 (dk_at dksX25_copy_0 18 rfl rfl)
theorem q140 : (Jvm.Cond.initialized "EightLegs$IntRow") ∈ lw_all := lw_g (lw_at lw_m1 41 rfl) rfl
theorem q1406 : (Jvm.Cond.instantiable "EightLegs$IntRow" (1 : Nat)) ∈ lw_all := lw_g (lw_at lw_m6 107 rfl) rfl
theorem q1408 : (Jvm.Cond.instanceMethod ({ cls := "EightLegs$IntRow", name := "<init>", desc := "(I)V" } : Jvm.MethodName)) ∈ lw_all := lw_g (lw_at lw_m6 109 rfl) rfl
theorem q1409 : (Jvm.Cond.code ({ cls := "EightLegs$IntRow", name := "<init>", desc := "(I)V" } : Jvm.MethodName) prog_12_method_1_code (2 : Nat) (Option.none : Option Jvm.ClassFile.FieldType)) ∈ lw_all := lw_g (lw_at lw_m6 110 rfl) rfl
theorem q1410 : (Jvm.Cond.methodLinkNest "EightLegs$IntRow" (1 : Nat) ({ cls := "EightLegs$Row", name := "<init>", desc := "()V" } : Jvm.MethodName) "EightLegs") ∈ lw_tbl := lw_at lw_m6 111 rfl
theorem q1411 : (Jvm.Cond.fieldLink "EightLegs$IntRow" (7 : Nat) "EightLegs$IntRow" "items" "[I") ∈ lw_all := lw_g (lw_at lw_m6 112 rfl) rfl
theorem q1412 : (Jvm.Cond.laysFinal "EightLegs$IntRow" "EightLegs$IntRow" "items" "[I") ∈ lw_all := lw_g (lw_at lw_m6 113 rfl) rfl
theorem q1413 : (Jvm.Cond.soleField "EightLegs$IntRow" "items") ∈ lw_all := lw_g (lw_at lw_m6 114 rfl) rfl
theorem q1414 : (Jvm.Cond.superclass "EightLegs$IntRow" "EightLegs$Row") ∈ lw_all := lw_g (lw_at lw_m6 115 rfl) rfl
theorem q1451 : (Jvm.Cond.selects "EightLegs$IntRow" ({ cls := "EightLegs$Row", name := "put", desc := "(IJ)Z" } : Jvm.MethodName) ({ cls := "EightLegs$IntRow", name := "put", desc := "(IJ)Z" } : Jvm.MethodName)) ∈ lw_all := lw_g (lw_at lw_m6 152 rfl) rfl
theorem q1452 : (Jvm.Cond.instanceMethod ({ cls := "EightLegs$IntRow", name := "put", desc := "(IJ)Z" } : Jvm.MethodName)) ∈ lw_all := lw_g (lw_at lw_m6 153 rfl) rfl
theorem q1453 : (Jvm.Cond.code ({ cls := "EightLegs$IntRow", name := "put", desc := "(IJ)Z" } : Jvm.MethodName) prog_12_method_5_code (4 : Nat) (Option.some Jvm.ClassFile.FieldType.boolean)) ∈ lw_all := lw_g (lw_at lw_m6 154 rfl) rfl
theorem q1472 : (Jvm.Cond.selects "EightLegs$IntRow" ({ cls := "EightLegs$Row", name := "at", desc := "(I)J" } : Jvm.MethodName) ({ cls := "EightLegs$IntRow", name := "at", desc := "(I)J" } : Jvm.MethodName)) ∈ lw_all := lw_g (lw_at lw_m6 173 rfl) rfl
theorem q1473 : (Jvm.Cond.instanceMethod ({ cls := "EightLegs$IntRow", name := "at", desc := "(I)J" } : Jvm.MethodName)) ∈ lw_all := lw_g (lw_at lw_m6 174 rfl) rfl
theorem q1474 : (Jvm.Cond.code ({ cls := "EightLegs$IntRow", name := "at", desc := "(I)J" } : Jvm.MethodName) prog_12_method_4_code (2 : Nat) (Option.some Jvm.ClassFile.FieldType.long)) ∈ lw_all := lw_g (lw_at lw_m6 175 rfl) rfl
theorem q1498 : (Jvm.Cond.selects "EightLegs$IntRow" ({ cls := "EightLegs$Row", name := "copy", desc := "(ILEightLegs$Row;II)V" } : Jvm.MethodName) ({ cls := "EightLegs$IntRow", name := "copy", desc := "(ILEightLegs$Row;II)V" } : Jvm.MethodName)) ∈ lw_all := lw_g (lw_at lw_m6 199 rfl) rfl
theorem q1499 : (Jvm.Cond.instanceMethod ({ cls := "EightLegs$IntRow", name := "copy", desc := "(ILEightLegs$Row;II)V" } : Jvm.MethodName)) ∈ lw_all := lw_g (lw_at lw_m6 200 rfl) rfl
theorem q1500 : (Jvm.Cond.code ({ cls := "EightLegs$IntRow", name := "copy", desc := "(ILEightLegs$Row;II)V" } : Jvm.MethodName) prog_12_method_6_code (5 : Nat) (Option.none : Option Jvm.ClassFile.FieldType)) ∈ lw_all := lw_g (lw_at lw_m6 201 rfl) rfl
theorem q1501 : (Jvm.Cond.classLink "EightLegs$IntRow" (8 : Nat) "EightLegs$IntRow") ∈ lw_all := lw_g (lw_at lw_m6 202 rfl) rfl
theorem q1502 : (Jvm.Cond.methodLink "EightLegs$IntRow" (13 : Nat) ({ cls := "java/lang/System", name := "arraycopy", desc := "(Ljava/lang/Object;ILjava/lang/Object;II)V" } : Jvm.MethodName)) ∈ lw_all := lw_g (lw_at lw_m6 203 rfl) rfl
theorem q2163 : (Jvm.Cond.castable "EightLegs$IntRow" "EightLegs$Row") ∈ lw_tbl := lw_at lw_m9 144 rfl
theorem q2183 : (Jvm.Cond.castable "EightLegs$IntRow" "EightLegs$Held") ∈ lw_tbl := lw_at lw_m9 164 rfl
theorem in_X25 : ∀ w ∈ wsX250, w ∈ lw_all := lw_in wsX250 [1412] (by decide +kernel) (by decide +kernel)

/-! EightLegs$LongRow -/
set_option maxRecDepth 100000
def RX26 : String := "EightLegs$LongRow"
def TX26 : u_T := fun k => match k with
  | _ => ("EightLegs$LongRow", "items", "[J", true)
def tyX26 : Nat → FieldType := fun k => match k with
  | _ => .array .long
abbrev wsX260 : List Cond := u_ws RX26 TX26 1
theorem nmX26 : ∀ a, a < 1 → ∀ b, b < 1 → a ≠ b → (TX26 a).2.1 ≠ (TX26 b).2.1 := by decide +kernel
theorem tyX26_ok : ∀ k, k < 1 → parseFieldDescriptor (TX26 k).2.2.1 = some (tyX26 k) := by decide +kernel
abbrev cX26_init : ByteArray := prog_18_method_1_code
def yX26_init : MethodName := ⟨RX26, "<init>", "(I)V"⟩
def dkwX26_init_0 : List UInt8 := [42, 183, 0, 1, 42, 27, 188, 11, 181, 0, 7, 177]
abbrev dktX26_init_0 : List UInt8 := dkwX26_init_0 ++ []
theorem dksX26_init_0 : cX26_init.data.toList.drop 0 = dktX26_init_0 := by decide +kernel
theorem dX26_init_0 : decode cX26_init 0 = .ok (.aload_n 0, 1) := dk_42 (dk_at dksX26_init_0 0 rfl rfl)
theorem dX26_init_1 : decode cX26_init 1 = .ok (.invokespecial 1, 3) := dk_183 0 1 (dk_at dksX26_init_0 1 rfl rfl)
theorem dX26_init_4 : decode cX26_init 4 = .ok (.aload_n 0, 1) := dk_42 (dk_at dksX26_init_0 4 rfl rfl)
theorem dX26_init_5 : decode cX26_init 5 = .ok (.iload_n 1, 1) := dk_27 (dk_at dksX26_init_0 5 rfl rfl)
theorem dX26_init_6 : decode cX26_init 6 = .ok (.newarray .long, 2) := dk_188_11 (dk_at dksX26_init_0 6 rfl rfl)
theorem dX26_init_8 : decode cX26_init 8 = .ok (.putfield 7, 3) := dk_181 0 7 (dk_at dksX26_init_0 8 rfl rfl)
theorem dX26_init_11 : decode cX26_init 11 = .ok (.return_, 1) := dk_177 (dk_at dksX26_init_0 11 rfl rfl)
abbrev cX26_put : ByteArray := prog_18_method_5_code
def yX26_put : MethodName := ⟨RX26, "put", "(IJ)Z"⟩
def dkwX26_put_0 : List UInt8 := [42, 180, 0, 7, 27, 32, 80, 4, 172]
abbrev dktX26_put_0 : List UInt8 := dkwX26_put_0 ++ []
theorem dksX26_put_0 : cX26_put.data.toList.drop 0 = dktX26_put_0 := by decide +kernel
theorem dX26_put_0 : decode cX26_put 0 = .ok (.aload_n 0, 1) := dk_42 (dk_at dksX26_put_0 0 rfl rfl)
theorem dX26_put_1 : decode cX26_put 1 = .ok (.getfield 7, 3) := dk_180 0 7 (dk_at dksX26_put_0 1 rfl rfl)
theorem dX26_put_4 : decode cX26_put 4 = .ok (.iload_n 1, 1) := dk_27 (dk_at dksX26_put_0 4 rfl rfl)
theorem dX26_put_5 : decode cX26_put 5 = .ok (.lload_n 2, 1) := dk_32 (dk_at dksX26_put_0 5 rfl rfl)
theorem dX26_put_6 : decode cX26_put 6 = .ok (.lastore, 1) := dk_80 (dk_at dksX26_put_0 6 rfl rfl)
theorem dX26_put_7 : decode cX26_put 7 = .ok (.iconst 1, 1) := dk_4 (dk_at dksX26_put_0 7 rfl rfl)
theorem dX26_put_8 : decode cX26_put 8 = .ok (.ireturn, 1) := dk_172 (dk_at dksX26_put_0 8 rfl rfl)
abbrev cX26_at : ByteArray := prog_18_method_4_code
def yX26_at : MethodName := ⟨RX26, "at", "(I)J"⟩
def dkwX26_at_0 : List UInt8 := [42, 180, 0, 7, 27, 47, 173]
abbrev dktX26_at_0 : List UInt8 := dkwX26_at_0 ++ []
theorem dksX26_at_0 : cX26_at.data.toList.drop 0 = dktX26_at_0 := by decide +kernel
theorem dX26_at_0 : decode cX26_at 0 = .ok (.aload_n 0, 1) := dk_42 (dk_at dksX26_at_0 0 rfl rfl)
theorem dX26_at_1 : decode cX26_at 1 = .ok (.getfield 7, 3) := dk_180 0 7 (dk_at dksX26_at_0 1 rfl rfl)
theorem dX26_at_4 : decode cX26_at 4 = .ok (.iload_n 1, 1) := dk_27 (dk_at dksX26_at_0 4 rfl rfl)
theorem dX26_at_5 : decode cX26_at 5 = .ok (.laload, 1) := dk_47 (dk_at dksX26_at_0 5 rfl rfl)
theorem dX26_at_6 : decode cX26_at 6 = .ok (.lreturn, 1) := dk_173 (dk_at dksX26_at_0 6 rfl rfl)
abbrev cX26_copy : ByteArray := prog_18_method_6_code
def yX26_copy : MethodName := ⟨RX26, "copy", "(ILEightLegs$Row;II)V"⟩
def dkwX26_copy_0 : List UInt8 := [42, 180, 0, 7, 27, 44, 192, 0, 8, 180, 0, 7, 29, 21, 4, 184, 0, 13, 177]
abbrev dktX26_copy_0 : List UInt8 := dkwX26_copy_0 ++ []
theorem dksX26_copy_0 : cX26_copy.data.toList.drop 0 = dktX26_copy_0 := by decide +kernel
theorem dX26_copy_0 : decode cX26_copy 0 = .ok (.aload_n 0, 1) := dk_42 (dk_at dksX26_copy_0 0 rfl rfl)
theorem dX26_copy_1 : decode cX26_copy 1 = .ok (.getfield 7, 3) := dk_180 0 7 (dk_at dksX26_copy_0 1 rfl rfl)
theorem dX26_copy_4 : decode cX26_copy 4 = .ok (.iload_n 1, 1) := dk_27 (dk_at dksX26_copy_0 4 rfl rfl)
theorem dX26_copy_5 : decode cX26_copy 5 = .ok (.aload_n 2, 1) := dk_44 (dk_at dksX26_copy_0 5 rfl rfl)
theorem dX26_copy_6 : decode cX26_copy 6 = .ok (.checkcast 8, 3) := dk_192 0 8 (dk_at dksX26_copy_0 6 rfl rfl)
theorem dX26_copy_9 : decode cX26_copy 9 = .ok (.getfield 7, 3) := dk_180 0 7 (dk_at dksX26_copy_0 9 rfl rfl)
theorem dX26_copy_12 : decode cX26_copy 12 = .ok (.iload_n 3, 1) := dk_29 (dk_at dksX26_copy_0 12 rfl rfl)
theorem dX26_copy_13 : decode cX26_copy 13 = .ok (.iload 4, 2) := dk_21 4 (dk_at dksX26_copy_0 13 rfl rfl)
theorem dX26_copy_15 : decode cX26_copy 15 = .ok (.invokestatic 13, 3) := dk_184 0 13 (dk_at dksX26_copy_0 15 rfl rfl)
theorem dX26_copy_18 : decode cX26_copy 18 = .ok (.return_, 1) := dk_177 (dk_at dksX26_copy_0 18 rfl rfl)
theorem q141 : (Jvm.Cond.initialized "EightLegs$LongRow") ∈ lw_all := lw_g (lw_at lw_m1 42 rfl) rfl
theorem q1416 : (Jvm.Cond.instantiable "EightLegs$LongRow" (1 : Nat)) ∈ lw_all := lw_g (lw_at lw_m6 117 rfl) rfl
theorem q1418 : (Jvm.Cond.instanceMethod ({ cls := "EightLegs$LongRow", name := "<init>", desc := "(I)V" } : Jvm.MethodName)) ∈ lw_all := lw_g (lw_at lw_m6 119 rfl) rfl
theorem q1419 : (Jvm.Cond.code ({ cls := "EightLegs$LongRow", name := "<init>", desc := "(I)V" } : Jvm.MethodName) prog_18_method_1_code (2 : Nat) (Option.none : Option Jvm.ClassFile.FieldType)) ∈ lw_all := lw_g (lw_at lw_m6 120 rfl) rfl
theorem q1420 : (Jvm.Cond.methodLinkNest "EightLegs$LongRow" (1 : Nat) ({ cls := "EightLegs$Row", name := "<init>", desc := "()V" } : Jvm.MethodName) "EightLegs") ∈ lw_tbl := lw_at lw_m6 121 rfl
theorem q1421 : (Jvm.Cond.fieldLink "EightLegs$LongRow" (7 : Nat) "EightLegs$LongRow" "items" "[J") ∈ lw_all := lw_g (lw_at lw_m6 122 rfl) rfl
theorem q1422 : (Jvm.Cond.laysFinal "EightLegs$LongRow" "EightLegs$LongRow" "items" "[J") ∈ lw_all := lw_g (lw_at lw_m6 123 rfl) rfl
theorem q1423 : (Jvm.Cond.soleField "EightLegs$LongRow" "items") ∈ lw_all := lw_g (lw_at lw_m6 124 rfl) rfl
theorem q1424 : (Jvm.Cond.superclass "EightLegs$LongRow" "EightLegs$Row") ∈ lw_all := lw_g (lw_at lw_m6 125 rfl) rfl
theorem q1454 : (Jvm.Cond.selects "EightLegs$LongRow" ({ cls := "EightLegs$Row", name := "put", desc := "(IJ)Z" } : Jvm.MethodName) ({ cls := "EightLegs$LongRow", name := "put", desc := "(IJ)Z" } : Jvm.MethodName)) ∈ lw_all := lw_g (lw_at lw_m6 155 rfl) rfl
theorem q1455 : (Jvm.Cond.instanceMethod ({ cls := "EightLegs$LongRow", name := "put", desc := "(IJ)Z" } : Jvm.MethodName)) ∈ lw_all := lw_g (lw_at lw_m6 156 rfl) rfl
theorem q1456 : (Jvm.Cond.code ({ cls := "EightLegs$LongRow", name := "put", desc := "(IJ)Z" } : Jvm.MethodName) prog_18_method_5_code (4 : Nat) (Option.some Jvm.ClassFile.FieldType.boolean)) ∈ lw_all := lw_g (lw_at lw_m6 157 rfl) rfl
theorem q1475 : (Jvm.Cond.selects "EightLegs$LongRow" ({ cls := "EightLegs$Row", name := "at", desc := "(I)J" } : Jvm.MethodName) ({ cls := "EightLegs$LongRow", name := "at", desc := "(I)J" } : Jvm.MethodName)) ∈ lw_all := lw_g (lw_at lw_m6 176 rfl) rfl
theorem q1476 : (Jvm.Cond.instanceMethod ({ cls := "EightLegs$LongRow", name := "at", desc := "(I)J" } : Jvm.MethodName)) ∈ lw_all := lw_g (lw_at lw_m6 177 rfl) rfl
theorem q1477 : (Jvm.Cond.code ({ cls := "EightLegs$LongRow", name := "at", desc := "(I)J" } : Jvm.MethodName) prog_18_method_4_code (2 : Nat) (Option.some Jvm.ClassFile.FieldType.long)) ∈ lw_all := lw_g (lw_at lw_m6 178 rfl) rfl
theorem q1503 : (Jvm.Cond.selects "EightLegs$LongRow" ({ cls := "EightLegs$Row", name := "copy", desc := "(ILEightLegs$Row;II)V" } : Jvm.MethodName) ({ cls := "EightLegs$LongRow", name := "copy", desc := "(ILEightLegs$Row;II)V" } : Jvm.MethodName)) ∈ lw_all := lw_g (lw_at lw_m6 204 rfl) rfl
theorem q1504 : (Jvm.Cond.instanceMethod ({ cls := "EightLegs$LongRow", name := "copy", desc := "(ILEightLegs$Row;II)V" } : Jvm.MethodName)) ∈ lw_all := lw_g (lw_at lw_m6 205 rfl) rfl
theorem q1505 : (Jvm.Cond.code ({ cls := "EightLegs$LongRow", name := "copy", desc := "(ILEightLegs$Row;II)V" } : Jvm.MethodName) prog_18_method_6_code (5 : Nat) (Option.none : Option Jvm.ClassFile.FieldType)) ∈ lw_all := lw_g (lw_at lw_m6 206 rfl) rfl
theorem q1506 : (Jvm.Cond.classLink "EightLegs$LongRow" (8 : Nat) "EightLegs$LongRow") ∈ lw_all := lw_g (lw_at lw_m6 207 rfl) rfl
theorem q1507 : (Jvm.Cond.methodLink "EightLegs$LongRow" (13 : Nat) ({ cls := "java/lang/System", name := "arraycopy", desc := "(Ljava/lang/Object;ILjava/lang/Object;II)V" } : Jvm.MethodName)) ∈ lw_all := lw_g (lw_at lw_m6 208 rfl) rfl
theorem q2164 : (Jvm.Cond.castable "EightLegs$LongRow" "EightLegs$Row") ∈ lw_tbl := lw_at lw_m9 145 rfl
theorem q2184 : (Jvm.Cond.castable "EightLegs$LongRow" "EightLegs$Held") ∈ lw_tbl := lw_at lw_m9 165 rfl
theorem in_X26 : ∀ w ∈ wsX260, w ∈ lw_all := lw_in wsX260 [1422] (by decide +kernel) (by decide +kernel)

/-! EightLegs$BooleanRow -/
set_option maxRecDepth 100000
def RX27 : String := "EightLegs$BooleanRow"
def TX27 : u_T := fun k => match k with
  | _ => ("EightLegs$BooleanRow", "items", "[Z", true)
def tyX27 : Nat → FieldType := fun k => match k with
  | _ => .array .boolean
abbrev wsX270 : List Cond := u_ws RX27 TX27 1
theorem nmX27 : ∀ a, a < 1 → ∀ b, b < 1 → a ≠ b → (TX27 a).2.1 ≠ (TX27 b).2.1 := by decide +kernel
theorem tyX27_ok : ∀ k, k < 1 → parseFieldDescriptor (TX27 k).2.2.1 = some (tyX27 k) := by decide +kernel
abbrev cX27_init : ByteArray := prog_3_method_1_code
def yX27_init : MethodName := ⟨RX27, "<init>", "(I)V"⟩
def dkwX27_init_0 : List UInt8 := [42, 183, 0, 1, 42, 27, 188, 4, 181, 0, 7, 177]
abbrev dktX27_init_0 : List UInt8 := dkwX27_init_0 ++ []
theorem dksX27_init_0 : cX27_init.data.toList.drop 0 = dktX27_init_0 := by decide +kernel
theorem dX27_init_0 : decode cX27_init 0 = .ok (.aload_n 0, 1) := dk_42 (dk_at dksX27_init_0 0 rfl rfl)
theorem dX27_init_1 : decode cX27_init 1 = .ok (.invokespecial 1, 3) := dk_183 0 1 (dk_at dksX27_init_0 1 rfl rfl)
theorem dX27_init_4 : decode cX27_init 4 = .ok (.aload_n 0, 1) := dk_42 (dk_at dksX27_init_0 4 rfl rfl)
theorem dX27_init_5 : decode cX27_init 5 = .ok (.iload_n 1, 1) := dk_27 (dk_at dksX27_init_0 5 rfl rfl)
theorem dX27_init_6 : decode cX27_init 6 = .ok (.newarray .boolean, 2) := dk_188_4 (dk_at dksX27_init_0 6 rfl rfl)
theorem dX27_init_8 : decode cX27_init 8 = .ok (.putfield 7, 3) := dk_181 0 7 (dk_at dksX27_init_0 8 rfl rfl)
theorem dX27_init_11 : decode cX27_init 11 = .ok (.return_, 1) := dk_177 (dk_at dksX27_init_0 11 rfl rfl)
abbrev cX27_put : ByteArray := prog_3_method_5_code
def yX27_put : MethodName := ⟨RX27, "put", "(IJ)Z"⟩
def dkwX27_put_0 : List UInt8 := [42, 180, 0, 7, 27, 32, 9, 148, 153, 0, 7, 4, 167, 0, 4, 3, 84, 4, 172]
abbrev dktX27_put_0 : List UInt8 := dkwX27_put_0 ++ []
theorem dksX27_put_0 : cX27_put.data.toList.drop 0 = dktX27_put_0 := by decide +kernel
theorem dX27_put_0 : decode cX27_put 0 = .ok (.aload_n 0, 1) := dk_42 (dk_at dksX27_put_0 0 rfl rfl)
theorem dX27_put_1 : decode cX27_put 1 = .ok (.getfield 7, 3) := dk_180 0 7 (dk_at dksX27_put_0 1 rfl rfl)
theorem dX27_put_4 : decode cX27_put 4 = .ok (.iload_n 1, 1) := dk_27 (dk_at dksX27_put_0 4 rfl rfl)
theorem dX27_put_5 : decode cX27_put 5 = .ok (.lload_n 2, 1) := dk_32 (dk_at dksX27_put_0 5 rfl rfl)
theorem dX27_put_6 : decode cX27_put 6 = .ok (.lconst 0, 1) := dk_9 (dk_at dksX27_put_0 6 rfl rfl)
theorem dX27_put_7 : decode cX27_put 7 = .ok (.lcmp, 1) := dk_148 (dk_at dksX27_put_0 7 rfl rfl)
theorem dX27_put_8 : decode cX27_put 8 = .ok (.ifCond .eq 7, 3) := dk_153 0 7 (dk_at dksX27_put_0 8 rfl rfl)
theorem dX27_put_11 : decode cX27_put 11 = .ok (.iconst 1, 1) := dk_4 (dk_at dksX27_put_0 11 rfl rfl)
theorem dX27_put_12 : decode cX27_put 12 = .ok (.goto 4, 3) := dk_167 0 4 (dk_at dksX27_put_0 12 rfl rfl)
theorem dX27_put_15 : decode cX27_put 15 = .ok (.iconst 0, 1) := dk_3 (dk_at dksX27_put_0 15 rfl rfl)
theorem dX27_put_16 : decode cX27_put 16 = .ok (.bastore, 1) := dk_84 (dk_at dksX27_put_0 16 rfl rfl)
theorem dX27_put_17 : decode cX27_put 17 = .ok (.iconst 1, 1) := dk_4 (dk_at dksX27_put_0 17 rfl rfl)
theorem dX27_put_18 : decode cX27_put 18 = .ok (.ireturn, 1) := dk_172 (dk_at dksX27_put_0 18 rfl rfl)
abbrev cX27_at : ByteArray := prog_3_method_4_code
def yX27_at : MethodName := ⟨RX27, "at", "(I)J"⟩
def dkwX27_at_0 : List UInt8 := [42, 180, 0, 7, 27, 51, 153, 0, 7, 10, 167, 0, 4, 9, 173]
abbrev dktX27_at_0 : List UInt8 := dkwX27_at_0 ++ []
theorem dksX27_at_0 : cX27_at.data.toList.drop 0 = dktX27_at_0 := by decide +kernel
theorem dX27_at_0 : decode cX27_at 0 = .ok (.aload_n 0, 1) := dk_42 (dk_at dksX27_at_0 0 rfl rfl)
theorem dX27_at_1 : decode cX27_at 1 = .ok (.getfield 7, 3) := dk_180 0 7 (dk_at dksX27_at_0 1 rfl rfl)
theorem dX27_at_4 : decode cX27_at 4 = .ok (.iload_n 1, 1) := dk_27 (dk_at dksX27_at_0 4 rfl rfl)
theorem dX27_at_5 : decode cX27_at 5 = .ok (.baload, 1) := dk_51 (dk_at dksX27_at_0 5 rfl rfl)
theorem dX27_at_6 : decode cX27_at 6 = .ok (.ifCond .eq 7, 3) := dk_153 0 7 (dk_at dksX27_at_0 6 rfl rfl)
theorem dX27_at_9 : decode cX27_at 9 = .ok (.lconst 1, 1) := dk_10 (dk_at dksX27_at_0 9 rfl rfl)
theorem dX27_at_10 : decode cX27_at 10 = .ok (.goto 4, 3) := dk_167 0 4 (dk_at dksX27_at_0 10 rfl rfl)
theorem dX27_at_13 : decode cX27_at 13 = .ok (.lconst 0, 1) := dk_9 (dk_at dksX27_at_0 13 rfl rfl)
theorem dX27_at_14 : decode cX27_at 14 = .ok (.lreturn, 1) := dk_173 (dk_at dksX27_at_0 14 rfl rfl)
abbrev cX27_copy : ByteArray := prog_3_method_6_code
def yX27_copy : MethodName := ⟨RX27, "copy", "(ILEightLegs$Row;II)V"⟩
def dkwX27_copy_0 : List UInt8 := [42, 180, 0, 7, 27, 44, 192, 0, 8, 180, 0, 7, 29, 21, 4, 184, 0, 13, 177]
abbrev dktX27_copy_0 : List UInt8 := dkwX27_copy_0 ++ []
theorem dksX27_copy_0 : cX27_copy.data.toList.drop 0 = dktX27_copy_0 := by decide +kernel
theorem dX27_copy_0 : decode cX27_copy 0 = .ok (.aload_n 0, 1) := dk_42 (dk_at dksX27_copy_0 0 rfl rfl)
theorem dX27_copy_1 : decode cX27_copy 1 = .ok (.getfield 7, 3) := dk_180 0 7 (dk_at dksX27_copy_0 1 rfl rfl)
theorem dX27_copy_4 : decode cX27_copy 4 = .ok (.iload_n 1, 1) := dk_27 (dk_at dksX27_copy_0 4 rfl rfl)
theorem dX27_copy_5 : decode cX27_copy 5 = .ok (.aload_n 2, 1) := dk_44 (dk_at dksX27_copy_0 5 rfl rfl)
theorem dX27_copy_6 : decode cX27_copy 6 = .ok (.checkcast 8, 3) := dk_192 0 8 (dk_at dksX27_copy_0 6 rfl rfl)
theorem dX27_copy_9 : decode cX27_copy 9 = .ok (.getfield 7, 3) := dk_180 0 7 (dk_at dksX27_copy_0 9 rfl rfl)
theorem dX27_copy_12 : decode cX27_copy 12 = .ok (.iload_n 3, 1) := dk_29 (dk_at dksX27_copy_0 12 rfl rfl)
theorem dX27_copy_13 : decode cX27_copy 13 = .ok (.iload 4, 2) := dk_21 4 (dk_at dksX27_copy_0 13 rfl rfl)
theorem dX27_copy_15 : decode cX27_copy 15 = .ok (.invokestatic 13, 3) := dk_184 0 13 (dk_at dksX27_copy_0 15 rfl rfl)
theorem dX27_copy_18 : decode cX27_copy 18 = .ok (.return_, 1) := dk_177 (dk_at dksX27_copy_0 18 rfl rfl)
theorem q142 : (Jvm.Cond.initialized "EightLegs$BooleanRow") ∈ lw_all := lw_g (lw_at lw_m1 43 rfl) rfl
theorem q1427 : (Jvm.Cond.instantiable "EightLegs$BooleanRow" (1 : Nat)) ∈ lw_all := lw_g (lw_at lw_m6 128 rfl) rfl
theorem q1429 : (Jvm.Cond.instanceMethod ({ cls := "EightLegs$BooleanRow", name := "<init>", desc := "(I)V" } : Jvm.MethodName)) ∈ lw_all := lw_g (lw_at lw_m6 130 rfl) rfl
theorem q1430 : (Jvm.Cond.code ({ cls := "EightLegs$BooleanRow", name := "<init>", desc := "(I)V" } : Jvm.MethodName) prog_3_method_1_code (2 : Nat) (Option.none : Option Jvm.ClassFile.FieldType)) ∈ lw_all := lw_g (lw_at lw_m6 131 rfl) rfl
theorem q1431 : (Jvm.Cond.methodLinkNest "EightLegs$BooleanRow" (1 : Nat) ({ cls := "EightLegs$Row", name := "<init>", desc := "()V" } : Jvm.MethodName) "EightLegs") ∈ lw_tbl := lw_at lw_m6 132 rfl
theorem q1432 : (Jvm.Cond.fieldLink "EightLegs$BooleanRow" (7 : Nat) "EightLegs$BooleanRow" "items" "[Z") ∈ lw_all := lw_g (lw_at lw_m6 133 rfl) rfl
theorem q1433 : (Jvm.Cond.laysFinal "EightLegs$BooleanRow" "EightLegs$BooleanRow" "items" "[Z") ∈ lw_all := lw_g (lw_at lw_m6 134 rfl) rfl
theorem q1434 : (Jvm.Cond.soleField "EightLegs$BooleanRow" "items") ∈ lw_all := lw_g (lw_at lw_m6 135 rfl) rfl
theorem q1435 : (Jvm.Cond.superclass "EightLegs$BooleanRow" "EightLegs$Row") ∈ lw_all := lw_g (lw_at lw_m6 136 rfl) rfl
theorem q1445 : (Jvm.Cond.selects "EightLegs$BooleanRow" ({ cls := "EightLegs$Row", name := "put", desc := "(IJ)Z" } : Jvm.MethodName) ({ cls := "EightLegs$BooleanRow", name := "put", desc := "(IJ)Z" } : Jvm.MethodName)) ∈ lw_all := lw_g (lw_at lw_m6 146 rfl) rfl
theorem q1446 : (Jvm.Cond.instanceMethod ({ cls := "EightLegs$BooleanRow", name := "put", desc := "(IJ)Z" } : Jvm.MethodName)) ∈ lw_all := lw_g (lw_at lw_m6 147 rfl) rfl
theorem q1447 : (Jvm.Cond.code ({ cls := "EightLegs$BooleanRow", name := "put", desc := "(IJ)Z" } : Jvm.MethodName) prog_3_method_5_code (4 : Nat) (Option.some Jvm.ClassFile.FieldType.boolean)) ∈ lw_all := lw_g (lw_at lw_m6 148 rfl) rfl
theorem q1468 : (Jvm.Cond.selects "EightLegs$BooleanRow" ({ cls := "EightLegs$Row", name := "at", desc := "(I)J" } : Jvm.MethodName) ({ cls := "EightLegs$BooleanRow", name := "at", desc := "(I)J" } : Jvm.MethodName)) ∈ lw_all := lw_g (lw_at lw_m6 169 rfl) rfl
theorem q1469 : (Jvm.Cond.instanceMethod ({ cls := "EightLegs$BooleanRow", name := "at", desc := "(I)J" } : Jvm.MethodName)) ∈ lw_all := lw_g (lw_at lw_m6 170 rfl) rfl
theorem q1470 : (Jvm.Cond.code ({ cls := "EightLegs$BooleanRow", name := "at", desc := "(I)J" } : Jvm.MethodName) prog_3_method_4_code (2 : Nat) (Option.some Jvm.ClassFile.FieldType.long)) ∈ lw_all := lw_g (lw_at lw_m6 171 rfl) rfl
theorem q1486 : (Jvm.Cond.selects "EightLegs$BooleanRow" ({ cls := "EightLegs$Row", name := "copy", desc := "(ILEightLegs$Row;II)V" } : Jvm.MethodName) ({ cls := "EightLegs$BooleanRow", name := "copy", desc := "(ILEightLegs$Row;II)V" } : Jvm.MethodName)) ∈ lw_all := lw_g (lw_at lw_m6 187 rfl) rfl
theorem q1487 : (Jvm.Cond.instanceMethod ({ cls := "EightLegs$BooleanRow", name := "copy", desc := "(ILEightLegs$Row;II)V" } : Jvm.MethodName)) ∈ lw_all := lw_g (lw_at lw_m6 188 rfl) rfl
theorem q1488 : (Jvm.Cond.code ({ cls := "EightLegs$BooleanRow", name := "copy", desc := "(ILEightLegs$Row;II)V" } : Jvm.MethodName) prog_3_method_6_code (5 : Nat) (Option.none : Option Jvm.ClassFile.FieldType)) ∈ lw_all := lw_g (lw_at lw_m6 189 rfl) rfl
theorem q1489 : (Jvm.Cond.classLink "EightLegs$BooleanRow" (8 : Nat) "EightLegs$BooleanRow") ∈ lw_all := lw_g (lw_at lw_m6 190 rfl) rfl
theorem q1490 : (Jvm.Cond.methodLink "EightLegs$BooleanRow" (13 : Nat) ({ cls := "java/lang/System", name := "arraycopy", desc := "(Ljava/lang/Object;ILjava/lang/Object;II)V" } : Jvm.MethodName)) ∈ lw_all := lw_g (lw_at lw_m6 191 rfl) rfl
theorem q2161 : (Jvm.Cond.castable "EightLegs$BooleanRow" "EightLegs$Row") ∈ lw_tbl := lw_at lw_m9 142 rfl
theorem q2185 : (Jvm.Cond.castable "EightLegs$BooleanRow" "EightLegs$Held") ∈ lw_tbl := lw_at lw_m9 166 rfl
theorem in_X27 : ∀ w ∈ wsX270, w ∈ lw_all := lw_in wsX270 [1433] (by decide +kernel) (by decide +kernel)

theorem q1217 : (Jvm.Cond.interfaceMethod "EightLegs$Counts" "EightLegs$Counts" "countsIt" "(I)I") ∈ lw_tbl := lw_at lw_m5 158 rfl
set_option maxRecDepth 100000
theorem q1218 : (Jvm.Cond.declares ({ cls := "EightLegs$Counts", name := "countsIt", desc := "(I)I" } : Jvm.MethodName)) ∈ lw_tbl := lw_at lw_m5 159 rfl

theorem q1262 : (Jvm.Cond.interfaceMethod "EightLegs$Tells" "EightLegs$Tells" "tells" "(I)I") ∈ lw_tbl := lw_at lw_m5 203 rfl
set_option maxRecDepth 100000
theorem q1263 : (Jvm.Cond.declares ({ cls := "EightLegs$Tells", name := "tells", desc := "(I)I" } : Jvm.MethodName)) ∈ lw_tbl := lw_at lw_m5 204 rfl

theorem q143 : (Jvm.Cond.initialized "java/lang/System") ∈ lw_all := lw_g (lw_at lw_m1 44 rfl) rfl
set_option maxRecDepth 100000
theorem q1491 : (Jvm.Cond.static ({ cls := "java/lang/System", name := "arraycopy", desc := "(Ljava/lang/Object;ILjava/lang/Object;II)V" } : Jvm.MethodName)) ∈ lw_all := lw_g (lw_at lw_m6 192 rfl) rfl
theorem q1492 : (Jvm.Cond.native ({ cls := "java/lang/System", name := "arraycopy", desc := "(Ljava/lang/Object;ILjava/lang/Object;II)V" } : Jvm.MethodName)) ∈ lw_all := lw_g (lw_at lw_m6 193 rfl) rfl
