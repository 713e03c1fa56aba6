/-! BrambleLogicModel -/
set_option maxRecDepth 100000
def RX6 : String := "BrambleLogicModel"
def TX6 : u_T := fun k => match k with
  | 0 => ("BrambleLogicModel", "s", "[I", true)
  | 1 => ("BrambleLogicModel", "was", "[I", true)
  | 2 => ("BrambleLogicModel", "saved", "[I", true)
  | 3 => ("BrambleLogicModel", "past", "[I", true)
  | 4 => ("BrambleLogicModel", "height", "[I", true)
  | 5 => ("BrambleLogicModel", "by", "[I", true)
  | 6 => ("BrambleLogicModel", "size", "[I", true)
  | 7 => ("BrambleLogicModel", "layer", "[I", true)
  | 8 => ("BrambleLogicModel", "bound", "[I", true)
  | 9 => ("BrambleLogicModel", "isTrue", "[Z", true)
  | 10 => ("BrambleLogicModel", "before", "[Z", true)
  | 11 => ("BrambleLogicModel", "needs", "[Z", true)
  | 12 => ("BrambleLogicModel", "changes", "I", false)
  | 13 => ("BrambleLogicModel", "thrown", "I", false)
  | 14 => ("BrambleLogicModel", "errorAt", "I", false)
  | 15 => ("BrambleLogicModel", "failedAt", "I", false)
  | 16 => ("BrambleLogicModel", "answer", "I", false)
  | 17 => ("BrambleLogicModel", "reason", "I", false)
  | 18 => ("BrambleLogicModel", "detail", "I", false)
  | 19 => ("BrambleLogicModel", "isSaved", "Z", false)
  | 20 => ("BrambleLogicModel", "isFresh", "Z", false)
  | 21 => ("BrambleLogicModel", "tape", "[I", true)
  | 22 => ("BrambleLogicModel", "commands", "[I", true)
  | 23 => ("BrambleLogicModel", "taped", "I", false)
  | 24 => ("BrambleLogicModel", "here", "I", false)
  | 25 => ("BrambleLogicModel", "commandMany", "I", false)
  | 26 => ("BrambleLogicModel", "line", "[I", true)
  | _ => ("BrambleLogicModel", "lined", "I", false)
def tyX6 : Nat → FieldType := fun k => match k with
  | 0 => .array .int
  | 1 => .array .int
  | 2 => .array .int
  | 3 => .array .int
  | 4 => .array .int
  | 5 => .array .int
  | 6 => .array .int
  | 7 => .array .int
  | 8 => .array .int
  | 9 => .array .boolean
  | 10 => .array .boolean
  | 11 => .array .boolean
  | 12 => .int
  | 13 => .int
  | 14 => .int
  | 15 => .int
  | 16 => .int
  | 17 => .int
  | 18 => .int
  | 19 => .boolean
  | 20 => .boolean
  | 21 => .array .int
  | 22 => .array .int
  | 23 => .int
  | 24 => .int
  | 25 => .int
  | 26 => .array .int
  | _ => .int
abbrev wsX60 : List Cond := u_ws RX6 TX6 28
set_option maxRecDepth 100000 in
theorem nmX6 : ∀ a, a < 28 → ∀ b, b < 28 → a ≠ b → (TX6 a).2.1 ≠ (TX6 b).2.1 := by decide +kernel
set_option maxRecDepth 100000 in
theorem tyX6_ok : ∀ k, k < 28 → parseFieldDescriptor (TX6 k).2.2.1 = some (tyX6 k) := by decide +kernel
abbrev cX6_init : ByteArray := prog_28_method_1_code
def yX6_init : MethodName := ⟨RX6, "<init>", "()V"⟩
def dkwX6_init_6 : List UInt8 := [188, 10, 181, 0, 60, 177]
abbrev dktX6_init_6 : List UInt8 := dkwX6_init_6 ++ []
def dkwX6_init_5 : List UInt8 := [181, 0, 51, 42, 16, 60, 188, 10, 181, 0, 54, 42, 17, 3, 156, 188, 10, 181, 0, 57, 42, 17, 0, 200]
abbrev dktX6_init_5 : List UInt8 := dkwX6_init_5 ++ dktX6_init_6
def dkwX6_init_4 : List UInt8 := [17, 1, 184, 188, 4, 181, 0, 41, 42, 16, 64, 188, 4, 181, 0, 44, 42, 2, 181, 0, 47, 42, 2]
abbrev dktX6_init_4 : List UInt8 := dkwX6_init_4 ++ dktX6_init_5
def dkwX6_init_3 : List UInt8 := [188, 10, 181, 0, 31, 42, 6, 188, 10, 181, 0, 34, 42, 17, 1, 184, 188, 4, 181, 0, 37, 42]
abbrev dktX6_init_3 : List UInt8 := dkwX6_init_3 ++ dktX6_init_4
def dkwX6_init_2 : List UInt8 := [181, 0, 22, 42, 17, 1, 184, 188, 10, 181, 0, 25, 42, 17, 1, 184, 188, 10, 181, 0, 28, 42, 16, 8]
abbrev dktX6_init_2 : List UInt8 := dkwX6_init_2 ++ dktX6_init_3
def dkwX6_init_1 : List UInt8 := [17, 4, 104, 188, 10, 181, 0, 16, 42, 17, 35, 64, 188, 10, 181, 0, 19, 42, 17, 1, 184, 188, 10]
abbrev dktX6_init_1 : List UInt8 := dkwX6_init_1 ++ dktX6_init_2
def dkwX6_init_0 : List UInt8 := [42, 183, 0, 3, 42, 17, 4, 104, 188, 10, 181, 0, 9, 42, 17, 4, 104, 188, 10, 181, 0, 13, 42]
abbrev dktX6_init_0 : List UInt8 := dkwX6_init_0 ++ dktX6_init_1
theorem dksX6_init_0 : cX6_init.data.toList.drop 0 = dktX6_init_0 := by decide +kernel
theorem dksX6_init_1 : cX6_init.data.toList.drop 23 = dktX6_init_1 := dk_seg dksX6_init_0 23 rfl rfl
theorem dksX6_init_2 : cX6_init.data.toList.drop 46 = dktX6_init_2 := dk_seg dksX6_init_1 23 rfl rfl
theorem dksX6_init_3 : cX6_init.data.toList.drop 70 = dktX6_init_3 := dk_seg dksX6_init_2 24 rfl rfl
theorem dksX6_init_4 : cX6_init.data.toList.drop 92 = dktX6_init_4 := dk_seg dksX6_init_3 22 rfl rfl
theorem dksX6_init_5 : cX6_init.data.toList.drop 115 = dktX6_init_5 := dk_seg dksX6_init_4 23 rfl rfl
theorem dksX6_init_6 : cX6_init.data.toList.drop 139 = dktX6_init_6 := dk_seg dksX6_init_5 24 rfl rfl
theorem dX6_init_0 : decode cX6_init 0 = .ok (.aload_n 0, 1) := dk_42 (dk_at dksX6_init_0 0 rfl rfl)
theorem dX6_init_1 : decode cX6_init 1 = .ok (.invokespecial 3, 3) := dk_183 0 3 (dk_at dksX6_init_0 1 rfl rfl)
theorem dX6_init_4 : decode cX6_init 4 = .ok (.aload_n 0, 1) := dk_42 (dk_at dksX6_init_0 4 rfl rfl)
theorem dX6_init_5 : decode cX6_init 5 = .ok (.sipush 1128, 3) := dk_17 4 104 (dk_at dksX6_init_0 5 rfl rfl)
theorem dX6_init_8 : decode cX6_init 8 = .ok (.newarray .int, 2) := dk_188_10 (dk_at dksX6_init_0 8 rfl rfl)
theorem dX6_init_10 : decode cX6_init 10 = .ok (.putfield 9, 3) := dk_181 0 9 (dk_at dksX6_init_0 10 rfl rfl)
theorem dX6_init_13 : decode cX6_init 13 = .ok (.aload_n 0, 1) := dk_42 (dk_at dksX6_init_0 13 rfl rfl)
theorem dX6_init_14 : decode cX6_init 14 = .ok (.sipush 1128, 3) := dk_17 4 104 (dk_at dksX6_init_0 14 rfl rfl)
theorem dX6_init_17 : decode cX6_init 17 = .ok (.newarray .int, 2) := dk_188_10 (dk_at dksX6_init_0 17 rfl rfl)
theorem dX6_init_19 : decode cX6_init 19 = .ok (.putfield 13, 3) := dk_181 0 13 (dk_at dksX6_init_0 19 rfl rfl)
theorem dX6_init_22 : decode cX6_init 22 = .ok (.aload_n 0, 1) := dk_42 (dk_at dksX6_init_0 22 rfl rfl)
theorem dX6_init_23 : decode cX6_init 23 = .ok (.sipush 1128, 3) := dk_17 4 104 (dk_at dksX6_init_1 0 rfl rfl)
theorem dX6_init_26 : decode cX6_init 26 = .ok (.newarray .int, 2) := dk_188_10 (dk_at dksX6_init_1 3 rfl rfl)
theorem dX6_init_28 : decode cX6_init 28 = .ok (.putfield 16, 3) := dk_181 0 16 (dk_at dksX6_init_1 5 rfl rfl)
theorem dX6_init_31 : decode cX6_init 31 = .ok (.aload_n 0, 1) := dk_42 (dk_at dksX6_init_1 8 rfl rfl)
theorem dX6_init_32 : decode cX6_init 32 = .ok (.sipush 9024, 3) := dk_17 35 64 (dk_at dksX6_init_1 9 rfl rfl)
theorem dX6_init_35 : decode cX6_init 35 = .ok (.newarray .int, 2) := dk_188_10 (dk_at dksX6_init_1 12 rfl rfl)
theorem dX6_init_37 : decode cX6_init 37 = .ok (.putfield 19, 3) := dk_181 0 19 (dk_at dksX6_init_1 14 rfl rfl)
theorem dX6_init_40 : decode cX6_init 40 = .ok (.aload_n 0, 1) := dk_42 (dk_at dksX6_init_1 17 rfl rfl)
theorem dX6_init_41 : decode cX6_init 41 = .ok (.sipush 440, 3) := dk_17 1 184 (dk_at dksX6_init_1 18 rfl rfl)
theorem dX6_init_44 : decode cX6_init 44 = .ok (.newarray .int, 2) := dk_188_10 (dk_at dksX6_init_1 21 rfl rfl)
theorem dX6_init_46 : decode cX6_init 46 = .ok (.putfield 22, 3) := dk_181 0 22 (dk_at dksX6_init_2 0 rfl rfl)
theorem dX6_init_49 : decode cX6_init 49 = .ok (.aload_n 0, 1) := dk_42 (dk_at dksX6_init_2 3 rfl rfl)
theorem dX6_init_50 : decode cX6_init 50 = .ok (.sipush 440, 3) := dk_17 1 184 (dk_at dksX6_init_2 4 rfl rfl)
theorem dX6_init_53 : decode cX6_init 53 = .ok (.newarray .int, 2) := dk_188_10 (dk_at dksX6_init_2 7 rfl rfl)
theorem dX6_init_55 : decode cX6_init 55 = .ok (.putfield 25, 3) := dk_181 0 25 (dk_at dksX6_init_2 9 rfl rfl)
theorem dX6_init_58 : decode cX6_init 58 = .ok (.aload_n 0, 1) := dk_42 (dk_at dksX6_init_2 12 rfl rfl)
theorem dX6_init_59 : decode cX6_init 59 = .ok (.sipush 440, 3) := dk_17 1 184 (dk_at dksX6_init_2 13 rfl rfl)
theorem dX6_init_62 : decode cX6_init 62 = .ok (.newarray .int, 2) := dk_188_10 (dk_at dksX6_init_2 16 rfl rfl)
theorem dX6_init_64 : decode cX6_init 64 = .ok (.putfield 28, 3) := dk_181 0 28 (dk_at dksX6_init_2 18 rfl rfl)
theorem dX6_init_67 : decode cX6_init 67 = .ok (.aload_n 0, 1) := dk_42 (dk_at dksX6_init_2 21 rfl rfl)
theorem dX6_init_68 : decode cX6_init 68 = .ok (.bipush 8, 2) := dk_16 8 (dk_at dksX6_init_2 22 rfl rfl)
theorem dX6_init_70 : decode cX6_init 70 = .ok (.newarray .int, 2) := dk_188_10 (dk_at dksX6_init_3 0 rfl rfl)
theorem dX6_init_72 : decode cX6_init 72 = .ok (.putfield 31, 3) := dk_181 0 31 (dk_at dksX6_init_3 2 rfl rfl)
theorem dX6_init_75 : decode cX6_init 75 = .ok (.aload_n 0, 1) := dk_42 (dk_at dksX6_init_3 5 rfl rfl)
theorem dX6_init_76 : decode cX6_init 76 = .ok (.iconst 3, 1) := dk_6 (dk_at dksX6_init_3 6 rfl rfl)
theorem dX6_init_77 : decode cX6_init 77 = .ok (.newarray .int, 2) := dk_188_10 (dk_at dksX6_init_3 7 rfl rfl)
theorem dX6_init_79 : decode cX6_init 79 = .ok (.putfield 34, 3) := dk_181 0 34 (dk_at dksX6_init_3 9 rfl rfl)
theorem dX6_init_82 : decode cX6_init 82 = .ok (.aload_n 0, 1) := dk_42 (dk_at dksX6_init_3 12 rfl rfl)
theorem dX6_init_83 : decode cX6_init 83 = .ok (.sipush 440, 3) := dk_17 1 184 (dk_at dksX6_init_3 13 rfl rfl)
theorem dX6_init_86 : decode cX6_init 86 = .ok (.newarray .boolean, 2) := dk_188_4 (dk_at dksX6_init_3 16 rfl rfl)
theorem dX6_init_88 : decode cX6_init 88 = .ok (.putfield 37, 3) := dk_181 0 37 (dk_at dksX6_init_3 18 rfl rfl)
theorem dX6_init_91 : decode cX6_init 91 = .ok (.aload_n 0, 1) := dk_42 (dk_at dksX6_init_3 21 rfl rfl)
theorem dX6_init_92 : decode cX6_init 92 = .ok (.sipush 440, 3) := dk_17 1 184 (dk_at dksX6_init_4 0 rfl rfl)
theorem dX6_init_95 : decode cX6_init 95 = .ok (.newarray .boolean, 2) := dk_188_4 (dk_at dksX6_init_4 3 rfl rfl)
theorem dX6_init_97 : decode cX6_init 97 = .ok (.putfield 41, 3) := dk_181 0 41 (dk_at dksX6_init_4 5 rfl rfl)
theorem dX6_init_100 : decode cX6_init 100 = .ok (.aload_n 0, 1) := dk_42 (dk_at dksX6_init_4 8 rfl rfl)
theorem dX6_init_101 : decode cX6_init 101 = .ok (.bipush 64, 2) := dk_16 64 (dk_at dksX6_init_4 9 rfl rfl)
theorem dX6_init_103 : decode cX6_init 103 = .ok (.newarray .boolean, 2) := dk_188_4 (dk_at dksX6_init_4 11 rfl rfl)
theorem dX6_init_105 : decode cX6_init 105 = .ok (.putfield 44, 3) := dk_181 0 44 (dk_at dksX6_init_4 13 rfl rfl)
theorem dX6_init_108 : decode cX6_init 108 = .ok (.aload_n 0, 1) := dk_42 (dk_at dksX6_init_4 16 rfl rfl)
theorem dX6_init_109 : decode cX6_init 109 = .ok (.iconst (-1), 1) := dk_2 (dk_at dksX6_init_4 17 rfl rfl)
theorem dX6_init_110 : decode cX6_init 110 = .ok (.putfield 47, 3) := dk_181 0 47 (dk_at dksX6_init_4 18 rfl rfl)
theorem dX6_init_113 : decode cX6_init 113 = .ok (.aload_n 0, 1) := dk_42 (dk_at dksX6_init_4 21 rfl rfl)
theorem dX6_init_114 : decode cX6_init 114 = .ok (.iconst (-1), 1) := dk_2 (dk_at dksX6_init_4 22 rfl rfl)
theorem dX6_init_115 : decode cX6_init 115 = .ok (.putfield 51, 3) := dk_181 0 51 (dk_at dksX6_init_5 0 rfl rfl)
theorem dX6_init_118 : decode cX6_init 118 = .ok (.aload_n 0, 1) := dk_42 (dk_at dksX6_init_5 3 rfl rfl)
theorem dX6_init_119 : decode cX6_init 119 = .ok (.bipush 60, 2) := dk_16 60 (dk_at dksX6_init_5 4 rfl rfl)
theorem dX6_init_121 : decode cX6_init 121 = .ok (.newarray .int, 2) := dk_188_10 (dk_at dksX6_init_5 6 rfl rfl)
theorem dX6_init_123 : decode cX6_init 123 = .ok (.putfield 54, 3) := dk_181 0 54 (dk_at dksX6_init_5 8 rfl rfl)
theorem dX6_init_126 : decode cX6_init 126 = .ok (.aload_n 0, 1) := dk_42 (dk_at dksX6_init_5 11 rfl rfl)
theorem dX6_init_127 : decode cX6_init 127 = .ok (.sipush 924, 3) := dk_17 3 156 (dk_at dksX6_init_5 12 rfl rfl)
theorem dX6_init_130 : decode cX6_init 130 = .ok (.newarray .int, 2) := dk_188_10 (dk_at dksX6_init_5 15 rfl rfl)
theorem dX6_init_132 : decode cX6_init 132 = .ok (.putfield 57, 3) := dk_181 0 57 (dk_at dksX6_init_5 17 rfl rfl)
theorem dX6_init_135 : decode cX6_init 135 = .ok (.aload_n 0, 1) := dk_42 (dk_at dksX6_init_5 20 rfl rfl)
theorem dX6_init_136 : decode cX6_init 136 = .ok (.sipush 200, 3) := dk_17 0 200 (dk_at dksX6_init_5 21 rfl rfl)
theorem dX6_init_139 : decode cX6_init 139 = .ok (.newarray .int, 2) := dk_188_10 (dk_at dksX6_init_6 0 rfl rfl)
theorem dX6_init_141 : decode cX6_init 141 = .ok (.putfield 60, 3) := dk_181 0 60 (dk_at dksX6_init_6 2 rfl rfl)
theorem dX6_init_144 : decode cX6_init 144 = .ok (.return_, 1) := dk_177 (dk_at dksX6_init_6 5 rfl rfl)
abbrev cX6_thrown : ByteArray := prog_28_method_2_code
def yX6_thrown : MethodName := ⟨RX6, "thrown", "()I"⟩
theorem dX6_thrown_0 : decode cX6_thrown 0 = .ok (.aload_n 0, 1) := by decide +kernel
theorem dX6_thrown_1 : decode cX6_thrown 1 = .ok (.getfield 63, 3) := by decide +kernel
theorem dX6_thrown_4 : decode cX6_thrown 4 = .ok (.ireturn, 1) := by decide +kernel
abbrev cX6_addFact : ByteArray := prog_28_method_41_code
def yX6_addFact : MethodName := ⟨RX6, "addFact", "(CII)I"⟩
def dkwX6_addFact_0 : List UInt8 := [42, 182, 0, 171, 42, 42, 27, 28, 29, 182, 0, 174, 182, 0, 177, 172]
abbrev dktX6_addFact_0 : List UInt8 := dkwX6_addFact_0 ++ []
theorem dksX6_addFact_0 : cX6_addFact.data.toList.drop 0 = dktX6_addFact_0 := by decide +kernel
theorem dX6_addFact_0 : decode cX6_addFact 0 = .ok (.aload_n 0, 1) := dk_42 (dk_at dksX6_addFact_0 0 rfl rfl)
theorem dX6_addFact_1 : decode cX6_addFact 1 = .ok (.invokevirtual 171, 3) := dk_182 0 171 (dk_at dksX6_addFact_0 1 rfl rfl)
theorem dX6_addFact_4 : decode cX6_addFact 4 = .ok (.aload_n 0, 1) := dk_42 (dk_at dksX6_addFact_0 4 rfl rfl)
theorem dX6_addFact_5 : decode cX6_addFact 5 = .ok (.aload_n 0, 1) := dk_42 (dk_at dksX6_addFact_0 5 rfl rfl)
theorem dX6_addFact_6 : decode cX6_addFact 6 = .ok (.iload_n 1, 1) := dk_27 (dk_at dksX6_addFact_0 6 rfl rfl)
theorem dX6_addFact_7 : decode cX6_addFact 7 = .ok (.iload_n 2, 1) := dk_28 (dk_at dksX6_addFact_0 7 rfl rfl)
theorem dX6_addFact_8 : decode cX6_addFact 8 = .ok (.iload_n 3, 1) := dk_29 (dk_at dksX6_addFact_0 8 rfl rfl)
theorem dX6_addFact_9 : decode cX6_addFact 9 = .ok (.invokevirtual 174, 3) := dk_182 0 174 (dk_at dksX6_addFact_0 9 rfl rfl)
theorem dX6_addFact_12 : decode cX6_addFact 12 = .ok (.invokevirtual 177, 3) := dk_182 0 177 (dk_at dksX6_addFact_0 12 rfl rfl)
theorem dX6_addFact_15 : decode cX6_addFact 15 = .ok (.ireturn, 1) := dk_172 (dk_at dksX6_addFact_0 15 rfl rfl)
abbrev cX6_keeps : ByteArray := prog_28_method_5_code
def yX6_keeps : MethodName := ⟨RX6, "keeps", "()V"⟩
def dkwX6_keeps_0 : List UInt8 := [42, 180, 0, 9, 3, 42, 180, 0, 13, 3, 184, 0, 66, 42, 3, 181, 0, 63, 177]
abbrev dktX6_keeps_0 : List UInt8 := dkwX6_keeps_0 ++ []
theorem dksX6_keeps_0 : cX6_keeps.data.toList.drop 0 = dktX6_keeps_0 := by decide +kernel
theorem dX6_keeps_0 : decode cX6_keeps 0 = .ok (.aload_n 0, 1) := dk_42 (dk_at dksX6_keeps_0 0 rfl rfl)
theorem dX6_keeps_1 : decode cX6_keeps 1 = .ok (.getfield 9, 3) := dk_180 0 9 (dk_at dksX6_keeps_0 1 rfl rfl)
theorem dX6_keeps_4 : decode cX6_keeps 4 = .ok (.iconst 0, 1) := dk_3 (dk_at dksX6_keeps_0 4 rfl rfl)
theorem dX6_keeps_5 : decode cX6_keeps 5 = .ok (.aload_n 0, 1) := dk_42 (dk_at dksX6_keeps_0 5 rfl rfl)
theorem dX6_keeps_6 : decode cX6_keeps 6 = .ok (.getfield 13, 3) := dk_180 0 13 (dk_at dksX6_keeps_0 6 rfl rfl)
theorem dX6_keeps_9 : decode cX6_keeps 9 = .ok (.iconst 0, 1) := dk_3 (dk_at dksX6_keeps_0 9 rfl rfl)
theorem dX6_keeps_10 : decode cX6_keeps 10 = .ok (.invokestatic 66, 3) := dk_184 0 66 (dk_at dksX6_keeps_0 10 rfl rfl)
theorem dX6_keeps_13 : decode cX6_keeps 13 = .ok (.aload_n 0, 1) := dk_42 (dk_at dksX6_keeps_0 13 rfl rfl)
theorem dX6_keeps_14 : decode cX6_keeps 14 = .ok (.iconst 0, 1) := dk_3 (dk_at dksX6_keeps_0 14 rfl rfl)
theorem dX6_keeps_15 : decode cX6_keeps 15 = .ok (.putfield 63, 3) := dk_181 0 63 (dk_at dksX6_keeps_0 15 rfl rfl)
theorem dX6_keeps_18 : decode cX6_keeps 18 = .ok (.return_, 1) := dk_177 (dk_at dksX6_keeps_0 18 rfl rfl)
abbrev cX6_copies : ByteArray := prog_28_method_4_code
def yX6_copies : MethodName := ⟨RX6, "copies", "([II[II)V"⟩
def dkwX6_copies_1 : List UInt8 := [132, 4, 1, 167, 255, 233, 177]
abbrev dktX6_copies_1 : List UInt8 := dkwX6_copies_1 ++ []
def dkwX6_copies_0 : List UInt8 := [3, 54, 4, 21, 4, 17, 4, 104, 162, 0, 21, 44, 29, 21, 4, 96, 42, 27, 21, 4, 96, 46, 79]
abbrev dktX6_copies_0 : List UInt8 := dkwX6_copies_0 ++ dktX6_copies_1
theorem dksX6_copies_0 : cX6_copies.data.toList.drop 0 = dktX6_copies_0 := by decide +kernel
theorem dksX6_copies_1 : cX6_copies.data.toList.drop 23 = dktX6_copies_1 := dk_seg dksX6_copies_0 23 rfl rfl
theorem dX6_copies_0 : decode cX6_copies 0 = .ok (.iconst 0, 1) := dk_3 (dk_at dksX6_copies_0 0 rfl rfl)
theorem dX6_copies_1 : decode cX6_copies 1 = .ok (.istore 4, 2) := dk_54 4 (dk_at dksX6_copies_0 1 rfl rfl)
theorem dX6_copies_3 : decode cX6_copies 3 = .ok (.iload 4, 2) := dk_21 4 (dk_at dksX6_copies_0 3 rfl rfl)
theorem dX6_copies_5 : decode cX6_copies 5 = .ok (.sipush 1128, 3) := dk_17 4 104 (dk_at dksX6_copies_0 5 rfl rfl)
theorem dX6_copies_8 : decode cX6_copies 8 = .ok (.if_icmp .ge 21, 3) := dk_162 0 21 (dk_at dksX6_copies_0 8 rfl rfl)
theorem dX6_copies_11 : decode cX6_copies 11 = .ok (.aload_n 2, 1) := dk_44 (dk_at dksX6_copies_0 11 rfl rfl)
theorem dX6_copies_12 : decode cX6_copies 12 = .ok (.iload_n 3, 1) := dk_29 (dk_at dksX6_copies_0 12 rfl rfl)
theorem dX6_copies_13 : decode cX6_copies 13 = .ok (.iload 4, 2) := dk_21 4 (dk_at dksX6_copies_0 13 rfl rfl)
theorem dX6_copies_15 : decode cX6_copies 15 = .ok (.iadd, 1) := dk_96 (dk_at dksX6_copies_0 15 rfl rfl)
theorem dX6_copies_16 : decode cX6_copies 16 = .ok (.aload_n 0, 1) := dk_42 (dk_at dksX6_copies_0 16 rfl rfl)
theorem dX6_copies_17 : decode cX6_copies 17 = .ok (.iload_n 1, 1) := dk_27 (dk_at dksX6_copies_0 17 rfl rfl)
theorem dX6_copies_18 : decode cX6_copies 18 = .ok (.iload 4, 2) := dk_21 4 (dk_at dksX6_copies_0 18 rfl rfl)
theorem dX6_copies_20 : decode cX6_copies 20 = .ok (.iadd, 1) := dk_96 (dk_at dksX6_copies_0 20 rfl rfl)
theorem dX6_copies_21 : decode cX6_copies 21 = .ok (.iaload, 1) := dk_46 (dk_at dksX6_copies_0 21 rfl rfl)
theorem dX6_copies_22 : decode cX6_copies 22 = .ok (.iastore, 1) := dk_79 (dk_at dksX6_copies_0 22 rfl rfl)
theorem dX6_copies_23 : decode cX6_copies 23 = .ok (.iinc 4 1, 3) := dk_132 4 1 (dk_at dksX6_copies_1 0 rfl rfl)
theorem dX6_copies_26 : decode cX6_copies 26 = .ok (.goto (-23), 3) := dk_167 255 233 (dk_at dksX6_copies_1 3 rfl rfl)
theorem dX6_copies_29 : decode cX6_copies 29 = .ok (.return_, 1) := dk_177 (dk_at dksX6_copies_1 6 rfl rfl)
abbrev cX6_adds : ByteArray := prog_28_method_40_code
def yX6_adds : MethodName := ⟨RX6, "adds", "(III)I"⟩
def dkwX6_adds_5 : List UInt8 := [46, 172]
abbrev dktX6_adds_5 : List UInt8 := dkwX6_adds_5 ++ []
def dkwX6_adds_4 : List UInt8 := [180, 0, 9, 3, 92, 46, 4, 96, 79, 42, 180, 0, 9, 4, 92, 46, 4, 96, 79, 42, 180, 0, 9, 3]
abbrev dktX6_adds_4 : List UInt8 := dkwX6_adds_4 ++ dktX6_adds_5
def dkwX6_adds_3 : List UInt8 := [167, 0, 4, 3, 6, 182, 0, 164, 153, 0, 5, 3, 172, 42, 180, 0, 9, 21, 4, 4, 79, 42]
abbrev dktX6_adds_3 : List UInt8 := dkwX6_adds_3 ++ dktX6_adds_4
def dkwX6_adds_2 : List UInt8 := [167, 0, 4, 3, 5, 182, 0, 164, 154, 0, 27, 42, 42, 180, 0, 9, 3, 46, 16, 20, 160, 0, 7, 4]
abbrev dktX6_adds_2 : List UInt8 := dkwX6_adds_2 ++ dktX6_adds_3
def dkwX6_adds_1 : List UInt8 := [7, 27, 28, 29, 184, 0, 168, 96, 54, 4, 42, 42, 180, 0, 9, 21, 4, 46, 4, 160, 0, 7, 4]
abbrev dktX6_adds_1 : List UInt8 := dkwX6_adds_1 ++ dktX6_adds_2
def dkwX6_adds_0 : List UInt8 := [42, 27, 28, 29, 184, 0, 161, 154, 0, 7, 4, 167, 0, 4, 3, 4, 182, 0, 164, 153, 0, 5, 3, 172]
abbrev dktX6_adds_0 : List UInt8 := dkwX6_adds_0 ++ dktX6_adds_1
theorem dksX6_adds_0 : cX6_adds.data.toList.drop 0 = dktX6_adds_0 := by decide +kernel
theorem dksX6_adds_1 : cX6_adds.data.toList.drop 24 = dktX6_adds_1 := dk_seg dksX6_adds_0 24 rfl rfl
theorem dksX6_adds_2 : cX6_adds.data.toList.drop 47 = dktX6_adds_2 := dk_seg dksX6_adds_1 23 rfl rfl
theorem dksX6_adds_3 : cX6_adds.data.toList.drop 71 = dktX6_adds_3 := dk_seg dksX6_adds_2 24 rfl rfl
theorem dksX6_adds_4 : cX6_adds.data.toList.drop 93 = dktX6_adds_4 := dk_seg dksX6_adds_3 22 rfl rfl
theorem dksX6_adds_5 : cX6_adds.data.toList.drop 117 = dktX6_adds_5 := dk_seg dksX6_adds_4 24 rfl rfl
theorem dX6_adds_0 : decode cX6_adds 0 = .ok (.aload_n 0, 1) := dk_42 (dk_at dksX6_adds_0 0 rfl rfl)
theorem dX6_adds_1 : decode cX6_adds 1 = .ok (.iload_n 1, 1) := dk_27 (dk_at dksX6_adds_0 1 rfl rfl)
theorem dX6_adds_2 : decode cX6_adds 2 = .ok (.iload_n 2, 1) := dk_28 (dk_at dksX6_adds_0 2 rfl rfl)
theorem dX6_adds_3 : decode cX6_adds 3 = .ok (.iload_n 3, 1) := dk_29 (dk_at dksX6_adds_0 3 rfl rfl)
theorem dX6_adds_4 : decode cX6_adds 4 = .ok (.invokestatic 161, 3) := dk_184 0 161 (dk_at dksX6_adds_0 4 rfl rfl)
theorem dX6_adds_7 : decode cX6_adds 7 = .ok (.ifCond .ne 7, 3) := dk_154 0 7 (dk_at dksX6_adds_0 7 rfl rfl)
theorem dX6_adds_10 : decode cX6_adds 10 = .ok (.iconst 1, 1) := dk_4 (dk_at dksX6_adds_0 10 rfl rfl)
theorem dX6_adds_11 : decode cX6_adds 11 = .ok (.goto 4, 3) := dk_167 0 4 (dk_at dksX6_adds_0 11 rfl rfl)
theorem dX6_adds_14 : decode cX6_adds 14 = .ok (.iconst 0, 1) := dk_3 (dk_at dksX6_adds_0 14 rfl rfl)
theorem dX6_adds_15 : decode cX6_adds 15 = .ok (.iconst 1, 1) := dk_4 (dk_at dksX6_adds_0 15 rfl rfl)
theorem dX6_adds_16 : decode cX6_adds 16 = .ok (.invokevirtual 164, 3) := dk_182 0 164 (dk_at dksX6_adds_0 16 rfl rfl)
theorem dX6_adds_19 : decode cX6_adds 19 = .ok (.ifCond .eq 5, 3) := dk_153 0 5 (dk_at dksX6_adds_0 19 rfl rfl)
theorem dX6_adds_22 : decode cX6_adds 22 = .ok (.iconst 0, 1) := dk_3 (dk_at dksX6_adds_0 22 rfl rfl)
theorem dX6_adds_23 : decode cX6_adds 23 = .ok (.ireturn, 1) := dk_172 (dk_at dksX6_adds_0 23 rfl rfl)
theorem dX6_adds_24 : decode cX6_adds 24 = .ok (.iconst 4, 1) := dk_7 (dk_at dksX6_adds_1 0 rfl rfl)
theorem dX6_adds_25 : decode cX6_adds 25 = .ok (.iload_n 1, 1) := dk_27 (dk_at dksX6_adds_1 1 rfl rfl)
theorem dX6_adds_26 : decode cX6_adds 26 = .ok (.iload_n 2, 1) := dk_28 (dk_at dksX6_adds_1 2 rfl rfl)
theorem dX6_adds_27 : decode cX6_adds 27 = .ok (.iload_n 3, 1) := dk_29 (dk_at dksX6_adds_1 3 rfl rfl)
theorem dX6_adds_28 : decode cX6_adds 28 = .ok (.invokestatic 168, 3) := dk_184 0 168 (dk_at dksX6_adds_1 4 rfl rfl)
theorem dX6_adds_31 : decode cX6_adds 31 = .ok (.iadd, 1) := dk_96 (dk_at dksX6_adds_1 7 rfl rfl)
theorem dX6_adds_32 : decode cX6_adds 32 = .ok (.istore 4, 2) := dk_54 4 (dk_at dksX6_adds_1 8 rfl rfl)
theorem dX6_adds_34 : decode cX6_adds 34 = .ok (.aload_n 0, 1) := dk_42 (dk_at dksX6_adds_1 10 rfl rfl)
theorem dX6_adds_35 : decode cX6_adds 35 = .ok (.aload_n 0, 1) := dk_42 (dk_at dksX6_adds_1 11 rfl rfl)
theorem dX6_adds_36 : decode cX6_adds 36 = .ok (.getfield 9, 3) := dk_180 0 9 (dk_at dksX6_adds_1 12 rfl rfl)
theorem dX6_adds_39 : decode cX6_adds 39 = .ok (.iload 4, 2) := dk_21 4 (dk_at dksX6_adds_1 15 rfl rfl)
theorem dX6_adds_41 : decode cX6_adds 41 = .ok (.iaload, 1) := dk_46 (dk_at dksX6_adds_1 17 rfl rfl)
theorem dX6_adds_42 : decode cX6_adds 42 = .ok (.iconst 1, 1) := dk_4 (dk_at dksX6_adds_1 18 rfl rfl)
theorem dX6_adds_43 : decode cX6_adds 43 = .ok (.if_icmp .ne 7, 3) := dk_160 0 7 (dk_at dksX6_adds_1 19 rfl rfl)
theorem dX6_adds_46 : decode cX6_adds 46 = .ok (.iconst 1, 1) := dk_4 (dk_at dksX6_adds_1 22 rfl rfl)
theorem dX6_adds_47 : decode cX6_adds 47 = .ok (.goto 4, 3) := dk_167 0 4 (dk_at dksX6_adds_2 0 rfl rfl)
theorem dX6_adds_50 : decode cX6_adds 50 = .ok (.iconst 0, 1) := dk_3 (dk_at dksX6_adds_2 3 rfl rfl)
theorem dX6_adds_51 : decode cX6_adds 51 = .ok (.iconst 2, 1) := dk_5 (dk_at dksX6_adds_2 4 rfl rfl)
theorem dX6_adds_52 : decode cX6_adds 52 = .ok (.invokevirtual 164, 3) := dk_182 0 164 (dk_at dksX6_adds_2 5 rfl rfl)
theorem dX6_adds_55 : decode cX6_adds 55 = .ok (.ifCond .ne 27, 3) := dk_154 0 27 (dk_at dksX6_adds_2 8 rfl rfl)
theorem dX6_adds_58 : decode cX6_adds 58 = .ok (.aload_n 0, 1) := dk_42 (dk_at dksX6_adds_2 11 rfl rfl)
theorem dX6_adds_59 : decode cX6_adds 59 = .ok (.aload_n 0, 1) := dk_42 (dk_at dksX6_adds_2 12 rfl rfl)
theorem dX6_adds_60 : decode cX6_adds 60 = .ok (.getfield 9, 3) := dk_180 0 9 (dk_at dksX6_adds_2 13 rfl rfl)
theorem dX6_adds_63 : decode cX6_adds 63 = .ok (.iconst 0, 1) := dk_3 (dk_at dksX6_adds_2 16 rfl rfl)
theorem dX6_adds_64 : decode cX6_adds 64 = .ok (.iaload, 1) := dk_46 (dk_at dksX6_adds_2 17 rfl rfl)
theorem dX6_adds_65 : decode cX6_adds 65 = .ok (.bipush 20, 2) := dk_16 20 (dk_at dksX6_adds_2 18 rfl rfl)
theorem dX6_adds_67 : decode cX6_adds 67 = .ok (.if_icmp .ne 7, 3) := dk_160 0 7 (dk_at dksX6_adds_2 20 rfl rfl)
theorem dX6_adds_70 : decode cX6_adds 70 = .ok (.iconst 1, 1) := dk_4 (dk_at dksX6_adds_2 23 rfl rfl)
theorem dX6_adds_71 : decode cX6_adds 71 = .ok (.goto 4, 3) := dk_167 0 4 (dk_at dksX6_adds_3 0 rfl rfl)
theorem dX6_adds_74 : decode cX6_adds 74 = .ok (.iconst 0, 1) := dk_3 (dk_at dksX6_adds_3 3 rfl rfl)
theorem dX6_adds_75 : decode cX6_adds 75 = .ok (.iconst 3, 1) := dk_6 (dk_at dksX6_adds_3 4 rfl rfl)
theorem dX6_adds_76 : decode cX6_adds 76 = .ok (.invokevirtual 164, 3) := dk_182 0 164 (dk_at dksX6_adds_3 5 rfl rfl)
theorem dX6_adds_79 : decode cX6_adds 79 = .ok (.ifCond .eq 5, 3) := dk_153 0 5 (dk_at dksX6_adds_3 8 rfl rfl)
theorem dX6_adds_82 : decode cX6_adds 82 = .ok (.iconst 0, 1) := dk_3 (dk_at dksX6_adds_3 11 rfl rfl)
theorem dX6_adds_83 : decode cX6_adds 83 = .ok (.ireturn, 1) := dk_172 (dk_at dksX6_adds_3 12 rfl rfl)
theorem dX6_adds_84 : decode cX6_adds 84 = .ok (.aload_n 0, 1) := dk_42 (dk_at dksX6_adds_3 13 rfl rfl)
theorem dX6_adds_85 : decode cX6_adds 85 = .ok (.getfield 9, 3) := dk_180 0 9 (dk_at dksX6_adds_3 14 rfl rfl)
theorem dX6_adds_88 : decode cX6_adds 88 = .ok (.iload 4, 2) := dk_21 4 (dk_at dksX6_adds_3 17 rfl rfl)
theorem dX6_adds_90 : decode cX6_adds 90 = .ok (.iconst 1, 1) := dk_4 (dk_at dksX6_adds_3 19 rfl rfl)
theorem dX6_adds_91 : decode cX6_adds 91 = .ok (.iastore, 1) := dk_79 (dk_at dksX6_adds_3 20 rfl rfl)
theorem dX6_adds_92 : decode cX6_adds 92 = .ok (.aload_n 0, 1) := dk_42 (dk_at dksX6_adds_3 21 rfl rfl)
theorem dX6_adds_93 : decode cX6_adds 93 = .ok (.getfield 9, 3) := dk_180 0 9 (dk_at dksX6_adds_4 0 rfl rfl)
theorem dX6_adds_96 : decode cX6_adds 96 = .ok (.iconst 0, 1) := dk_3 (dk_at dksX6_adds_4 3 rfl rfl)
theorem dX6_adds_97 : decode cX6_adds 97 = .ok (.dup2, 1) := dk_92 (dk_at dksX6_adds_4 4 rfl rfl)
theorem dX6_adds_98 : decode cX6_adds 98 = .ok (.iaload, 1) := dk_46 (dk_at dksX6_adds_4 5 rfl rfl)
theorem dX6_adds_99 : decode cX6_adds 99 = .ok (.iconst 1, 1) := dk_4 (dk_at dksX6_adds_4 6 rfl rfl)
theorem dX6_adds_100 : decode cX6_adds 100 = .ok (.iadd, 1) := dk_96 (dk_at dksX6_adds_4 7 rfl rfl)
theorem dX6_adds_101 : decode cX6_adds 101 = .ok (.iastore, 1) := dk_79 (dk_at dksX6_adds_4 8 rfl rfl)
theorem dX6_adds_102 : decode cX6_adds 102 = .ok (.aload_n 0, 1) := dk_42 (dk_at dksX6_adds_4 9 rfl rfl)
theorem dX6_adds_103 : decode cX6_adds 103 = .ok (.getfield 9, 3) := dk_180 0 9 (dk_at dksX6_adds_4 10 rfl rfl)
theorem dX6_adds_106 : decode cX6_adds 106 = .ok (.iconst 1, 1) := dk_4 (dk_at dksX6_adds_4 13 rfl rfl)
theorem dX6_adds_107 : decode cX6_adds 107 = .ok (.dup2, 1) := dk_92 (dk_at dksX6_adds_4 14 rfl rfl)
theorem dX6_adds_108 : decode cX6_adds 108 = .ok (.iaload, 1) := dk_46 (dk_at dksX6_adds_4 15 rfl rfl)
theorem dX6_adds_109 : decode cX6_adds 109 = .ok (.iconst 1, 1) := dk_4 (dk_at dksX6_adds_4 16 rfl rfl)
theorem dX6_adds_110 : decode cX6_adds 110 = .ok (.iadd, 1) := dk_96 (dk_at dksX6_adds_4 17 rfl rfl)
theorem dX6_adds_111 : decode cX6_adds 111 = .ok (.iastore, 1) := dk_79 (dk_at dksX6_adds_4 18 rfl rfl)
theorem dX6_adds_112 : decode cX6_adds 112 = .ok (.aload_n 0, 1) := dk_42 (dk_at dksX6_adds_4 19 rfl rfl)
theorem dX6_adds_113 : decode cX6_adds 113 = .ok (.getfield 9, 3) := dk_180 0 9 (dk_at dksX6_adds_4 20 rfl rfl)
theorem dX6_adds_116 : decode cX6_adds 116 = .ok (.iconst 0, 1) := dk_3 (dk_at dksX6_adds_4 23 rfl rfl)
theorem dX6_adds_117 : decode cX6_adds 117 = .ok (.iaload, 1) := dk_46 (dk_at dksX6_adds_5 0 rfl rfl)
theorem dX6_adds_118 : decode cX6_adds 118 = .ok (.ireturn, 1) := dk_172 (dk_at dksX6_adds_5 1 rfl rfl)
abbrev cX6_isFact : ByteArray := prog_28_method_10_code
def yX6_isFact : MethodName := ⟨RX6, "isFact", "(III)Z"⟩
def dkwX6_isFact_2 : List UInt8 := [160, 0, 7, 4, 167, 0, 4, 3, 172]
abbrev dktX6_isFact_2 : List UInt8 := dkwX6_isFact_2 ++ []
def dkwX6_isFact_1 : List UInt8 := [153, 0, 31, 26, 16, 101, 162, 0, 16, 28, 3, 16, 9, 184, 0, 77, 153, 0, 15, 167, 0, 8, 28, 2]
abbrev dktX6_isFact_1 : List UInt8 := dkwX6_isFact_1 ++ dktX6_isFact_2
def dkwX6_isFact_0 : List UInt8 := [26, 184, 0, 81, 153, 0, 17, 27, 3, 16, 9, 184, 0, 77, 153, 0, 7, 4, 167, 0, 4, 3, 62, 29]
abbrev dktX6_isFact_0 : List UInt8 := dkwX6_isFact_0 ++ dktX6_isFact_1
theorem dksX6_isFact_0 : cX6_isFact.data.toList.drop 0 = dktX6_isFact_0 := by decide +kernel
theorem dksX6_isFact_1 : cX6_isFact.data.toList.drop 24 = dktX6_isFact_1 := dk_seg dksX6_isFact_0 24 rfl rfl
theorem dksX6_isFact_2 : cX6_isFact.data.toList.drop 48 = dktX6_isFact_2 := dk_seg dksX6_isFact_1 24 rfl rfl
theorem dX6_isFact_0 : decode cX6_isFact 0 = .ok (.iload_n 0, 1) := dk_26 (dk_at dksX6_isFact_0 0 rfl rfl)
theorem dX6_isFact_1 : decode cX6_isFact 1 = .ok (.invokestatic 81, 3) := dk_184 0 81 (dk_at dksX6_isFact_0 1 rfl rfl)
theorem dX6_isFact_4 : decode cX6_isFact 4 = .ok (.ifCond .eq 17, 3) := dk_153 0 17 (dk_at dksX6_isFact_0 4 rfl rfl)
theorem dX6_isFact_7 : decode cX6_isFact 7 = .ok (.iload_n 1, 1) := dk_27 (dk_at dksX6_isFact_0 7 rfl rfl)
theorem dX6_isFact_8 : decode cX6_isFact 8 = .ok (.iconst 0, 1) := dk_3 (dk_at dksX6_isFact_0 8 rfl rfl)
theorem dX6_isFact_9 : decode cX6_isFact 9 = .ok (.bipush 9, 2) := dk_16 9 (dk_at dksX6_isFact_0 9 rfl rfl)
theorem dX6_isFact_11 : decode cX6_isFact 11 = .ok (.invokestatic 77, 3) := dk_184 0 77 (dk_at dksX6_isFact_0 11 rfl rfl)
theorem dX6_isFact_14 : decode cX6_isFact 14 = .ok (.ifCond .eq 7, 3) := dk_153 0 7 (dk_at dksX6_isFact_0 14 rfl rfl)
theorem dX6_isFact_17 : decode cX6_isFact 17 = .ok (.iconst 1, 1) := dk_4 (dk_at dksX6_isFact_0 17 rfl rfl)
theorem dX6_isFact_18 : decode cX6_isFact 18 = .ok (.goto 4, 3) := dk_167 0 4 (dk_at dksX6_isFact_0 18 rfl rfl)
theorem dX6_isFact_21 : decode cX6_isFact 21 = .ok (.iconst 0, 1) := dk_3 (dk_at dksX6_isFact_0 21 rfl rfl)
theorem dX6_isFact_22 : decode cX6_isFact 22 = .ok (.istore_n 3, 1) := dk_62 (dk_at dksX6_isFact_0 22 rfl rfl)
theorem dX6_isFact_23 : decode cX6_isFact 23 = .ok (.iload_n 3, 1) := dk_29 (dk_at dksX6_isFact_0 23 rfl rfl)
theorem dX6_isFact_24 : decode cX6_isFact 24 = .ok (.ifCond .eq 31, 3) := dk_153 0 31 (dk_at dksX6_isFact_1 0 rfl rfl)
theorem dX6_isFact_27 : decode cX6_isFact 27 = .ok (.iload_n 0, 1) := dk_26 (dk_at dksX6_isFact_1 3 rfl rfl)
theorem dX6_isFact_28 : decode cX6_isFact 28 = .ok (.bipush 101, 2) := dk_16 101 (dk_at dksX6_isFact_1 4 rfl rfl)
theorem dX6_isFact_30 : decode cX6_isFact 30 = .ok (.if_icmp .ge 16, 3) := dk_162 0 16 (dk_at dksX6_isFact_1 6 rfl rfl)
theorem dX6_isFact_33 : decode cX6_isFact 33 = .ok (.iload_n 2, 1) := dk_28 (dk_at dksX6_isFact_1 9 rfl rfl)
theorem dX6_isFact_34 : decode cX6_isFact 34 = .ok (.iconst 0, 1) := dk_3 (dk_at dksX6_isFact_1 10 rfl rfl)
theorem dX6_isFact_35 : decode cX6_isFact 35 = .ok (.bipush 9, 2) := dk_16 9 (dk_at dksX6_isFact_1 11 rfl rfl)
theorem dX6_isFact_37 : decode cX6_isFact 37 = .ok (.invokestatic 77, 3) := dk_184 0 77 (dk_at dksX6_isFact_1 13 rfl rfl)
theorem dX6_isFact_40 : decode cX6_isFact 40 = .ok (.ifCond .eq 15, 3) := dk_153 0 15 (dk_at dksX6_isFact_1 16 rfl rfl)
theorem dX6_isFact_43 : decode cX6_isFact 43 = .ok (.goto 8, 3) := dk_167 0 8 (dk_at dksX6_isFact_1 19 rfl rfl)
theorem dX6_isFact_46 : decode cX6_isFact 46 = .ok (.iload_n 2, 1) := dk_28 (dk_at dksX6_isFact_1 22 rfl rfl)
theorem dX6_isFact_47 : decode cX6_isFact 47 = .ok (.iconst (-1), 1) := dk_2 (dk_at dksX6_isFact_1 23 rfl rfl)
theorem dX6_isFact_48 : decode cX6_isFact 48 = .ok (.if_icmp .ne 7, 3) := dk_160 0 7 (dk_at dksX6_isFact_2 0 rfl rfl)
theorem dX6_isFact_51 : decode cX6_isFact 51 = .ok (.iconst 1, 1) := dk_4 (dk_at dksX6_isFact_2 3 rfl rfl)
theorem dX6_isFact_52 : decode cX6_isFact 52 = .ok (.goto 4, 3) := dk_167 0 4 (dk_at dksX6_isFact_2 4 rfl rfl)
theorem dX6_isFact_55 : decode cX6_isFact 55 = .ok (.iconst 0, 1) := dk_3 (dk_at dksX6_isFact_2 7 rfl rfl)
theorem dX6_isFact_56 : decode cX6_isFact 56 = .ok (.ireturn, 1) := dk_172 (dk_at dksX6_isFact_2 8 rfl rfl)
abbrev cX6_isPredicate : ByteArray := prog_28_method_8_code
def yX6_isPredicate : MethodName := ⟨RX6, "isPredicate", "(I)Z"⟩
def dkwX6_isPredicate_0 : List UInt8 := [26, 16, 97, 16, 104, 184, 0, 77, 172]
abbrev dktX6_isPredicate_0 : List UInt8 := dkwX6_isPredicate_0 ++ []
theorem dksX6_isPredicate_0 : cX6_isPredicate.data.toList.drop 0 = dktX6_isPredicate_0 := by decide +kernel
theorem dX6_isPredicate_0 : decode cX6_isPredicate 0 = .ok (.iload_n 0, 1) := dk_26 (dk_at dksX6_isPredicate_0 0 rfl rfl)
theorem dX6_isPredicate_1 : decode cX6_isPredicate 1 = .ok (.bipush 97, 2) := dk_16 97 (dk_at dksX6_isPredicate_0 1 rfl rfl)
theorem dX6_isPredicate_3 : decode cX6_isPredicate 3 = .ok (.bipush 104, 2) := dk_16 104 (dk_at dksX6_isPredicate_0 3 rfl rfl)
theorem dX6_isPredicate_5 : decode cX6_isPredicate 5 = .ok (.invokestatic 77, 3) := dk_184 0 77 (dk_at dksX6_isPredicate_0 5 rfl rfl)
theorem dX6_isPredicate_8 : decode cX6_isPredicate 8 = .ok (.ireturn, 1) := dk_172 (dk_at dksX6_isPredicate_0 8 rfl rfl)
abbrev cX6_isIn : ByteArray := prog_28_method_3_code
def yX6_isIn : MethodName := ⟨RX6, "isIn", "(III)Z"⟩
def dkwX6_isIn_0 : List UInt8 := [26, 27, 161, 0, 12, 26, 28, 163, 0, 7, 4, 167, 0, 4, 3, 172]
abbrev dktX6_isIn_0 : List UInt8 := dkwX6_isIn_0 ++ []
theorem dksX6_isIn_0 : cX6_isIn.data.toList.drop 0 = dktX6_isIn_0 := by decide +kernel
theorem dX6_isIn_0 : decode cX6_isIn 0 = .ok (.iload_n 0, 1) := dk_26 (dk_at dksX6_isIn_0 0 rfl rfl)
theorem dX6_isIn_1 : decode cX6_isIn 1 = .ok (.iload_n 1, 1) := dk_27 (dk_at dksX6_isIn_0 1 rfl rfl)
theorem dX6_isIn_2 : decode cX6_isIn 2 = .ok (.if_icmp .lt 12, 3) := dk_161 0 12 (dk_at dksX6_isIn_0 2 rfl rfl)
theorem dX6_isIn_5 : decode cX6_isIn 5 = .ok (.iload_n 0, 1) := dk_26 (dk_at dksX6_isIn_0 5 rfl rfl)
theorem dX6_isIn_6 : decode cX6_isIn 6 = .ok (.iload_n 2, 1) := dk_28 (dk_at dksX6_isIn_0 6 rfl rfl)
theorem dX6_isIn_7 : decode cX6_isIn 7 = .ok (.if_icmp .gt 7, 3) := dk_163 0 7 (dk_at dksX6_isIn_0 7 rfl rfl)
theorem dX6_isIn_10 : decode cX6_isIn 10 = .ok (.iconst 1, 1) := dk_4 (dk_at dksX6_isIn_0 10 rfl rfl)
theorem dX6_isIn_11 : decode cX6_isIn 11 = .ok (.goto 4, 3) := dk_167 0 4 (dk_at dksX6_isIn_0 11 rfl rfl)
theorem dX6_isIn_14 : decode cX6_isIn 14 = .ok (.iconst 0, 1) := dk_3 (dk_at dksX6_isIn_0 14 rfl rfl)
theorem dX6_isIn_15 : decode cX6_isIn 15 = .ok (.ireturn, 1) := dk_172 (dk_at dksX6_isIn_0 15 rfl rfl)
abbrev cX6_isThrown : ByteArray := prog_28_method_7_code
def yX6_isThrown : MethodName := ⟨RX6, "isThrown", "(ZI)Z"⟩
def dkwX6_isThrown_0 : List UInt8 := [42, 27, 153, 0, 7, 28, 167, 0, 4, 3, 181, 0, 63, 27, 172]
abbrev dktX6_isThrown_0 : List UInt8 := dkwX6_isThrown_0 ++ []
theorem dksX6_isThrown_0 : cX6_isThrown.data.toList.drop 0 = dktX6_isThrown_0 := by decide +kernel
theorem dX6_isThrown_0 : decode cX6_isThrown 0 = .ok (.aload_n 0, 1) := dk_42 (dk_at dksX6_isThrown_0 0 rfl rfl)
theorem dX6_isThrown_1 : decode cX6_isThrown 1 = .ok (.iload_n 1, 1) := dk_27 (dk_at dksX6_isThrown_0 1 rfl rfl)
theorem dX6_isThrown_2 : decode cX6_isThrown 2 = .ok (.ifCond .eq 7, 3) := dk_153 0 7 (dk_at dksX6_isThrown_0 2 rfl rfl)
theorem dX6_isThrown_5 : decode cX6_isThrown 5 = .ok (.iload_n 2, 1) := dk_28 (dk_at dksX6_isThrown_0 5 rfl rfl)
theorem dX6_isThrown_6 : decode cX6_isThrown 6 = .ok (.goto 4, 3) := dk_167 0 4 (dk_at dksX6_isThrown_0 6 rfl rfl)
theorem dX6_isThrown_9 : decode cX6_isThrown 9 = .ok (.iconst 0, 1) := dk_3 (dk_at dksX6_isThrown_0 9 rfl rfl)
theorem dX6_isThrown_10 : decode cX6_isThrown 10 = .ok (.putfield 63, 3) := dk_181 0 63 (dk_at dksX6_isThrown_0 10 rfl rfl)
theorem dX6_isThrown_13 : decode cX6_isThrown 13 = .ok (.iload_n 1, 1) := dk_27 (dk_at dksX6_isThrown_0 13 rfl rfl)
theorem dX6_isThrown_14 : decode cX6_isThrown 14 = .ok (.ireturn, 1) := dk_172 (dk_at dksX6_isThrown_0 14 rfl rfl)
abbrev cX6_factOf : ByteArray := prog_28_method_12_code
def yX6_factOf : MethodName := ⟨RX6, "factOf", "(III)I"⟩
def dkwX6_factOf_0 : List UInt8 := [26, 16, 97, 100, 27, 28, 184, 0, 88, 172]
abbrev dktX6_factOf_0 : List UInt8 := dkwX6_factOf_0 ++ []
theorem dksX6_factOf_0 : cX6_factOf.data.toList.drop 0 = dktX6_factOf_0 := by decide +kernel
theorem dX6_factOf_0 : decode cX6_factOf 0 = .ok (.iload_n 0, 1) := dk_26 (dk_at dksX6_factOf_0 0 rfl rfl)
theorem dX6_factOf_1 : decode cX6_factOf 1 = .ok (.bipush 97, 2) := dk_16 97 (dk_at dksX6_factOf_0 1 rfl rfl)
theorem dX6_factOf_3 : decode cX6_factOf 3 = .ok (.isub, 1) := dk_100 (dk_at dksX6_factOf_0 3 rfl rfl)
theorem dX6_factOf_4 : decode cX6_factOf 4 = .ok (.iload_n 1, 1) := dk_27 (dk_at dksX6_factOf_0 4 rfl rfl)
theorem dX6_factOf_5 : decode cX6_factOf 5 = .ok (.iload_n 2, 1) := dk_28 (dk_at dksX6_factOf_0 5 rfl rfl)
theorem dX6_factOf_6 : decode cX6_factOf 6 = .ok (.invokestatic 88, 3) := dk_184 0 88 (dk_at dksX6_factOf_0 6 rfl rfl)
theorem dX6_factOf_9 : decode cX6_factOf 9 = .ok (.ireturn, 1) := dk_172 (dk_at dksX6_factOf_0 9 rfl rfl)
abbrev cX6_fact : ByteArray := prog_28_method_11_code
def yX6_fact : MethodName := ⟨RX6, "fact", "(III)I"⟩
def dkwX6_fact_1 : List UInt8 := [16, 10, 26, 7, 100, 104, 96, 27, 96, 172]
abbrev dktX6_fact_1 : List UInt8 := dkwX6_fact_1 ++ []
def dkwX6_fact_0 : List UInt8 := [26, 184, 0, 85, 153, 0, 17, 16, 100, 26, 104, 16, 10, 27, 104, 96, 28, 96, 167, 0, 15, 17, 1, 144]
abbrev dktX6_fact_0 : List UInt8 := dkwX6_fact_0 ++ dktX6_fact_1
theorem dksX6_fact_0 : cX6_fact.data.toList.drop 0 = dktX6_fact_0 := by decide +kernel
theorem dksX6_fact_1 : cX6_fact.data.toList.drop 24 = dktX6_fact_1 := dk_seg dksX6_fact_0 24 rfl rfl
theorem dX6_fact_0 : decode cX6_fact 0 = .ok (.iload_n 0, 1) := dk_26 (dk_at dksX6_fact_0 0 rfl rfl)
theorem dX6_fact_1 : decode cX6_fact 1 = .ok (.invokestatic 85, 3) := dk_184 0 85 (dk_at dksX6_fact_0 1 rfl rfl)
theorem dX6_fact_4 : decode cX6_fact 4 = .ok (.ifCond .eq 17, 3) := dk_153 0 17 (dk_at dksX6_fact_0 4 rfl rfl)
theorem dX6_fact_7 : decode cX6_fact 7 = .ok (.bipush 100, 2) := dk_16 100 (dk_at dksX6_fact_0 7 rfl rfl)
theorem dX6_fact_9 : decode cX6_fact 9 = .ok (.iload_n 0, 1) := dk_26 (dk_at dksX6_fact_0 9 rfl rfl)
theorem dX6_fact_10 : decode cX6_fact 10 = .ok (.imul, 1) := dk_104 (dk_at dksX6_fact_0 10 rfl rfl)
theorem dX6_fact_11 : decode cX6_fact 11 = .ok (.bipush 10, 2) := dk_16 10 (dk_at dksX6_fact_0 11 rfl rfl)
theorem dX6_fact_13 : decode cX6_fact 13 = .ok (.iload_n 1, 1) := dk_27 (dk_at dksX6_fact_0 13 rfl rfl)
theorem dX6_fact_14 : decode cX6_fact 14 = .ok (.imul, 1) := dk_104 (dk_at dksX6_fact_0 14 rfl rfl)
theorem dX6_fact_15 : decode cX6_fact 15 = .ok (.iadd, 1) := dk_96 (dk_at dksX6_fact_0 15 rfl rfl)
theorem dX6_fact_16 : decode cX6_fact 16 = .ok (.iload_n 2, 1) := dk_28 (dk_at dksX6_fact_0 16 rfl rfl)
theorem dX6_fact_17 : decode cX6_fact 17 = .ok (.iadd, 1) := dk_96 (dk_at dksX6_fact_0 17 rfl rfl)
theorem dX6_fact_18 : decode cX6_fact 18 = .ok (.goto 15, 3) := dk_167 0 15 (dk_at dksX6_fact_0 18 rfl rfl)
theorem dX6_fact_21 : decode cX6_fact 21 = .ok (.sipush 400, 3) := dk_17 1 144 (dk_at dksX6_fact_0 21 rfl rfl)
theorem dX6_fact_24 : decode cX6_fact 24 = .ok (.bipush 10, 2) := dk_16 10 (dk_at dksX6_fact_1 0 rfl rfl)
theorem dX6_fact_26 : decode cX6_fact 26 = .ok (.iload_n 0, 1) := dk_26 (dk_at dksX6_fact_1 2 rfl rfl)
theorem dX6_fact_27 : decode cX6_fact 27 = .ok (.iconst 4, 1) := dk_7 (dk_at dksX6_fact_1 3 rfl rfl)
theorem dX6_fact_28 : decode cX6_fact 28 = .ok (.isub, 1) := dk_100 (dk_at dksX6_fact_1 4 rfl rfl)
theorem dX6_fact_29 : decode cX6_fact 29 = .ok (.imul, 1) := dk_104 (dk_at dksX6_fact_1 5 rfl rfl)
theorem dX6_fact_30 : decode cX6_fact 30 = .ok (.iadd, 1) := dk_96 (dk_at dksX6_fact_1 6 rfl rfl)
theorem dX6_fact_31 : decode cX6_fact 31 = .ok (.iload_n 1, 1) := dk_27 (dk_at dksX6_fact_1 7 rfl rfl)
theorem dX6_fact_32 : decode cX6_fact 32 = .ok (.iadd, 1) := dk_96 (dk_at dksX6_fact_1 8 rfl rfl)
theorem dX6_fact_33 : decode cX6_fact 33 = .ok (.ireturn, 1) := dk_172 (dk_at dksX6_fact_1 9 rfl rfl)
abbrev cX6_isPair : ByteArray := prog_28_method_9_code
def yX6_isPair : MethodName := ⟨RX6, "isPair", "(I)Z"⟩
def dkwX6_isPair_0 : List UInt8 := [26, 7, 162, 0, 7, 4, 167, 0, 4, 3, 172]
abbrev dktX6_isPair_0 : List UInt8 := dkwX6_isPair_0 ++ []
theorem dksX6_isPair_0 : cX6_isPair.data.toList.drop 0 = dktX6_isPair_0 := by decide +kernel
theorem dX6_isPair_0 : decode cX6_isPair 0 = .ok (.iload_n 0, 1) := dk_26 (dk_at dksX6_isPair_0 0 rfl rfl)
theorem dX6_isPair_1 : decode cX6_isPair 1 = .ok (.iconst 4, 1) := dk_7 (dk_at dksX6_isPair_0 1 rfl rfl)
theorem dX6_isPair_2 : decode cX6_isPair 2 = .ok (.if_icmp .ge 7, 3) := dk_162 0 7 (dk_at dksX6_isPair_0 2 rfl rfl)
theorem dX6_isPair_5 : decode cX6_isPair 5 = .ok (.iconst 1, 1) := dk_4 (dk_at dksX6_isPair_0 5 rfl rfl)
theorem dX6_isPair_6 : decode cX6_isPair 6 = .ok (.goto 4, 3) := dk_167 0 4 (dk_at dksX6_isPair_0 6 rfl rfl)
theorem dX6_isPair_9 : decode cX6_isPair 9 = .ok (.iconst 0, 1) := dk_3 (dk_at dksX6_isPair_0 9 rfl rfl)
theorem dX6_isPair_10 : decode cX6_isPair 10 = .ok (.ireturn, 1) := dk_172 (dk_at dksX6_isPair_0 10 rfl rfl)
abbrev cX6_ends : ByteArray := prog_28_method_6_code
def yX6_ends : MethodName := ⟨RX6, "ends", "(I)I"⟩
def dkwX6_ends_4 : List UInt8 := [4, 96, 181, 0, 74, 27, 172]
abbrev dktX6_ends_4 : List UInt8 := dkwX6_ends_4 ++ []
def dkwX6_ends_3 : List UInt8 := [180, 0, 13, 3, 42, 180, 0, 19, 17, 4, 104, 42, 180, 0, 74, 104, 184, 0, 66, 42, 89, 180, 0, 74]
abbrev dktX6_ends_3 : List UInt8 := dkwX6_ends_3 ++ dktX6_ends_4
def dkwX6_ends_2 : List UInt8 := [4, 100, 104, 184, 0, 66, 132, 2, 1, 167, 255, 224, 42, 89, 180, 0, 74, 4, 100, 181, 0, 74, 42]
abbrev dktX6_ends_2 : List UInt8 := dkwX6_ends_2 ++ dktX6_ends_3
def dkwX6_ends_1 : List UInt8 := [61, 28, 16, 8, 162, 0, 32, 42, 180, 0, 19, 17, 4, 104, 28, 104, 42, 180, 0, 19, 17, 4, 104, 28]
abbrev dktX6_ends_1 : List UInt8 := dkwX6_ends_1 ++ dktX6_ends_2
def dkwX6_ends_0 : List UInt8 := [42, 3, 181, 0, 70, 42, 180, 0, 63, 153, 0, 5, 3, 172, 42, 180, 0, 74, 16, 8, 160, 0, 50, 4]
abbrev dktX6_ends_0 : List UInt8 := dkwX6_ends_0 ++ dktX6_ends_1
theorem dksX6_ends_0 : cX6_ends.data.toList.drop 0 = dktX6_ends_0 := by decide +kernel
theorem dksX6_ends_1 : cX6_ends.data.toList.drop 24 = dktX6_ends_1 := dk_seg dksX6_ends_0 24 rfl rfl
theorem dksX6_ends_2 : cX6_ends.data.toList.drop 48 = dktX6_ends_2 := dk_seg dksX6_ends_1 24 rfl rfl
theorem dksX6_ends_3 : cX6_ends.data.toList.drop 71 = dktX6_ends_3 := dk_seg dksX6_ends_2 23 rfl rfl
theorem dksX6_ends_4 : cX6_ends.data.toList.drop 95 = dktX6_ends_4 := dk_seg dksX6_ends_3 24 rfl rfl
theorem dX6_ends_0 : decode cX6_ends 0 = .ok (.aload_n 0, 1) := dk_42 (dk_at dksX6_ends_0 0 rfl rfl)
theorem dX6_ends_1 : decode cX6_ends 1 = .ok (.iconst 0, 1) := dk_3 (dk_at dksX6_ends_0 1 rfl rfl)
theorem dX6_ends_2 : decode cX6_ends 2 = .ok (.putfield 70, 3) := dk_181 0 70 (dk_at dksX6_ends_0 2 rfl rfl)
theorem dX6_ends_5 : decode cX6_ends 5 = .ok (.aload_n 0, 1) := dk_42 (dk_at dksX6_ends_0 5 rfl rfl)
theorem dX6_ends_6 : decode cX6_ends 6 = .ok (.getfield 63, 3) := dk_180 0 63 (dk_at dksX6_ends_0 6 rfl rfl)
theorem dX6_ends_9 : decode cX6_ends 9 = .ok (.ifCond .eq 5, 3) := dk_153 0 5 (dk_at dksX6_ends_0 9 rfl rfl)
theorem dX6_ends_12 : decode cX6_ends 12 = .ok (.iconst 0, 1) := dk_3 (dk_at dksX6_ends_0 12 rfl rfl)
theorem dX6_ends_13 : decode cX6_ends 13 = .ok (.ireturn, 1) := dk_172 (dk_at dksX6_ends_0 13 rfl rfl)
theorem dX6_ends_14 : decode cX6_ends 14 = .ok (.aload_n 0, 1) := dk_42 (dk_at dksX6_ends_0 14 rfl rfl)
theorem dX6_ends_15 : decode cX6_ends 15 = .ok (.getfield 74, 3) := dk_180 0 74 (dk_at dksX6_ends_0 15 rfl rfl)
theorem dX6_ends_18 : decode cX6_ends 18 = .ok (.bipush 8, 2) := dk_16 8 (dk_at dksX6_ends_0 18 rfl rfl)
theorem dX6_ends_20 : decode cX6_ends 20 = .ok (.if_icmp .ne 50, 3) := dk_160 0 50 (dk_at dksX6_ends_0 20 rfl rfl)
theorem dX6_ends_23 : decode cX6_ends 23 = .ok (.iconst 1, 1) := dk_4 (dk_at dksX6_ends_0 23 rfl rfl)
theorem dX6_ends_24 : decode cX6_ends 24 = .ok (.istore_n 2, 1) := dk_61 (dk_at dksX6_ends_1 0 rfl rfl)
theorem dX6_ends_25 : decode cX6_ends 25 = .ok (.iload_n 2, 1) := dk_28 (dk_at dksX6_ends_1 1 rfl rfl)
theorem dX6_ends_26 : decode cX6_ends 26 = .ok (.bipush 8, 2) := dk_16 8 (dk_at dksX6_ends_1 2 rfl rfl)
theorem dX6_ends_28 : decode cX6_ends 28 = .ok (.if_icmp .ge 32, 3) := dk_162 0 32 (dk_at dksX6_ends_1 4 rfl rfl)
theorem dX6_ends_31 : decode cX6_ends 31 = .ok (.aload_n 0, 1) := dk_42 (dk_at dksX6_ends_1 7 rfl rfl)
theorem dX6_ends_32 : decode cX6_ends 32 = .ok (.getfield 19, 3) := dk_180 0 19 (dk_at dksX6_ends_1 8 rfl rfl)
theorem dX6_ends_35 : decode cX6_ends 35 = .ok (.sipush 1128, 3) := dk_17 4 104 (dk_at dksX6_ends_1 11 rfl rfl)
theorem dX6_ends_38 : decode cX6_ends 38 = .ok (.iload_n 2, 1) := dk_28 (dk_at dksX6_ends_1 14 rfl rfl)
theorem dX6_ends_39 : decode cX6_ends 39 = .ok (.imul, 1) := dk_104 (dk_at dksX6_ends_1 15 rfl rfl)
theorem dX6_ends_40 : decode cX6_ends 40 = .ok (.aload_n 0, 1) := dk_42 (dk_at dksX6_ends_1 16 rfl rfl)
theorem dX6_ends_41 : decode cX6_ends 41 = .ok (.getfield 19, 3) := dk_180 0 19 (dk_at dksX6_ends_1 17 rfl rfl)
theorem dX6_ends_44 : decode cX6_ends 44 = .ok (.sipush 1128, 3) := dk_17 4 104 (dk_at dksX6_ends_1 20 rfl rfl)
theorem dX6_ends_47 : decode cX6_ends 47 = .ok (.iload_n 2, 1) := dk_28 (dk_at dksX6_ends_1 23 rfl rfl)
theorem dX6_ends_48 : decode cX6_ends 48 = .ok (.iconst 1, 1) := dk_4 (dk_at dksX6_ends_2 0 rfl rfl)
theorem dX6_ends_49 : decode cX6_ends 49 = .ok (.isub, 1) := dk_100 (dk_at dksX6_ends_2 1 rfl rfl)
theorem dX6_ends_50 : decode cX6_ends 50 = .ok (.imul, 1) := dk_104 (dk_at dksX6_ends_2 2 rfl rfl)
theorem dX6_ends_51 : decode cX6_ends 51 = .ok (.invokestatic 66, 3) := dk_184 0 66 (dk_at dksX6_ends_2 3 rfl rfl)
theorem dX6_ends_54 : decode cX6_ends 54 = .ok (.iinc 2 1, 3) := dk_132 2 1 (dk_at dksX6_ends_2 6 rfl rfl)
theorem dX6_ends_57 : decode cX6_ends 57 = .ok (.goto (-32), 3) := dk_167 255 224 (dk_at dksX6_ends_2 9 rfl rfl)
theorem dX6_ends_60 : decode cX6_ends 60 = .ok (.aload_n 0, 1) := dk_42 (dk_at dksX6_ends_2 12 rfl rfl)
theorem dX6_ends_61 : decode cX6_ends 61 = .ok (.dup, 1) := dk_89 (dk_at dksX6_ends_2 13 rfl rfl)
theorem dX6_ends_62 : decode cX6_ends 62 = .ok (.getfield 74, 3) := dk_180 0 74 (dk_at dksX6_ends_2 14 rfl rfl)
theorem dX6_ends_65 : decode cX6_ends 65 = .ok (.iconst 1, 1) := dk_4 (dk_at dksX6_ends_2 17 rfl rfl)
theorem dX6_ends_66 : decode cX6_ends 66 = .ok (.isub, 1) := dk_100 (dk_at dksX6_ends_2 18 rfl rfl)
theorem dX6_ends_67 : decode cX6_ends 67 = .ok (.putfield 74, 3) := dk_181 0 74 (dk_at dksX6_ends_2 19 rfl rfl)
theorem dX6_ends_70 : decode cX6_ends 70 = .ok (.aload_n 0, 1) := dk_42 (dk_at dksX6_ends_2 22 rfl rfl)
theorem dX6_ends_71 : decode cX6_ends 71 = .ok (.getfield 13, 3) := dk_180 0 13 (dk_at dksX6_ends_3 0 rfl rfl)
theorem dX6_ends_74 : decode cX6_ends 74 = .ok (.iconst 0, 1) := dk_3 (dk_at dksX6_ends_3 3 rfl rfl)
theorem dX6_ends_75 : decode cX6_ends 75 = .ok (.aload_n 0, 1) := dk_42 (dk_at dksX6_ends_3 4 rfl rfl)
theorem dX6_ends_76 : decode cX6_ends 76 = .ok (.getfield 19, 3) := dk_180 0 19 (dk_at dksX6_ends_3 5 rfl rfl)
theorem dX6_ends_79 : decode cX6_ends 79 = .ok (.sipush 1128, 3) := dk_17 4 104 (dk_at dksX6_ends_3 8 rfl rfl)
theorem dX6_ends_82 : decode cX6_ends 82 = .ok (.aload_n 0, 1) := dk_42 (dk_at dksX6_ends_3 11 rfl rfl)
theorem dX6_ends_83 : decode cX6_ends 83 = .ok (.getfield 74, 3) := dk_180 0 74 (dk_at dksX6_ends_3 12 rfl rfl)
theorem dX6_ends_86 : decode cX6_ends 86 = .ok (.imul, 1) := dk_104 (dk_at dksX6_ends_3 15 rfl rfl)
theorem dX6_ends_87 : decode cX6_ends 87 = .ok (.invokestatic 66, 3) := dk_184 0 66 (dk_at dksX6_ends_3 16 rfl rfl)
theorem dX6_ends_90 : decode cX6_ends 90 = .ok (.aload_n 0, 1) := dk_42 (dk_at dksX6_ends_3 19 rfl rfl)
theorem dX6_ends_91 : decode cX6_ends 91 = .ok (.dup, 1) := dk_89 (dk_at dksX6_ends_3 20 rfl rfl)
theorem dX6_ends_92 : decode cX6_ends 92 = .ok (.getfield 74, 3) := dk_180 0 74 (dk_at dksX6_ends_3 21 rfl rfl)
theorem dX6_ends_95 : decode cX6_ends 95 = .ok (.iconst 1, 1) := dk_4 (dk_at dksX6_ends_4 0 rfl rfl)
theorem dX6_ends_96 : decode cX6_ends 96 = .ok (.iadd, 1) := dk_96 (dk_at dksX6_ends_4 1 rfl rfl)
theorem dX6_ends_97 : decode cX6_ends 97 = .ok (.putfield 74, 3) := dk_181 0 74 (dk_at dksX6_ends_4 2 rfl rfl)
theorem dX6_ends_100 : decode cX6_ends 100 = .ok (.iload_n 1, 1) := dk_27 (dk_at dksX6_ends_4 5 rfl rfl)
theorem dX6_ends_101 : decode cX6_ends 101 = .ok (.ireturn, 1) := dk_172 (dk_at dksX6_ends_4 6 rfl rfl)
abbrev cX6_takeFact : ByteArray := prog_28_method_46_code
def yX6_takeFact : MethodName := ⟨RX6, "takeFact", "(CII)I"⟩
def dkwX6_takeFact_1 : List UInt8 := [153, 0, 7, 3, 167, 0, 8, 42, 4, 182, 0, 192, 182, 0, 177, 172]
abbrev dktX6_takeFact_1 : List UInt8 := dkwX6_takeFact_1 ++ []
def dkwX6_takeFact_0 : List UInt8 := [42, 182, 0, 183, 42, 182, 0, 171, 42, 42, 27, 28, 29, 182, 0, 186, 181, 0, 189, 42, 42, 180, 0, 63]
abbrev dktX6_takeFact_0 : List UInt8 := dkwX6_takeFact_0 ++ dktX6_takeFact_1
theorem dksX6_takeFact_0 : cX6_takeFact.data.toList.drop 0 = dktX6_takeFact_0 := by decide +kernel
theorem dksX6_takeFact_1 : cX6_takeFact.data.toList.drop 24 = dktX6_takeFact_1 := dk_seg dksX6_takeFact_0 24 rfl rfl
theorem dX6_takeFact_0 : decode cX6_takeFact 0 = .ok (.aload_n 0, 1) := dk_42 (dk_at dksX6_takeFact_0 0 rfl rfl)
theorem dX6_takeFact_1 : decode cX6_takeFact 1 = .ok (.invokevirtual 183, 3) := dk_182 0 183 (dk_at dksX6_takeFact_0 1 rfl rfl)
theorem dX6_takeFact_4 : decode cX6_takeFact 4 = .ok (.aload_n 0, 1) := dk_42 (dk_at dksX6_takeFact_0 4 rfl rfl)
theorem dX6_takeFact_5 : decode cX6_takeFact 5 = .ok (.invokevirtual 171, 3) := dk_182 0 171 (dk_at dksX6_takeFact_0 5 rfl rfl)
theorem dX6_takeFact_8 : decode cX6_takeFact 8 = .ok (.aload_n 0, 1) := dk_42 (dk_at dksX6_takeFact_0 8 rfl rfl)
theorem dX6_takeFact_9 : decode cX6_takeFact 9 = .ok (.aload_n 0, 1) := dk_42 (dk_at dksX6_takeFact_0 9 rfl rfl)
theorem dX6_takeFact_10 : decode cX6_takeFact 10 = .ok (.iload_n 1, 1) := dk_27 (dk_at dksX6_takeFact_0 10 rfl rfl)
theorem dX6_takeFact_11 : decode cX6_takeFact 11 = .ok (.iload_n 2, 1) := dk_28 (dk_at dksX6_takeFact_0 11 rfl rfl)
theorem dX6_takeFact_12 : decode cX6_takeFact 12 = .ok (.iload_n 3, 1) := dk_29 (dk_at dksX6_takeFact_0 12 rfl rfl)
theorem dX6_takeFact_13 : decode cX6_takeFact 13 = .ok (.invokevirtual 186, 3) := dk_182 0 186 (dk_at dksX6_takeFact_0 13 rfl rfl)
theorem dX6_takeFact_16 : decode cX6_takeFact 16 = .ok (.putfield 189, 3) := dk_181 0 189 (dk_at dksX6_takeFact_0 16 rfl rfl)
theorem dX6_takeFact_19 : decode cX6_takeFact 19 = .ok (.aload_n 0, 1) := dk_42 (dk_at dksX6_takeFact_0 19 rfl rfl)
theorem dX6_takeFact_20 : decode cX6_takeFact 20 = .ok (.aload_n 0, 1) := dk_42 (dk_at dksX6_takeFact_0 20 rfl rfl)
theorem dX6_takeFact_21 : decode cX6_takeFact 21 = .ok (.getfield 63, 3) := dk_180 0 63 (dk_at dksX6_takeFact_0 21 rfl rfl)
theorem dX6_takeFact_24 : decode cX6_takeFact 24 = .ok (.ifCond .eq 7, 3) := dk_153 0 7 (dk_at dksX6_takeFact_1 0 rfl rfl)
theorem dX6_takeFact_27 : decode cX6_takeFact 27 = .ok (.iconst 0, 1) := dk_3 (dk_at dksX6_takeFact_1 3 rfl rfl)
theorem dX6_takeFact_28 : decode cX6_takeFact 28 = .ok (.goto 8, 3) := dk_167 0 8 (dk_at dksX6_takeFact_1 4 rfl rfl)
theorem dX6_takeFact_31 : decode cX6_takeFact 31 = .ok (.aload_n 0, 1) := dk_42 (dk_at dksX6_takeFact_1 7 rfl rfl)
theorem dX6_takeFact_32 : decode cX6_takeFact 32 = .ok (.iconst 1, 1) := dk_4 (dk_at dksX6_takeFact_1 8 rfl rfl)
theorem dX6_takeFact_33 : decode cX6_takeFact 33 = .ok (.invokevirtual 192, 3) := dk_182 0 192 (dk_at dksX6_takeFact_1 9 rfl rfl)
theorem dX6_takeFact_36 : decode cX6_takeFact 36 = .ok (.invokevirtual 177, 3) := dk_182 0 177 (dk_at dksX6_takeFact_1 12 rfl rfl)
theorem dX6_takeFact_39 : decode cX6_takeFact 39 = .ok (.ireturn, 1) := dk_172 (dk_at dksX6_takeFact_1 15 rfl rfl)
abbrev cX6_remembers : ByteArray := prog_28_method_44_code
def yX6_remembers : MethodName := ⟨RX6, "remembers", "()V"⟩
def dkwX6_remembers_1 : List UInt8 := [84, 132, 1, 1, 167, 255, 234, 177]
abbrev dktX6_remembers_1 : List UInt8 := dkwX6_remembers_1 ++ []
def dkwX6_remembers_0 : List UInt8 := [42, 182, 0, 158, 3, 60, 27, 17, 1, 184, 162, 0, 21, 42, 180, 0, 41, 27, 42, 180, 0, 37, 27, 51]
abbrev dktX6_remembers_0 : List UInt8 := dkwX6_remembers_0 ++ dktX6_remembers_1
theorem dksX6_remembers_0 : cX6_remembers.data.toList.drop 0 = dktX6_remembers_0 := by decide +kernel
theorem dksX6_remembers_1 : cX6_remembers.data.toList.drop 24 = dktX6_remembers_1 := dk_seg dksX6_remembers_0 24 rfl rfl
theorem dX6_remembers_0 : decode cX6_remembers 0 = .ok (.aload_n 0, 1) := dk_42 (dk_at dksX6_remembers_0 0 rfl rfl)
theorem dX6_remembers_1 : decode cX6_remembers 1 = .ok (.invokevirtual 158, 3) := dk_182 0 158 (dk_at dksX6_remembers_0 1 rfl rfl)
theorem dX6_remembers_4 : decode cX6_remembers 4 = .ok (.iconst 0, 1) := dk_3 (dk_at dksX6_remembers_0 4 rfl rfl)
theorem dX6_remembers_5 : decode cX6_remembers 5 = .ok (.istore_n 1, 1) := dk_60 (dk_at dksX6_remembers_0 5 rfl rfl)
theorem dX6_remembers_6 : decode cX6_remembers 6 = .ok (.iload_n 1, 1) := dk_27 (dk_at dksX6_remembers_0 6 rfl rfl)
theorem dX6_remembers_7 : decode cX6_remembers 7 = .ok (.sipush 440, 3) := dk_17 1 184 (dk_at dksX6_remembers_0 7 rfl rfl)
theorem dX6_remembers_10 : decode cX6_remembers 10 = .ok (.if_icmp .ge 21, 3) := dk_162 0 21 (dk_at dksX6_remembers_0 10 rfl rfl)
theorem dX6_remembers_13 : decode cX6_remembers 13 = .ok (.aload_n 0, 1) := dk_42 (dk_at dksX6_remembers_0 13 rfl rfl)
theorem dX6_remembers_14 : decode cX6_remembers 14 = .ok (.getfield 41, 3) := dk_180 0 41 (dk_at dksX6_remembers_0 14 rfl rfl)
theorem dX6_remembers_17 : decode cX6_remembers 17 = .ok (.iload_n 1, 1) := dk_27 (dk_at dksX6_remembers_0 17 rfl rfl)
theorem dX6_remembers_18 : decode cX6_remembers 18 = .ok (.aload_n 0, 1) := dk_42 (dk_at dksX6_remembers_0 18 rfl rfl)
theorem dX6_remembers_19 : decode cX6_remembers 19 = .ok (.getfield 37, 3) := dk_180 0 37 (dk_at dksX6_remembers_0 19 rfl rfl)
theorem dX6_remembers_22 : decode cX6_remembers 22 = .ok (.iload_n 1, 1) := dk_27 (dk_at dksX6_remembers_0 22 rfl rfl)
theorem dX6_remembers_23 : decode cX6_remembers 23 = .ok (.baload, 1) := dk_51 (dk_at dksX6_remembers_0 23 rfl rfl)
theorem dX6_remembers_24 : decode cX6_remembers 24 = .ok (.bastore, 1) := dk_84 (dk_at dksX6_remembers_1 0 rfl rfl)
theorem dX6_remembers_25 : decode cX6_remembers 25 = .ok (.iinc 1 1, 3) := dk_132 1 1 (dk_at dksX6_remembers_1 1 rfl rfl)
theorem dX6_remembers_28 : decode cX6_remembers 28 = .ok (.goto (-22), 3) := dk_167 255 234 (dk_at dksX6_remembers_1 4 rfl rfl)
theorem dX6_remembers_31 : decode cX6_remembers 31 = .ok (.return_, 1) := dk_177 (dk_at dksX6_remembers_1 7 rfl rfl)
abbrev cX6_finds : ByteArray := prog_28_method_38_code
def yX6_finds : MethodName := ⟨RX6, "finds", "()V"⟩
def dkwX6_finds_0 : List UInt8 := [42, 180, 0, 70, 154, 0, 16, 42, 182, 0, 152, 42, 182, 0, 155, 42, 4, 181, 0, 70, 177]
abbrev dktX6_finds_0 : List UInt8 := dkwX6_finds_0 ++ []
theorem dksX6_finds_0 : cX6_finds.data.toList.drop 0 = dktX6_finds_0 := by decide +kernel
theorem dX6_finds_0 : decode cX6_finds 0 = .ok (.aload_n 0, 1) := dk_42 (dk_at dksX6_finds_0 0 rfl rfl)
theorem dX6_finds_1 : decode cX6_finds 1 = .ok (.getfield 70, 3) := dk_180 0 70 (dk_at dksX6_finds_0 1 rfl rfl)
theorem dX6_finds_4 : decode cX6_finds 4 = .ok (.ifCond .ne 16, 3) := dk_154 0 16 (dk_at dksX6_finds_0 4 rfl rfl)
theorem dX6_finds_7 : decode cX6_finds 7 = .ok (.aload_n 0, 1) := dk_42 (dk_at dksX6_finds_0 7 rfl rfl)
theorem dX6_finds_8 : decode cX6_finds 8 = .ok (.invokevirtual 152, 3) := dk_182 0 152 (dk_at dksX6_finds_0 8 rfl rfl)
theorem dX6_finds_11 : decode cX6_finds 11 = .ok (.aload_n 0, 1) := dk_42 (dk_at dksX6_finds_0 11 rfl rfl)
theorem dX6_finds_12 : decode cX6_finds 12 = .ok (.invokevirtual 155, 3) := dk_182 0 155 (dk_at dksX6_finds_0 12 rfl rfl)
theorem dX6_finds_15 : decode cX6_finds 15 = .ok (.aload_n 0, 1) := dk_42 (dk_at dksX6_finds_0 15 rfl rfl)
theorem dX6_finds_16 : decode cX6_finds 16 = .ok (.iconst 1, 1) := dk_4 (dk_at dksX6_finds_0 16 rfl rfl)
theorem dX6_finds_17 : decode cX6_finds 17 = .ok (.putfield 70, 3) := dk_181 0 70 (dk_at dksX6_finds_0 17 rfl rfl)
theorem dX6_finds_20 : decode cX6_finds 20 = .ok (.return_, 1) := dk_177 (dk_at dksX6_finds_0 20 rfl rfl)
abbrev cX6_derives : ByteArray := prog_28_method_33_code
def yX6_derives : MethodName := ⟨RX6, "derives", "()V"⟩
def dkwX6_derives_4 : List UInt8 := [167, 0, 4, 3, 128, 61, 132, 3, 1, 167, 255, 212, 167, 255, 201, 132, 1, 1, 167, 255, 187, 177]
abbrev dktX6_derives_4 : List UInt8 := dkwX6_derives_4 ++ []
def dkwX6_derives_3 : List UInt8 := [42, 180, 0, 31, 42, 29, 3, 182, 0, 92, 46, 27, 160, 0, 15, 42, 29, 182, 0, 138, 153, 0, 7, 4]
abbrev dktX6_derives_3 : List UInt8 := dkwX6_derives_3 ++ dktX6_derives_4
def dkwX6_derives_2 : List UInt8 := [162, 0, 69, 4, 61, 28, 153, 0, 57, 3, 61, 3, 62, 29, 42, 180, 0, 9, 6, 46, 162, 0, 40, 28]
abbrev dktX6_derives_2 : List UInt8 := dkwX6_derives_2 ++ dktX6_derives_3
def dkwX6_derives_1 : List UInt8 := [96, 46, 4, 160, 0, 7, 4, 167, 0, 4, 3, 84, 132, 1, 1, 167, 255, 223, 3, 60, 27, 16, 8]
abbrev dktX6_derives_1 : List UInt8 := dkwX6_derives_1 ++ dktX6_derives_2
def dkwX6_derives_0 : List UInt8 := [42, 182, 0, 135, 3, 60, 27, 17, 1, 184, 162, 0, 32, 42, 180, 0, 37, 27, 42, 180, 0, 9, 7, 27]
abbrev dktX6_derives_0 : List UInt8 := dkwX6_derives_0 ++ dktX6_derives_1
theorem dksX6_derives_0 : cX6_derives.data.toList.drop 0 = dktX6_derives_0 := by decide +kernel
theorem dksX6_derives_1 : cX6_derives.data.toList.drop 24 = dktX6_derives_1 := dk_seg dksX6_derives_0 24 rfl rfl
theorem dksX6_derives_2 : cX6_derives.data.toList.drop 47 = dktX6_derives_2 := dk_seg dksX6_derives_1 23 rfl rfl
theorem dksX6_derives_3 : cX6_derives.data.toList.drop 71 = dktX6_derives_3 := dk_seg dksX6_derives_2 24 rfl rfl
theorem dksX6_derives_4 : cX6_derives.data.toList.drop 95 = dktX6_derives_4 := dk_seg dksX6_derives_3 24 rfl rfl
theorem dX6_derives_0 : decode cX6_derives 0 = .ok (.aload_n 0, 1) := dk_42 (dk_at dksX6_derives_0 0 rfl rfl)
theorem dX6_derives_1 : decode cX6_derives 1 = .ok (.invokevirtual 135, 3) := dk_182 0 135 (dk_at dksX6_derives_0 1 rfl rfl)
theorem dX6_derives_4 : decode cX6_derives 4 = .ok (.iconst 0, 1) := dk_3 (dk_at dksX6_derives_0 4 rfl rfl)
theorem dX6_derives_5 : decode cX6_derives 5 = .ok (.istore_n 1, 1) := dk_60 (dk_at dksX6_derives_0 5 rfl rfl)
theorem dX6_derives_6 : decode cX6_derives 6 = .ok (.iload_n 1, 1) := dk_27 (dk_at dksX6_derives_0 6 rfl rfl)
theorem dX6_derives_7 : decode cX6_derives 7 = .ok (.sipush 440, 3) := dk_17 1 184 (dk_at dksX6_derives_0 7 rfl rfl)
theorem dX6_derives_10 : decode cX6_derives 10 = .ok (.if_icmp .ge 32, 3) := dk_162 0 32 (dk_at dksX6_derives_0 10 rfl rfl)
theorem dX6_derives_13 : decode cX6_derives 13 = .ok (.aload_n 0, 1) := dk_42 (dk_at dksX6_derives_0 13 rfl rfl)
theorem dX6_derives_14 : decode cX6_derives 14 = .ok (.getfield 37, 3) := dk_180 0 37 (dk_at dksX6_derives_0 14 rfl rfl)
theorem dX6_derives_17 : decode cX6_derives 17 = .ok (.iload_n 1, 1) := dk_27 (dk_at dksX6_derives_0 17 rfl rfl)
theorem dX6_derives_18 : decode cX6_derives 18 = .ok (.aload_n 0, 1) := dk_42 (dk_at dksX6_derives_0 18 rfl rfl)
theorem dX6_derives_19 : decode cX6_derives 19 = .ok (.getfield 9, 3) := dk_180 0 9 (dk_at dksX6_derives_0 19 rfl rfl)
theorem dX6_derives_22 : decode cX6_derives 22 = .ok (.iconst 4, 1) := dk_7 (dk_at dksX6_derives_0 22 rfl rfl)
theorem dX6_derives_23 : decode cX6_derives 23 = .ok (.iload_n 1, 1) := dk_27 (dk_at dksX6_derives_0 23 rfl rfl)
theorem dX6_derives_24 : decode cX6_derives 24 = .ok (.iadd, 1) := dk_96 (dk_at dksX6_derives_1 0 rfl rfl)
theorem dX6_derives_25 : decode cX6_derives 25 = .ok (.iaload, 1) := dk_46 (dk_at dksX6_derives_1 1 rfl rfl)
theorem dX6_derives_26 : decode cX6_derives 26 = .ok (.iconst 1, 1) := dk_4 (dk_at dksX6_derives_1 2 rfl rfl)
theorem dX6_derives_27 : decode cX6_derives 27 = .ok (.if_icmp .ne 7, 3) := dk_160 0 7 (dk_at dksX6_derives_1 3 rfl rfl)
theorem dX6_derives_30 : decode cX6_derives 30 = .ok (.iconst 1, 1) := dk_4 (dk_at dksX6_derives_1 6 rfl rfl)
theorem dX6_derives_31 : decode cX6_derives 31 = .ok (.goto 4, 3) := dk_167 0 4 (dk_at dksX6_derives_1 7 rfl rfl)
theorem dX6_derives_34 : decode cX6_derives 34 = .ok (.iconst 0, 1) := dk_3 (dk_at dksX6_derives_1 10 rfl rfl)
theorem dX6_derives_35 : decode cX6_derives 35 = .ok (.bastore, 1) := dk_84 (dk_at dksX6_derives_1 11 rfl rfl)
theorem dX6_derives_36 : decode cX6_derives 36 = .ok (.iinc 1 1, 3) := dk_132 1 1 (dk_at dksX6_derives_1 12 rfl rfl)
theorem dX6_derives_39 : decode cX6_derives 39 = .ok (.goto (-33), 3) := dk_167 255 223 (dk_at dksX6_derives_1 15 rfl rfl)
theorem dX6_derives_42 : decode cX6_derives 42 = .ok (.iconst 0, 1) := dk_3 (dk_at dksX6_derives_1 18 rfl rfl)
theorem dX6_derives_43 : decode cX6_derives 43 = .ok (.istore_n 1, 1) := dk_60 (dk_at dksX6_derives_1 19 rfl rfl)
theorem dX6_derives_44 : decode cX6_derives 44 = .ok (.iload_n 1, 1) := dk_27 (dk_at dksX6_derives_1 20 rfl rfl)
theorem dX6_derives_45 : decode cX6_derives 45 = .ok (.bipush 8, 2) := dk_16 8 (dk_at dksX6_derives_1 21 rfl rfl)
theorem dX6_derives_47 : decode cX6_derives 47 = .ok (.if_icmp .ge 69, 3) := dk_162 0 69 (dk_at dksX6_derives_2 0 rfl rfl)
theorem dX6_derives_50 : decode cX6_derives 50 = .ok (.iconst 1, 1) := dk_4 (dk_at dksX6_derives_2 3 rfl rfl)
theorem dX6_derives_51 : decode cX6_derives 51 = .ok (.istore_n 2, 1) := dk_61 (dk_at dksX6_derives_2 4 rfl rfl)
theorem dX6_derives_52 : decode cX6_derives 52 = .ok (.iload_n 2, 1) := dk_28 (dk_at dksX6_derives_2 5 rfl rfl)
theorem dX6_derives_53 : decode cX6_derives 53 = .ok (.ifCond .eq 57, 3) := dk_153 0 57 (dk_at dksX6_derives_2 6 rfl rfl)
theorem dX6_derives_56 : decode cX6_derives 56 = .ok (.iconst 0, 1) := dk_3 (dk_at dksX6_derives_2 9 rfl rfl)
theorem dX6_derives_57 : decode cX6_derives 57 = .ok (.istore_n 2, 1) := dk_61 (dk_at dksX6_derives_2 10 rfl rfl)
theorem dX6_derives_58 : decode cX6_derives 58 = .ok (.iconst 0, 1) := dk_3 (dk_at dksX6_derives_2 11 rfl rfl)
theorem dX6_derives_59 : decode cX6_derives 59 = .ok (.istore_n 3, 1) := dk_62 (dk_at dksX6_derives_2 12 rfl rfl)
theorem dX6_derives_60 : decode cX6_derives 60 = .ok (.iload_n 3, 1) := dk_29 (dk_at dksX6_derives_2 13 rfl rfl)
theorem dX6_derives_61 : decode cX6_derives 61 = .ok (.aload_n 0, 1) := dk_42 (dk_at dksX6_derives_2 14 rfl rfl)
theorem dX6_derives_62 : decode cX6_derives 62 = .ok (.getfield 9, 3) := dk_180 0 9 (dk_at dksX6_derives_2 15 rfl rfl)
theorem dX6_derives_65 : decode cX6_derives 65 = .ok (.iconst 3, 1) := dk_6 (dk_at dksX6_derives_2 18 rfl rfl)
theorem dX6_derives_66 : decode cX6_derives 66 = .ok (.iaload, 1) := dk_46 (dk_at dksX6_derives_2 19 rfl rfl)
theorem dX6_derives_67 : decode cX6_derives 67 = .ok (.if_icmp .ge 40, 3) := dk_162 0 40 (dk_at dksX6_derives_2 20 rfl rfl)
theorem dX6_derives_70 : decode cX6_derives 70 = .ok (.iload_n 2, 1) := dk_28 (dk_at dksX6_derives_2 23 rfl rfl)
theorem dX6_derives_71 : decode cX6_derives 71 = .ok (.aload_n 0, 1) := dk_42 (dk_at dksX6_derives_3 0 rfl rfl)
theorem dX6_derives_72 : decode cX6_derives 72 = .ok (.getfield 31, 3) := dk_180 0 31 (dk_at dksX6_derives_3 1 rfl rfl)
theorem dX6_derives_75 : decode cX6_derives 75 = .ok (.aload_n 0, 1) := dk_42 (dk_at dksX6_derives_3 4 rfl rfl)
theorem dX6_derives_76 : decode cX6_derives 76 = .ok (.iload_n 3, 1) := dk_29 (dk_at dksX6_derives_3 5 rfl rfl)
theorem dX6_derives_77 : decode cX6_derives 77 = .ok (.iconst 0, 1) := dk_3 (dk_at dksX6_derives_3 6 rfl rfl)
theorem dX6_derives_78 : decode cX6_derives 78 = .ok (.invokevirtual 92, 3) := dk_182 0 92 (dk_at dksX6_derives_3 7 rfl rfl)
theorem dX6_derives_81 : decode cX6_derives 81 = .ok (.iaload, 1) := dk_46 (dk_at dksX6_derives_3 10 rfl rfl)
theorem dX6_derives_82 : decode cX6_derives 82 = .ok (.iload_n 1, 1) := dk_27 (dk_at dksX6_derives_3 11 rfl rfl)
theorem dX6_derives_83 : decode cX6_derives 83 = .ok (.if_icmp .ne 15, 3) := dk_160 0 15 (dk_at dksX6_derives_3 12 rfl rfl)
theorem dX6_derives_86 : decode cX6_derives 86 = .ok (.aload_n 0, 1) := dk_42 (dk_at dksX6_derives_3 15 rfl rfl)
theorem dX6_derives_87 : decode cX6_derives 87 = .ok (.iload_n 3, 1) := dk_29 (dk_at dksX6_derives_3 16 rfl rfl)
theorem dX6_derives_88 : decode cX6_derives 88 = .ok (.invokevirtual 138, 3) := dk_182 0 138 (dk_at dksX6_derives_3 17 rfl rfl)
theorem dX6_derives_91 : decode cX6_derives 91 = .ok (.ifCond .eq 7, 3) := dk_153 0 7 (dk_at dksX6_derives_3 20 rfl rfl)
theorem dX6_derives_94 : decode cX6_derives 94 = .ok (.iconst 1, 1) := dk_4 (dk_at dksX6_derives_3 23 rfl rfl)
theorem dX6_derives_95 : decode cX6_derives 95 = .ok (.goto 4, 3) := dk_167 0 4 (dk_at dksX6_derives_4 0 rfl rfl)
theorem dX6_derives_98 : decode cX6_derives 98 = .ok (.iconst 0, 1) := dk_3 (dk_at dksX6_derives_4 3 rfl rfl)
theorem dX6_derives_99 : decode cX6_derives 99 = .ok (.ior, 1) := dk_128 (dk_at dksX6_derives_4 4 rfl rfl)
theorem dX6_derives_100 : decode cX6_derives 100 = .ok (.istore_n 2, 1) := dk_61 (dk_at dksX6_derives_4 5 rfl rfl)
theorem dX6_derives_101 : decode cX6_derives 101 = .ok (.iinc 3 1, 3) := dk_132 3 1 (dk_at dksX6_derives_4 6 rfl rfl)
theorem dX6_derives_104 : decode cX6_derives 104 = .ok (.goto (-44), 3) := dk_167 255 212 (dk_at dksX6_derives_4 9 rfl rfl)
theorem dX6_derives_107 : decode cX6_derives 107 = .ok (.goto (-55), 3) := dk_167 255 201 (dk_at dksX6_derives_4 12 rfl rfl)
theorem dX6_derives_110 : decode cX6_derives 110 = .ok (.iinc 1 1, 3) := dk_132 1 1 (dk_at dksX6_derives_4 15 rfl rfl)
theorem dX6_derives_113 : decode cX6_derives 113 = .ok (.goto (-69), 3) := dk_167 255 187 (dk_at dksX6_derives_4 18 rfl rfl)
theorem dX6_derives_116 : decode cX6_derives 116 = .ok (.return_, 1) := dk_177 (dk_at dksX6_derives_4 21 rfl rfl)
abbrev cX6_layers : ByteArray := prog_28_method_25_code
def yX6_layers : MethodName := ⟨RX6, "layers", "()V"⟩
def dkwX6_layers_5 : List UInt8 := [182, 0, 92, 21, 4, 79, 4, 60, 132, 3, 1, 167, 255, 173, 132, 2, 1, 167, 255, 155, 167, 255, 144, 177]
abbrev dktX6_layers_5 : List UInt8 := dkwX6_layers_5 ++ []
def dkwX6_layers_4 : List UInt8 := [180, 0, 31, 42, 28, 3, 182, 0, 92, 46, 21, 4, 162, 0, 18, 42, 180, 0, 31, 42, 28, 3]
abbrev dktX6_layers_4 : List UInt8 := dkwX6_layers_4 ++ dktX6_layers_5
def dkwX6_layers_3 : List UInt8 := [42, 28, 29, 3, 182, 0, 103, 153, 0, 12, 42, 180, 0, 31, 29, 46, 167, 0, 4, 3, 54, 4, 42]
abbrev dktX6_layers_3 : List UInt8 := dkwX6_layers_3 ++ dktX6_layers_4
def dkwX6_layers_2 : List UInt8 := [162, 0, 83, 42, 28, 29, 4, 182, 0, 103, 153, 0, 14, 42, 180, 0, 31, 29, 46, 4, 96, 167, 0, 23]
abbrev dktX6_layers_2 : List UInt8 := dkwX6_layers_2 ++ dktX6_layers_3
def dkwX6_layers_1 : List UInt8 := [153, 0, 114, 3, 60, 3, 61, 28, 42, 180, 0, 9, 6, 46, 162, 0, 97, 3, 62, 29, 16, 8]
abbrev dktX6_layers_1 : List UInt8 := dkwX6_layers_1 ++ dktX6_layers_2
def dkwX6_layers_0 : List UInt8 := [3, 60, 27, 16, 8, 162, 0, 16, 42, 180, 0, 31, 27, 3, 79, 132, 1, 1, 167, 255, 240, 4, 60, 27]
abbrev dktX6_layers_0 : List UInt8 := dkwX6_layers_0 ++ dktX6_layers_1
theorem dksX6_layers_0 : cX6_layers.data.toList.drop 0 = dktX6_layers_0 := by decide +kernel
theorem dksX6_layers_1 : cX6_layers.data.toList.drop 24 = dktX6_layers_1 := dk_seg dksX6_layers_0 24 rfl rfl
theorem dksX6_layers_2 : cX6_layers.data.toList.drop 46 = dktX6_layers_2 := dk_seg dksX6_layers_1 22 rfl rfl
theorem dksX6_layers_3 : cX6_layers.data.toList.drop 70 = dktX6_layers_3 := dk_seg dksX6_layers_2 24 rfl rfl
theorem dksX6_layers_4 : cX6_layers.data.toList.drop 93 = dktX6_layers_4 := dk_seg dksX6_layers_3 23 rfl rfl
theorem dksX6_layers_5 : cX6_layers.data.toList.drop 115 = dktX6_layers_5 := dk_seg dksX6_layers_4 22 rfl rfl
theorem dX6_layers_0 : decode cX6_layers 0 = .ok (.iconst 0, 1) := dk_3 (dk_at dksX6_layers_0 0 rfl rfl)
theorem dX6_layers_1 : decode cX6_layers 1 = .ok (.istore_n 1, 1) := dk_60 (dk_at dksX6_layers_0 1 rfl rfl)
theorem dX6_layers_2 : decode cX6_layers 2 = .ok (.iload_n 1, 1) := dk_27 (dk_at dksX6_layers_0 2 rfl rfl)
theorem dX6_layers_3 : decode cX6_layers 3 = .ok (.bipush 8, 2) := dk_16 8 (dk_at dksX6_layers_0 3 rfl rfl)
theorem dX6_layers_5 : decode cX6_layers 5 = .ok (.if_icmp .ge 16, 3) := dk_162 0 16 (dk_at dksX6_layers_0 5 rfl rfl)
theorem dX6_layers_8 : decode cX6_layers 8 = .ok (.aload_n 0, 1) := dk_42 (dk_at dksX6_layers_0 8 rfl rfl)
theorem dX6_layers_9 : decode cX6_layers 9 = .ok (.getfield 31, 3) := dk_180 0 31 (dk_at dksX6_layers_0 9 rfl rfl)
theorem dX6_layers_12 : decode cX6_layers 12 = .ok (.iload_n 1, 1) := dk_27 (dk_at dksX6_layers_0 12 rfl rfl)
theorem dX6_layers_13 : decode cX6_layers 13 = .ok (.iconst 0, 1) := dk_3 (dk_at dksX6_layers_0 13 rfl rfl)
theorem dX6_layers_14 : decode cX6_layers 14 = .ok (.iastore, 1) := dk_79 (dk_at dksX6_layers_0 14 rfl rfl)
theorem dX6_layers_15 : decode cX6_layers 15 = .ok (.iinc 1 1, 3) := dk_132 1 1 (dk_at dksX6_layers_0 15 rfl rfl)
theorem dX6_layers_18 : decode cX6_layers 18 = .ok (.goto (-16), 3) := dk_167 255 240 (dk_at dksX6_layers_0 18 rfl rfl)
theorem dX6_layers_21 : decode cX6_layers 21 = .ok (.iconst 1, 1) := dk_4 (dk_at dksX6_layers_0 21 rfl rfl)
theorem dX6_layers_22 : decode cX6_layers 22 = .ok (.istore_n 1, 1) := dk_60 (dk_at dksX6_layers_0 22 rfl rfl)
theorem dX6_layers_23 : decode cX6_layers 23 = .ok (.iload_n 1, 1) := dk_27 (dk_at dksX6_layers_0 23 rfl rfl)
theorem dX6_layers_24 : decode cX6_layers 24 = .ok (.ifCond .eq 114, 3) := dk_153 0 114 (dk_at dksX6_layers_1 0 rfl rfl)
theorem dX6_layers_27 : decode cX6_layers 27 = .ok (.iconst 0, 1) := dk_3 (dk_at dksX6_layers_1 3 rfl rfl)
theorem dX6_layers_28 : decode cX6_layers 28 = .ok (.istore_n 1, 1) := dk_60 (dk_at dksX6_layers_1 4 rfl rfl)
theorem dX6_layers_29 : decode cX6_layers 29 = .ok (.iconst 0, 1) := dk_3 (dk_at dksX6_layers_1 5 rfl rfl)
theorem dX6_layers_30 : decode cX6_layers 30 = .ok (.istore_n 2, 1) := dk_61 (dk_at dksX6_layers_1 6 rfl rfl)
theorem dX6_layers_31 : decode cX6_layers 31 = .ok (.iload_n 2, 1) := dk_28 (dk_at dksX6_layers_1 7 rfl rfl)
theorem dX6_layers_32 : decode cX6_layers 32 = .ok (.aload_n 0, 1) := dk_42 (dk_at dksX6_layers_1 8 rfl rfl)
theorem dX6_layers_33 : decode cX6_layers 33 = .ok (.getfield 9, 3) := dk_180 0 9 (dk_at dksX6_layers_1 9 rfl rfl)
theorem dX6_layers_36 : decode cX6_layers 36 = .ok (.iconst 3, 1) := dk_6 (dk_at dksX6_layers_1 12 rfl rfl)
theorem dX6_layers_37 : decode cX6_layers 37 = .ok (.iaload, 1) := dk_46 (dk_at dksX6_layers_1 13 rfl rfl)
theorem dX6_layers_38 : decode cX6_layers 38 = .ok (.if_icmp .ge 97, 3) := dk_162 0 97 (dk_at dksX6_layers_1 14 rfl rfl)
theorem dX6_layers_41 : decode cX6_layers 41 = .ok (.iconst 0, 1) := dk_3 (dk_at dksX6_layers_1 17 rfl rfl)
theorem dX6_layers_42 : decode cX6_layers 42 = .ok (.istore_n 3, 1) := dk_62 (dk_at dksX6_layers_1 18 rfl rfl)
theorem dX6_layers_43 : decode cX6_layers 43 = .ok (.iload_n 3, 1) := dk_29 (dk_at dksX6_layers_1 19 rfl rfl)
theorem dX6_layers_44 : decode cX6_layers 44 = .ok (.bipush 8, 2) := dk_16 8 (dk_at dksX6_layers_1 20 rfl rfl)
theorem dX6_layers_46 : decode cX6_layers 46 = .ok (.if_icmp .ge 83, 3) := dk_162 0 83 (dk_at dksX6_layers_2 0 rfl rfl)
theorem dX6_layers_49 : decode cX6_layers 49 = .ok (.aload_n 0, 1) := dk_42 (dk_at dksX6_layers_2 3 rfl rfl)
theorem dX6_layers_50 : decode cX6_layers 50 = .ok (.iload_n 2, 1) := dk_28 (dk_at dksX6_layers_2 4 rfl rfl)
theorem dX6_layers_51 : decode cX6_layers 51 = .ok (.iload_n 3, 1) := dk_29 (dk_at dksX6_layers_2 5 rfl rfl)
theorem dX6_layers_52 : decode cX6_layers 52 = .ok (.iconst 1, 1) := dk_4 (dk_at dksX6_layers_2 6 rfl rfl)
theorem dX6_layers_53 : decode cX6_layers 53 = .ok (.invokevirtual 103, 3) := dk_182 0 103 (dk_at dksX6_layers_2 7 rfl rfl)
theorem dX6_layers_56 : decode cX6_layers 56 = .ok (.ifCond .eq 14, 3) := dk_153 0 14 (dk_at dksX6_layers_2 10 rfl rfl)
theorem dX6_layers_59 : decode cX6_layers 59 = .ok (.aload_n 0, 1) := dk_42 (dk_at dksX6_layers_2 13 rfl rfl)
theorem dX6_layers_60 : decode cX6_layers 60 = .ok (.getfield 31, 3) := dk_180 0 31 (dk_at dksX6_layers_2 14 rfl rfl)
theorem dX6_layers_63 : decode cX6_layers 63 = .ok (.iload_n 3, 1) := dk_29 (dk_at dksX6_layers_2 17 rfl rfl)
theorem dX6_layers_64 : decode cX6_layers 64 = .ok (.iaload, 1) := dk_46 (dk_at dksX6_layers_2 18 rfl rfl)
theorem dX6_layers_65 : decode cX6_layers 65 = .ok (.iconst 1, 1) := dk_4 (dk_at dksX6_layers_2 19 rfl rfl)
theorem dX6_layers_66 : decode cX6_layers 66 = .ok (.iadd, 1) := dk_96 (dk_at dksX6_layers_2 20 rfl rfl)
theorem dX6_layers_67 : decode cX6_layers 67 = .ok (.goto 23, 3) := dk_167 0 23 (dk_at dksX6_layers_2 21 rfl rfl)
theorem dX6_layers_70 : decode cX6_layers 70 = .ok (.aload_n 0, 1) := dk_42 (dk_at dksX6_layers_3 0 rfl rfl)
theorem dX6_layers_71 : decode cX6_layers 71 = .ok (.iload_n 2, 1) := dk_28 (dk_at dksX6_layers_3 1 rfl rfl)
theorem dX6_layers_72 : decode cX6_layers 72 = .ok (.iload_n 3, 1) := dk_29 (dk_at dksX6_layers_3 2 rfl rfl)
theorem dX6_layers_73 : decode cX6_layers 73 = .ok (.iconst 0, 1) := dk_3 (dk_at dksX6_layers_3 3 rfl rfl)
theorem dX6_layers_74 : decode cX6_layers 74 = .ok (.invokevirtual 103, 3) := dk_182 0 103 (dk_at dksX6_layers_3 4 rfl rfl)
theorem dX6_layers_77 : decode cX6_layers 77 = .ok (.ifCond .eq 12, 3) := dk_153 0 12 (dk_at dksX6_layers_3 7 rfl rfl)
theorem dX6_layers_80 : decode cX6_layers 80 = .ok (.aload_n 0, 1) := dk_42 (dk_at dksX6_layers_3 10 rfl rfl)
theorem dX6_layers_81 : decode cX6_layers 81 = .ok (.getfield 31, 3) := dk_180 0 31 (dk_at dksX6_layers_3 11 rfl rfl)
theorem dX6_layers_84 : decode cX6_layers 84 = .ok (.iload_n 3, 1) := dk_29 (dk_at dksX6_layers_3 14 rfl rfl)
theorem dX6_layers_85 : decode cX6_layers 85 = .ok (.iaload, 1) := dk_46 (dk_at dksX6_layers_3 15 rfl rfl)
theorem dX6_layers_86 : decode cX6_layers 86 = .ok (.goto 4, 3) := dk_167 0 4 (dk_at dksX6_layers_3 16 rfl rfl)
theorem dX6_layers_89 : decode cX6_layers 89 = .ok (.iconst 0, 1) := dk_3 (dk_at dksX6_layers_3 19 rfl rfl)
theorem dX6_layers_90 : decode cX6_layers 90 = .ok (.istore 4, 2) := dk_54 4 (dk_at dksX6_layers_3 20 rfl rfl)
theorem dX6_layers_92 : decode cX6_layers 92 = .ok (.aload_n 0, 1) := dk_42 (dk_at dksX6_layers_3 22 rfl rfl)
theorem dX6_layers_93 : decode cX6_layers 93 = .ok (.getfield 31, 3) := dk_180 0 31 (dk_at dksX6_layers_4 0 rfl rfl)
theorem dX6_layers_96 : decode cX6_layers 96 = .ok (.aload_n 0, 1) := dk_42 (dk_at dksX6_layers_4 3 rfl rfl)
theorem dX6_layers_97 : decode cX6_layers 97 = .ok (.iload_n 2, 1) := dk_28 (dk_at dksX6_layers_4 4 rfl rfl)
theorem dX6_layers_98 : decode cX6_layers 98 = .ok (.iconst 0, 1) := dk_3 (dk_at dksX6_layers_4 5 rfl rfl)
theorem dX6_layers_99 : decode cX6_layers 99 = .ok (.invokevirtual 92, 3) := dk_182 0 92 (dk_at dksX6_layers_4 6 rfl rfl)
theorem dX6_layers_102 : decode cX6_layers 102 = .ok (.iaload, 1) := dk_46 (dk_at dksX6_layers_4 9 rfl rfl)
theorem dX6_layers_103 : decode cX6_layers 103 = .ok (.iload 4, 2) := dk_21 4 (dk_at dksX6_layers_4 10 rfl rfl)
theorem dX6_layers_105 : decode cX6_layers 105 = .ok (.if_icmp .ge 18, 3) := dk_162 0 18 (dk_at dksX6_layers_4 12 rfl rfl)
theorem dX6_layers_108 : decode cX6_layers 108 = .ok (.aload_n 0, 1) := dk_42 (dk_at dksX6_layers_4 15 rfl rfl)
theorem dX6_layers_109 : decode cX6_layers 109 = .ok (.getfield 31, 3) := dk_180 0 31 (dk_at dksX6_layers_4 16 rfl rfl)
theorem dX6_layers_112 : decode cX6_layers 112 = .ok (.aload_n 0, 1) := dk_42 (dk_at dksX6_layers_4 19 rfl rfl)
theorem dX6_layers_113 : decode cX6_layers 113 = .ok (.iload_n 2, 1) := dk_28 (dk_at dksX6_layers_4 20 rfl rfl)
theorem dX6_layers_114 : decode cX6_layers 114 = .ok (.iconst 0, 1) := dk_3 (dk_at dksX6_layers_4 21 rfl rfl)
theorem dX6_layers_115 : decode cX6_layers 115 = .ok (.invokevirtual 92, 3) := dk_182 0 92 (dk_at dksX6_layers_5 0 rfl rfl)
theorem dX6_layers_118 : decode cX6_layers 118 = .ok (.iload 4, 2) := dk_21 4 (dk_at dksX6_layers_5 3 rfl rfl)
theorem dX6_layers_120 : decode cX6_layers 120 = .ok (.iastore, 1) := dk_79 (dk_at dksX6_layers_5 5 rfl rfl)
theorem dX6_layers_121 : decode cX6_layers 121 = .ok (.iconst 1, 1) := dk_4 (dk_at dksX6_layers_5 6 rfl rfl)
theorem dX6_layers_122 : decode cX6_layers 122 = .ok (.istore_n 1, 1) := dk_60 (dk_at dksX6_layers_5 7 rfl rfl)
theorem dX6_layers_123 : decode cX6_layers 123 = .ok (.iinc 3 1, 3) := dk_132 3 1 (dk_at dksX6_layers_5 8 rfl rfl)
theorem dX6_layers_126 : decode cX6_layers 126 = .ok (.goto (-83), 3) := dk_167 255 173 (dk_at dksX6_layers_5 11 rfl rfl)
theorem dX6_layers_129 : decode cX6_layers 129 = .ok (.iinc 2 1, 3) := dk_132 2 1 (dk_at dksX6_layers_5 14 rfl rfl)
theorem dX6_layers_132 : decode cX6_layers 132 = .ok (.goto (-101), 3) := dk_167 255 155 (dk_at dksX6_layers_5 17 rfl rfl)
theorem dX6_layers_135 : decode cX6_layers 135 = .ok (.goto (-112), 3) := dk_167 255 144 (dk_at dksX6_layers_5 20 rfl rfl)
theorem dX6_layers_138 : decode cX6_layers 138 = .ok (.return_, 1) := dk_177 (dk_at dksX6_layers_5 23 rfl rfl)
abbrev cX6_needsBy : ByteArray := prog_28_method_22_code
def yX6_needsBy : MethodName := ⟨RX6, "needsBy", "(IIZ)Z"⟩
def dkwX6_needsBy_2 : List UInt8 := [154, 0, 5, 4, 172, 132, 4, 1, 167, 255, 203, 3, 172]
abbrev dktX6_needsBy_2 : List UInt8 := dkwX6_needsBy_2 ++ []
def dkwX6_needsBy_1 : List UInt8 := [42, 27, 21, 4, 4, 182, 0, 96, 28, 160, 0, 20, 21, 5, 4, 159, 0, 12, 21, 5, 154, 0, 9, 29]
abbrev dktX6_needsBy_1 : List UInt8 := dkwX6_needsBy_1 ++ dktX6_needsBy_2
def dkwX6_needsBy_0 : List UInt8 := [3, 54, 4, 21, 4, 42, 27, 6, 182, 0, 92, 162, 0, 48, 42, 27, 21, 4, 3, 182, 0, 96, 54, 5]
abbrev dktX6_needsBy_0 : List UInt8 := dkwX6_needsBy_0 ++ dktX6_needsBy_1
theorem dksX6_needsBy_0 : cX6_needsBy.data.toList.drop 0 = dktX6_needsBy_0 := by decide +kernel
theorem dksX6_needsBy_1 : cX6_needsBy.data.toList.drop 24 = dktX6_needsBy_1 := dk_seg dksX6_needsBy_0 24 rfl rfl
theorem dksX6_needsBy_2 : cX6_needsBy.data.toList.drop 48 = dktX6_needsBy_2 := dk_seg dksX6_needsBy_1 24 rfl rfl
theorem dX6_needsBy_0 : decode cX6_needsBy 0 = .ok (.iconst 0, 1) := dk_3 (dk_at dksX6_needsBy_0 0 rfl rfl)
theorem dX6_needsBy_1 : decode cX6_needsBy 1 = .ok (.istore 4, 2) := dk_54 4 (dk_at dksX6_needsBy_0 1 rfl rfl)
theorem dX6_needsBy_3 : decode cX6_needsBy 3 = .ok (.iload 4, 2) := dk_21 4 (dk_at dksX6_needsBy_0 3 rfl rfl)
theorem dX6_needsBy_5 : decode cX6_needsBy 5 = .ok (.aload_n 0, 1) := dk_42 (dk_at dksX6_needsBy_0 5 rfl rfl)
theorem dX6_needsBy_6 : decode cX6_needsBy 6 = .ok (.iload_n 1, 1) := dk_27 (dk_at dksX6_needsBy_0 6 rfl rfl)
theorem dX6_needsBy_7 : decode cX6_needsBy 7 = .ok (.iconst 3, 1) := dk_6 (dk_at dksX6_needsBy_0 7 rfl rfl)
theorem dX6_needsBy_8 : decode cX6_needsBy 8 = .ok (.invokevirtual 92, 3) := dk_182 0 92 (dk_at dksX6_needsBy_0 8 rfl rfl)
theorem dX6_needsBy_11 : decode cX6_needsBy 11 = .ok (.if_icmp .ge 48, 3) := dk_162 0 48 (dk_at dksX6_needsBy_0 11 rfl rfl)
theorem dX6_needsBy_14 : decode cX6_needsBy 14 = .ok (.aload_n 0, 1) := dk_42 (dk_at dksX6_needsBy_0 14 rfl rfl)
theorem dX6_needsBy_15 : decode cX6_needsBy 15 = .ok (.iload_n 1, 1) := dk_27 (dk_at dksX6_needsBy_0 15 rfl rfl)
theorem dX6_needsBy_16 : decode cX6_needsBy 16 = .ok (.iload 4, 2) := dk_21 4 (dk_at dksX6_needsBy_0 16 rfl rfl)
theorem dX6_needsBy_18 : decode cX6_needsBy 18 = .ok (.iconst 0, 1) := dk_3 (dk_at dksX6_needsBy_0 18 rfl rfl)
theorem dX6_needsBy_19 : decode cX6_needsBy 19 = .ok (.invokevirtual 96, 3) := dk_182 0 96 (dk_at dksX6_needsBy_0 19 rfl rfl)
theorem dX6_needsBy_22 : decode cX6_needsBy 22 = .ok (.istore 5, 2) := dk_54 5 (dk_at dksX6_needsBy_0 22 rfl rfl)
theorem dX6_needsBy_24 : decode cX6_needsBy 24 = .ok (.aload_n 0, 1) := dk_42 (dk_at dksX6_needsBy_1 0 rfl rfl)
theorem dX6_needsBy_25 : decode cX6_needsBy 25 = .ok (.iload_n 1, 1) := dk_27 (dk_at dksX6_needsBy_1 1 rfl rfl)
theorem dX6_needsBy_26 : decode cX6_needsBy 26 = .ok (.iload 4, 2) := dk_21 4 (dk_at dksX6_needsBy_1 2 rfl rfl)
theorem dX6_needsBy_28 : decode cX6_needsBy 28 = .ok (.iconst 1, 1) := dk_4 (dk_at dksX6_needsBy_1 4 rfl rfl)
theorem dX6_needsBy_29 : decode cX6_needsBy 29 = .ok (.invokevirtual 96, 3) := dk_182 0 96 (dk_at dksX6_needsBy_1 5 rfl rfl)
theorem dX6_needsBy_32 : decode cX6_needsBy 32 = .ok (.iload_n 2, 1) := dk_28 (dk_at dksX6_needsBy_1 8 rfl rfl)
theorem dX6_needsBy_33 : decode cX6_needsBy 33 = .ok (.if_icmp .ne 20, 3) := dk_160 0 20 (dk_at dksX6_needsBy_1 9 rfl rfl)
theorem dX6_needsBy_36 : decode cX6_needsBy 36 = .ok (.iload 5, 2) := dk_21 5 (dk_at dksX6_needsBy_1 12 rfl rfl)
theorem dX6_needsBy_38 : decode cX6_needsBy 38 = .ok (.iconst 1, 1) := dk_4 (dk_at dksX6_needsBy_1 14 rfl rfl)
theorem dX6_needsBy_39 : decode cX6_needsBy 39 = .ok (.if_icmp .eq 12, 3) := dk_159 0 12 (dk_at dksX6_needsBy_1 15 rfl rfl)
theorem dX6_needsBy_42 : decode cX6_needsBy 42 = .ok (.iload 5, 2) := dk_21 5 (dk_at dksX6_needsBy_1 18 rfl rfl)
theorem dX6_needsBy_44 : decode cX6_needsBy 44 = .ok (.ifCond .ne 9, 3) := dk_154 0 9 (dk_at dksX6_needsBy_1 20 rfl rfl)
theorem dX6_needsBy_47 : decode cX6_needsBy 47 = .ok (.iload_n 3, 1) := dk_29 (dk_at dksX6_needsBy_1 23 rfl rfl)
theorem dX6_needsBy_48 : decode cX6_needsBy 48 = .ok (.ifCond .ne 5, 3) := dk_154 0 5 (dk_at dksX6_needsBy_2 0 rfl rfl)
theorem dX6_needsBy_51 : decode cX6_needsBy 51 = .ok (.iconst 1, 1) := dk_4 (dk_at dksX6_needsBy_2 3 rfl rfl)
theorem dX6_needsBy_52 : decode cX6_needsBy 52 = .ok (.ireturn, 1) := dk_172 (dk_at dksX6_needsBy_2 4 rfl rfl)
theorem dX6_needsBy_53 : decode cX6_needsBy 53 = .ok (.iinc 4 1, 3) := dk_132 4 1 (dk_at dksX6_needsBy_2 5 rfl rfl)
theorem dX6_needsBy_56 : decode cX6_needsBy 56 = .ok (.goto (-53), 3) := dk_167 255 203 (dk_at dksX6_needsBy_2 8 rfl rfl)
theorem dX6_needsBy_59 : decode cX6_needsBy 59 = .ok (.iconst 0, 1) := dk_3 (dk_at dksX6_needsBy_2 11 rfl rfl)
theorem dX6_needsBy_60 : decode cX6_needsBy 60 = .ok (.ireturn, 1) := dk_172 (dk_at dksX6_needsBy_2 12 rfl rfl)
abbrev cX6_of : ByteArray := prog_28_method_16_code
def yX6_of : MethodName := ⟨RX6, "of", "(II)I"⟩
def dkwX6_of_0 : List UInt8 := [42, 180, 0, 9, 17, 1, 188, 16, 76, 27, 104, 96, 28, 96, 46, 172]
abbrev dktX6_of_0 : List UInt8 := dkwX6_of_0 ++ []
theorem dksX6_of_0 : cX6_of.data.toList.drop 0 = dktX6_of_0 := by decide +kernel
theorem dX6_of_0 : decode cX6_of 0 = .ok (.aload_n 0, 1) := dk_42 (dk_at dksX6_of_0 0 rfl rfl)
theorem dX6_of_1 : decode cX6_of 1 = .ok (.getfield 9, 3) := dk_180 0 9 (dk_at dksX6_of_0 1 rfl rfl)
theorem dX6_of_4 : decode cX6_of 4 = .ok (.sipush 444, 3) := dk_17 1 188 (dk_at dksX6_of_0 4 rfl rfl)
theorem dX6_of_7 : decode cX6_of 7 = .ok (.bipush 76, 2) := dk_16 76 (dk_at dksX6_of_0 7 rfl rfl)
theorem dX6_of_9 : decode cX6_of 9 = .ok (.iload_n 1, 1) := dk_27 (dk_at dksX6_of_0 9 rfl rfl)
theorem dX6_of_10 : decode cX6_of 10 = .ok (.imul, 1) := dk_104 (dk_at dksX6_of_0 10 rfl rfl)
theorem dX6_of_11 : decode cX6_of 11 = .ok (.iadd, 1) := dk_96 (dk_at dksX6_of_0 11 rfl rfl)
theorem dX6_of_12 : decode cX6_of 12 = .ok (.iload_n 2, 1) := dk_28 (dk_at dksX6_of_0 12 rfl rfl)
theorem dX6_of_13 : decode cX6_of 13 = .ok (.iadd, 1) := dk_96 (dk_at dksX6_of_0 13 rfl rfl)
theorem dX6_of_14 : decode cX6_of 14 = .ok (.iaload, 1) := dk_46 (dk_at dksX6_of_0 14 rfl rfl)
theorem dX6_of_15 : decode cX6_of 15 = .ok (.ireturn, 1) := dk_172 (dk_at dksX6_of_0 15 rfl rfl)
abbrev cX6_literal : ByteArray := prog_28_method_17_code
def yX6_literal : MethodName := ⟨RX6, "literal", "(III)I"⟩
def dkwX6_literal_0 : List UInt8 := [42, 27, 7, 7, 28, 104, 96, 29, 96, 182, 0, 92, 172]
abbrev dktX6_literal_0 : List UInt8 := dkwX6_literal_0 ++ []
theorem dksX6_literal_0 : cX6_literal.data.toList.drop 0 = dktX6_literal_0 := by decide +kernel
theorem dX6_literal_0 : decode cX6_literal 0 = .ok (.aload_n 0, 1) := dk_42 (dk_at dksX6_literal_0 0 rfl rfl)
theorem dX6_literal_1 : decode cX6_literal 1 = .ok (.iload_n 1, 1) := dk_27 (dk_at dksX6_literal_0 1 rfl rfl)
theorem dX6_literal_2 : decode cX6_literal 2 = .ok (.iconst 4, 1) := dk_7 (dk_at dksX6_literal_0 2 rfl rfl)
theorem dX6_literal_3 : decode cX6_literal 3 = .ok (.iconst 4, 1) := dk_7 (dk_at dksX6_literal_0 3 rfl rfl)
theorem dX6_literal_4 : decode cX6_literal 4 = .ok (.iload_n 2, 1) := dk_28 (dk_at dksX6_literal_0 4 rfl rfl)
theorem dX6_literal_5 : decode cX6_literal 5 = .ok (.imul, 1) := dk_104 (dk_at dksX6_literal_0 5 rfl rfl)
theorem dX6_literal_6 : decode cX6_literal 6 = .ok (.iadd, 1) := dk_96 (dk_at dksX6_literal_0 6 rfl rfl)
theorem dX6_literal_7 : decode cX6_literal 7 = .ok (.iload_n 3, 1) := dk_29 (dk_at dksX6_literal_0 7 rfl rfl)
theorem dX6_literal_8 : decode cX6_literal 8 = .ok (.iadd, 1) := dk_96 (dk_at dksX6_literal_0 8 rfl rfl)
theorem dX6_literal_9 : decode cX6_literal 9 = .ok (.invokevirtual 92, 3) := dk_182 0 92 (dk_at dksX6_literal_0 9 rfl rfl)
theorem dX6_literal_12 : decode cX6_literal 12 = .ok (.ireturn, 1) := dk_172 (dk_at dksX6_literal_0 12 rfl rfl)
abbrev cX6_makes : ByteArray := prog_28_method_32_code
def yX6_makes : MethodName := ⟨RX6, "makes", "(I)Z"⟩
def dkwX6_makes_2 : List UInt8 := [27, 182, 0, 129, 4, 84, 4, 61, 42, 27, 29, 182, 0, 132, 62, 167, 255, 199, 28, 172]
abbrev dktX6_makes_2 : List UInt8 := dkwX6_makes_2 ++ []
def dkwX6_makes_1 : List UInt8 := [182, 0, 126, 153, 0, 29, 42, 180, 0, 37, 42, 27, 182, 0, 129, 51, 154, 0, 16, 42, 180, 0, 37, 42]
abbrev dktX6_makes_1 : List UInt8 := dkwX6_makes_1 ++ dktX6_makes_2
def dkwX6_makes_0 : List UInt8 := [3, 61, 3, 62, 29, 17, 3, 232, 162, 0, 56, 42, 27, 29, 182, 0, 123, 153, 0, 37, 42, 27]
abbrev dktX6_makes_0 : List UInt8 := dkwX6_makes_0 ++ dktX6_makes_1
theorem dksX6_makes_0 : cX6_makes.data.toList.drop 0 = dktX6_makes_0 := by decide +kernel
theorem dksX6_makes_1 : cX6_makes.data.toList.drop 22 = dktX6_makes_1 := dk_seg dksX6_makes_0 22 rfl rfl
theorem dksX6_makes_2 : cX6_makes.data.toList.drop 46 = dktX6_makes_2 := dk_seg dksX6_makes_1 24 rfl rfl
theorem dX6_makes_0 : decode cX6_makes 0 = .ok (.iconst 0, 1) := dk_3 (dk_at dksX6_makes_0 0 rfl rfl)
theorem dX6_makes_1 : decode cX6_makes 1 = .ok (.istore_n 2, 1) := dk_61 (dk_at dksX6_makes_0 1 rfl rfl)
theorem dX6_makes_2 : decode cX6_makes 2 = .ok (.iconst 0, 1) := dk_3 (dk_at dksX6_makes_0 2 rfl rfl)
theorem dX6_makes_3 : decode cX6_makes 3 = .ok (.istore_n 3, 1) := dk_62 (dk_at dksX6_makes_0 3 rfl rfl)
theorem dX6_makes_4 : decode cX6_makes 4 = .ok (.iload_n 3, 1) := dk_29 (dk_at dksX6_makes_0 4 rfl rfl)
theorem dX6_makes_5 : decode cX6_makes 5 = .ok (.sipush 1000, 3) := dk_17 3 232 (dk_at dksX6_makes_0 5 rfl rfl)
theorem dX6_makes_8 : decode cX6_makes 8 = .ok (.if_icmp .ge 56, 3) := dk_162 0 56 (dk_at dksX6_makes_0 8 rfl rfl)
theorem dX6_makes_11 : decode cX6_makes 11 = .ok (.aload_n 0, 1) := dk_42 (dk_at dksX6_makes_0 11 rfl rfl)
theorem dX6_makes_12 : decode cX6_makes 12 = .ok (.iload_n 1, 1) := dk_27 (dk_at dksX6_makes_0 12 rfl rfl)
theorem dX6_makes_13 : decode cX6_makes 13 = .ok (.iload_n 3, 1) := dk_29 (dk_at dksX6_makes_0 13 rfl rfl)
theorem dX6_makes_14 : decode cX6_makes 14 = .ok (.invokevirtual 123, 3) := dk_182 0 123 (dk_at dksX6_makes_0 14 rfl rfl)
theorem dX6_makes_17 : decode cX6_makes 17 = .ok (.ifCond .eq 37, 3) := dk_153 0 37 (dk_at dksX6_makes_0 17 rfl rfl)
theorem dX6_makes_20 : decode cX6_makes 20 = .ok (.aload_n 0, 1) := dk_42 (dk_at dksX6_makes_0 20 rfl rfl)
theorem dX6_makes_21 : decode cX6_makes 21 = .ok (.iload_n 1, 1) := dk_27 (dk_at dksX6_makes_0 21 rfl rfl)
theorem dX6_makes_22 : decode cX6_makes 22 = .ok (.invokevirtual 126, 3) := dk_182 0 126 (dk_at dksX6_makes_1 0 rfl rfl)
theorem dX6_makes_25 : decode cX6_makes 25 = .ok (.ifCond .eq 29, 3) := dk_153 0 29 (dk_at dksX6_makes_1 3 rfl rfl)
theorem dX6_makes_28 : decode cX6_makes 28 = .ok (.aload_n 0, 1) := dk_42 (dk_at dksX6_makes_1 6 rfl rfl)
theorem dX6_makes_29 : decode cX6_makes 29 = .ok (.getfield 37, 3) := dk_180 0 37 (dk_at dksX6_makes_1 7 rfl rfl)
theorem dX6_makes_32 : decode cX6_makes 32 = .ok (.aload_n 0, 1) := dk_42 (dk_at dksX6_makes_1 10 rfl rfl)
theorem dX6_makes_33 : decode cX6_makes 33 = .ok (.iload_n 1, 1) := dk_27 (dk_at dksX6_makes_1 11 rfl rfl)
theorem dX6_makes_34 : decode cX6_makes 34 = .ok (.invokevirtual 129, 3) := dk_182 0 129 (dk_at dksX6_makes_1 12 rfl rfl)
theorem dX6_makes_37 : decode cX6_makes 37 = .ok (.baload, 1) := dk_51 (dk_at dksX6_makes_1 15 rfl rfl)
theorem dX6_makes_38 : decode cX6_makes 38 = .ok (.ifCond .ne 16, 3) := dk_154 0 16 (dk_at dksX6_makes_1 16 rfl rfl)
theorem dX6_makes_41 : decode cX6_makes 41 = .ok (.aload_n 0, 1) := dk_42 (dk_at dksX6_makes_1 19 rfl rfl)
theorem dX6_makes_42 : decode cX6_makes 42 = .ok (.getfield 37, 3) := dk_180 0 37 (dk_at dksX6_makes_1 20 rfl rfl)
theorem dX6_makes_45 : decode cX6_makes 45 = .ok (.aload_n 0, 1) := dk_42 (dk_at dksX6_makes_1 23 rfl rfl)
theorem dX6_makes_46 : decode cX6_makes 46 = .ok (.iload_n 1, 1) := dk_27 (dk_at dksX6_makes_2 0 rfl rfl)
theorem dX6_makes_47 : decode cX6_makes 47 = .ok (.invokevirtual 129, 3) := dk_182 0 129 (dk_at dksX6_makes_2 1 rfl rfl)
theorem dX6_makes_50 : decode cX6_makes 50 = .ok (.iconst 1, 1) := dk_4 (dk_at dksX6_makes_2 4 rfl rfl)
theorem dX6_makes_51 : decode cX6_makes 51 = .ok (.bastore, 1) := dk_84 (dk_at dksX6_makes_2 5 rfl rfl)
theorem dX6_makes_52 : decode cX6_makes 52 = .ok (.iconst 1, 1) := dk_4 (dk_at dksX6_makes_2 6 rfl rfl)
theorem dX6_makes_53 : decode cX6_makes 53 = .ok (.istore_n 2, 1) := dk_61 (dk_at dksX6_makes_2 7 rfl rfl)
theorem dX6_makes_54 : decode cX6_makes 54 = .ok (.aload_n 0, 1) := dk_42 (dk_at dksX6_makes_2 8 rfl rfl)
theorem dX6_makes_55 : decode cX6_makes 55 = .ok (.iload_n 1, 1) := dk_27 (dk_at dksX6_makes_2 9 rfl rfl)
theorem dX6_makes_56 : decode cX6_makes 56 = .ok (.iload_n 3, 1) := dk_29 (dk_at dksX6_makes_2 10 rfl rfl)
theorem dX6_makes_57 : decode cX6_makes 57 = .ok (.invokevirtual 132, 3) := dk_182 0 132 (dk_at dksX6_makes_2 11 rfl rfl)
theorem dX6_makes_60 : decode cX6_makes 60 = .ok (.istore_n 3, 1) := dk_62 (dk_at dksX6_makes_2 14 rfl rfl)
theorem dX6_makes_61 : decode cX6_makes 61 = .ok (.goto (-57), 3) := dk_167 255 199 (dk_at dksX6_makes_2 15 rfl rfl)
theorem dX6_makes_64 : decode cX6_makes 64 = .ok (.iload_n 2, 1) := dk_28 (dk_at dksX6_makes_2 18 rfl rfl)
theorem dX6_makes_65 : decode cX6_makes 65 = .ok (.ireturn, 1) := dk_172 (dk_at dksX6_makes_2 19 rfl rfl)
abbrev cX6_isStep : ByteArray := prog_28_method_30_code
def yX6_isStep : MethodName := ⟨RX6, "isStep", "(II)Z"⟩
def dkwX6_isStep_3 : List UInt8 := [46, 42, 27, 16, 12, 182, 0, 120, 163, 0, 7, 4, 167, 0, 4, 3, 172]
abbrev dktX6_isStep_3 : List UInt8 := dkwX6_isStep_3 ++ []
def dkwX6_isStep_2 : List UInt8 := [163, 0, 39, 42, 180, 0, 34, 4, 46, 42, 27, 16, 11, 182, 0, 120, 163, 0, 23, 42, 180, 0, 34, 5]
abbrev dktX6_isStep_2 : List UInt8 := dkwX6_isStep_2 ++ dktX6_isStep_3
def dkwX6_isStep_1 : List UInt8 := [180, 0, 34, 5, 28, 16, 10, 112, 79, 42, 180, 0, 34, 3, 46, 42, 27, 16, 10, 182, 0, 120]
abbrev dktX6_isStep_1 : List UInt8 := dkwX6_isStep_1 ++ dktX6_isStep_2
def dkwX6_isStep_0 : List UInt8 := [42, 180, 0, 34, 3, 28, 16, 100, 108, 79, 42, 180, 0, 34, 4, 28, 16, 10, 108, 16, 10, 112, 79, 42]
abbrev dktX6_isStep_0 : List UInt8 := dkwX6_isStep_0 ++ dktX6_isStep_1
theorem dksX6_isStep_0 : cX6_isStep.data.toList.drop 0 = dktX6_isStep_0 := by decide +kernel
theorem dksX6_isStep_1 : cX6_isStep.data.toList.drop 24 = dktX6_isStep_1 := dk_seg dksX6_isStep_0 24 rfl rfl
theorem dksX6_isStep_2 : cX6_isStep.data.toList.drop 46 = dktX6_isStep_2 := dk_seg dksX6_isStep_1 22 rfl rfl
theorem dksX6_isStep_3 : cX6_isStep.data.toList.drop 70 = dktX6_isStep_3 := dk_seg dksX6_isStep_2 24 rfl rfl
theorem dX6_isStep_0 : decode cX6_isStep 0 = .ok (.aload_n 0, 1) := dk_42 (dk_at dksX6_isStep_0 0 rfl rfl)
theorem dX6_isStep_1 : decode cX6_isStep 1 = .ok (.getfield 34, 3) := dk_180 0 34 (dk_at dksX6_isStep_0 1 rfl rfl)
theorem dX6_isStep_4 : decode cX6_isStep 4 = .ok (.iconst 0, 1) := dk_3 (dk_at dksX6_isStep_0 4 rfl rfl)
theorem dX6_isStep_5 : decode cX6_isStep 5 = .ok (.iload_n 2, 1) := dk_28 (dk_at dksX6_isStep_0 5 rfl rfl)
theorem dX6_isStep_6 : decode cX6_isStep 6 = .ok (.bipush 100, 2) := dk_16 100 (dk_at dksX6_isStep_0 6 rfl rfl)
theorem dX6_isStep_8 : decode cX6_isStep 8 = .ok (.idiv, 1) := dk_108 (dk_at dksX6_isStep_0 8 rfl rfl)
theorem dX6_isStep_9 : decode cX6_isStep 9 = .ok (.iastore, 1) := dk_79 (dk_at dksX6_isStep_0 9 rfl rfl)
theorem dX6_isStep_10 : decode cX6_isStep 10 = .ok (.aload_n 0, 1) := dk_42 (dk_at dksX6_isStep_0 10 rfl rfl)
theorem dX6_isStep_11 : decode cX6_isStep 11 = .ok (.getfield 34, 3) := dk_180 0 34 (dk_at dksX6_isStep_0 11 rfl rfl)
theorem dX6_isStep_14 : decode cX6_isStep 14 = .ok (.iconst 1, 1) := dk_4 (dk_at dksX6_isStep_0 14 rfl rfl)
theorem dX6_isStep_15 : decode cX6_isStep 15 = .ok (.iload_n 2, 1) := dk_28 (dk_at dksX6_isStep_0 15 rfl rfl)
theorem dX6_isStep_16 : decode cX6_isStep 16 = .ok (.bipush 10, 2) := dk_16 10 (dk_at dksX6_isStep_0 16 rfl rfl)
theorem dX6_isStep_18 : decode cX6_isStep 18 = .ok (.idiv, 1) := dk_108 (dk_at dksX6_isStep_0 18 rfl rfl)
theorem dX6_isStep_19 : decode cX6_isStep 19 = .ok (.bipush 10, 2) := dk_16 10 (dk_at dksX6_isStep_0 19 rfl rfl)
theorem dX6_isStep_21 : decode cX6_isStep 21 = .ok (.irem, 1) := dk_112 (dk_at dksX6_isStep_0 21 rfl rfl)
theorem dX6_isStep_22 : decode cX6_isStep 22 = .ok (.iastore, 1) := dk_79 (dk_at dksX6_isStep_0 22 rfl rfl)
theorem dX6_isStep_23 : decode cX6_isStep 23 = .ok (.aload_n 0, 1) := dk_42 (dk_at dksX6_isStep_0 23 rfl rfl)
theorem dX6_isStep_24 : decode cX6_isStep 24 = .ok (.getfield 34, 3) := dk_180 0 34 (dk_at dksX6_isStep_1 0 rfl rfl)
theorem dX6_isStep_27 : decode cX6_isStep 27 = .ok (.iconst 2, 1) := dk_5 (dk_at dksX6_isStep_1 3 rfl rfl)
theorem dX6_isStep_28 : decode cX6_isStep 28 = .ok (.iload_n 2, 1) := dk_28 (dk_at dksX6_isStep_1 4 rfl rfl)
theorem dX6_isStep_29 : decode cX6_isStep 29 = .ok (.bipush 10, 2) := dk_16 10 (dk_at dksX6_isStep_1 5 rfl rfl)
theorem dX6_isStep_31 : decode cX6_isStep 31 = .ok (.irem, 1) := dk_112 (dk_at dksX6_isStep_1 7 rfl rfl)
theorem dX6_isStep_32 : decode cX6_isStep 32 = .ok (.iastore, 1) := dk_79 (dk_at dksX6_isStep_1 8 rfl rfl)
theorem dX6_isStep_33 : decode cX6_isStep 33 = .ok (.aload_n 0, 1) := dk_42 (dk_at dksX6_isStep_1 9 rfl rfl)
theorem dX6_isStep_34 : decode cX6_isStep 34 = .ok (.getfield 34, 3) := dk_180 0 34 (dk_at dksX6_isStep_1 10 rfl rfl)
theorem dX6_isStep_37 : decode cX6_isStep 37 = .ok (.iconst 0, 1) := dk_3 (dk_at dksX6_isStep_1 13 rfl rfl)
theorem dX6_isStep_38 : decode cX6_isStep 38 = .ok (.iaload, 1) := dk_46 (dk_at dksX6_isStep_1 14 rfl rfl)
theorem dX6_isStep_39 : decode cX6_isStep 39 = .ok (.aload_n 0, 1) := dk_42 (dk_at dksX6_isStep_1 15 rfl rfl)
theorem dX6_isStep_40 : decode cX6_isStep 40 = .ok (.iload_n 1, 1) := dk_27 (dk_at dksX6_isStep_1 16 rfl rfl)
theorem dX6_isStep_41 : decode cX6_isStep 41 = .ok (.bipush 10, 2) := dk_16 10 (dk_at dksX6_isStep_1 17 rfl rfl)
theorem dX6_isStep_43 : decode cX6_isStep 43 = .ok (.invokevirtual 120, 3) := dk_182 0 120 (dk_at dksX6_isStep_1 19 rfl rfl)
theorem dX6_isStep_46 : decode cX6_isStep 46 = .ok (.if_icmp .gt 39, 3) := dk_163 0 39 (dk_at dksX6_isStep_2 0 rfl rfl)
theorem dX6_isStep_49 : decode cX6_isStep 49 = .ok (.aload_n 0, 1) := dk_42 (dk_at dksX6_isStep_2 3 rfl rfl)
theorem dX6_isStep_50 : decode cX6_isStep 50 = .ok (.getfield 34, 3) := dk_180 0 34 (dk_at dksX6_isStep_2 4 rfl rfl)
theorem dX6_isStep_53 : decode cX6_isStep 53 = .ok (.iconst 1, 1) := dk_4 (dk_at dksX6_isStep_2 7 rfl rfl)
theorem dX6_isStep_54 : decode cX6_isStep 54 = .ok (.iaload, 1) := dk_46 (dk_at dksX6_isStep_2 8 rfl rfl)
theorem dX6_isStep_55 : decode cX6_isStep 55 = .ok (.aload_n 0, 1) := dk_42 (dk_at dksX6_isStep_2 9 rfl rfl)
theorem dX6_isStep_56 : decode cX6_isStep 56 = .ok (.iload_n 1, 1) := dk_27 (dk_at dksX6_isStep_2 10 rfl rfl)
theorem dX6_isStep_57 : decode cX6_isStep 57 = .ok (.bipush 11, 2) := dk_16 11 (dk_at dksX6_isStep_2 11 rfl rfl)
theorem dX6_isStep_59 : decode cX6_isStep 59 = .ok (.invokevirtual 120, 3) := dk_182 0 120 (dk_at dksX6_isStep_2 13 rfl rfl)
theorem dX6_isStep_62 : decode cX6_isStep 62 = .ok (.if_icmp .gt 23, 3) := dk_163 0 23 (dk_at dksX6_isStep_2 16 rfl rfl)
theorem dX6_isStep_65 : decode cX6_isStep 65 = .ok (.aload_n 0, 1) := dk_42 (dk_at dksX6_isStep_2 19 rfl rfl)
theorem dX6_isStep_66 : decode cX6_isStep 66 = .ok (.getfield 34, 3) := dk_180 0 34 (dk_at dksX6_isStep_2 20 rfl rfl)
theorem dX6_isStep_69 : decode cX6_isStep 69 = .ok (.iconst 2, 1) := dk_5 (dk_at dksX6_isStep_2 23 rfl rfl)
theorem dX6_isStep_70 : decode cX6_isStep 70 = .ok (.iaload, 1) := dk_46 (dk_at dksX6_isStep_3 0 rfl rfl)
theorem dX6_isStep_71 : decode cX6_isStep 71 = .ok (.aload_n 0, 1) := dk_42 (dk_at dksX6_isStep_3 1 rfl rfl)
theorem dX6_isStep_72 : decode cX6_isStep 72 = .ok (.iload_n 1, 1) := dk_27 (dk_at dksX6_isStep_3 2 rfl rfl)
theorem dX6_isStep_73 : decode cX6_isStep 73 = .ok (.bipush 12, 2) := dk_16 12 (dk_at dksX6_isStep_3 3 rfl rfl)
theorem dX6_isStep_75 : decode cX6_isStep 75 = .ok (.invokevirtual 120, 3) := dk_182 0 120 (dk_at dksX6_isStep_3 5 rfl rfl)
theorem dX6_isStep_78 : decode cX6_isStep 78 = .ok (.if_icmp .gt 7, 3) := dk_163 0 7 (dk_at dksX6_isStep_3 8 rfl rfl)
theorem dX6_isStep_81 : decode cX6_isStep 81 = .ok (.iconst 1, 1) := dk_4 (dk_at dksX6_isStep_3 11 rfl rfl)
theorem dX6_isStep_82 : decode cX6_isStep 82 = .ok (.goto 4, 3) := dk_167 0 4 (dk_at dksX6_isStep_3 12 rfl rfl)
theorem dX6_isStep_85 : decode cX6_isStep 85 = .ok (.iconst 0, 1) := dk_3 (dk_at dksX6_isStep_3 15 rfl rfl)
theorem dX6_isStep_86 : decode cX6_isStep 86 = .ok (.ireturn, 1) := dk_172 (dk_at dksX6_isStep_3 16 rfl rfl)
abbrev cX6_lastOf : ByteArray := prog_28_method_21_code
def yX6_lastOf : MethodName := ⟨RX6, "lastOf", "(II)I"⟩
def dkwX6_lastOf_0 : List UInt8 := [42, 27, 28, 182, 0, 99, 153, 0, 8, 16, 9, 167, 0, 4, 3, 172]
abbrev dktX6_lastOf_0 : List UInt8 := dkwX6_lastOf_0 ++ []
theorem dksX6_lastOf_0 : cX6_lastOf.data.toList.drop 0 = dktX6_lastOf_0 := by decide +kernel
theorem dX6_lastOf_0 : decode cX6_lastOf 0 = .ok (.aload_n 0, 1) := dk_42 (dk_at dksX6_lastOf_0 0 rfl rfl)
theorem dX6_lastOf_1 : decode cX6_lastOf 1 = .ok (.iload_n 1, 1) := dk_27 (dk_at dksX6_lastOf_0 1 rfl rfl)
theorem dX6_lastOf_2 : decode cX6_lastOf 2 = .ok (.iload_n 2, 1) := dk_28 (dk_at dksX6_lastOf_0 2 rfl rfl)
theorem dX6_lastOf_3 : decode cX6_lastOf 3 = .ok (.invokevirtual 99, 3) := dk_182 0 99 (dk_at dksX6_lastOf_0 3 rfl rfl)
theorem dX6_lastOf_6 : decode cX6_lastOf 6 = .ok (.ifCond .eq 8, 3) := dk_153 0 8 (dk_at dksX6_lastOf_0 6 rfl rfl)
theorem dX6_lastOf_9 : decode cX6_lastOf 9 = .ok (.bipush 9, 2) := dk_16 9 (dk_at dksX6_lastOf_0 9 rfl rfl)
theorem dX6_lastOf_11 : decode cX6_lastOf 11 = .ok (.goto 4, 3) := dk_167 0 4 (dk_at dksX6_lastOf_0 11 rfl rfl)
theorem dX6_lastOf_14 : decode cX6_lastOf 14 = .ok (.iconst 0, 1) := dk_3 (dk_at dksX6_lastOf_0 14 rfl rfl)
theorem dX6_lastOf_15 : decode cX6_lastOf 15 = .ok (.ireturn, 1) := dk_172 (dk_at dksX6_lastOf_0 15 rfl rfl)
abbrev cX6_hasVariable : ByteArray := prog_28_method_20_code
def yX6_hasVariable : MethodName := ⟨RX6, "hasVariable", "(II)Z"⟩
def dkwX6_hasVariable_3 : List UInt8 := [128, 62, 132, 4, 1, 167, 255, 210, 29, 172]
abbrev dktX6_hasVariable_3 : List UInt8 := dkwX6_hasVariable_3 ++ []
def dkwX6_hasVariable_2 : List UInt8 := [182, 0, 96, 28, 159, 0, 15, 42, 27, 21, 4, 6, 182, 0, 96, 28, 160, 0, 7, 4, 167, 0, 4, 3]
abbrev dktX6_hasVariable_2 : List UInt8 := dkwX6_hasVariable_2 ++ dktX6_hasVariable_3
def dkwX6_hasVariable_1 : List UInt8 := [3, 62, 3, 54, 4, 21, 4, 42, 27, 6, 182, 0, 92, 162, 0, 41, 29, 42, 27, 21, 4, 5]
abbrev dktX6_hasVariable_1 : List UInt8 := dkwX6_hasVariable_1 ++ dktX6_hasVariable_2
def dkwX6_hasVariable_0 : List UInt8 := [42, 27, 4, 182, 0, 92, 28, 159, 0, 13, 42, 27, 5, 182, 0, 92, 28, 160, 0, 7, 4, 167, 0, 4]
abbrev dktX6_hasVariable_0 : List UInt8 := dkwX6_hasVariable_0 ++ dktX6_hasVariable_1
theorem dksX6_hasVariable_0 : cX6_hasVariable.data.toList.drop 0 = dktX6_hasVariable_0 := by decide +kernel
theorem dksX6_hasVariable_1 : cX6_hasVariable.data.toList.drop 24 = dktX6_hasVariable_1 := dk_seg dksX6_hasVariable_0 24 rfl rfl
theorem dksX6_hasVariable_2 : cX6_hasVariable.data.toList.drop 46 = dktX6_hasVariable_2 := dk_seg dksX6_hasVariable_1 22 rfl rfl
theorem dksX6_hasVariable_3 : cX6_hasVariable.data.toList.drop 70 = dktX6_hasVariable_3 := dk_seg dksX6_hasVariable_2 24 rfl rfl
theorem dX6_hasVariable_0 : decode cX6_hasVariable 0 = .ok (.aload_n 0, 1) := dk_42 (dk_at dksX6_hasVariable_0 0 rfl rfl)
theorem dX6_hasVariable_1 : decode cX6_hasVariable 1 = .ok (.iload_n 1, 1) := dk_27 (dk_at dksX6_hasVariable_0 1 rfl rfl)
theorem dX6_hasVariable_2 : decode cX6_hasVariable 2 = .ok (.iconst 1, 1) := dk_4 (dk_at dksX6_hasVariable_0 2 rfl rfl)
theorem dX6_hasVariable_3 : decode cX6_hasVariable 3 = .ok (.invokevirtual 92, 3) := dk_182 0 92 (dk_at dksX6_hasVariable_0 3 rfl rfl)
theorem dX6_hasVariable_6 : decode cX6_hasVariable 6 = .ok (.iload_n 2, 1) := dk_28 (dk_at dksX6_hasVariable_0 6 rfl rfl)
theorem dX6_hasVariable_7 : decode cX6_hasVariable 7 = .ok (.if_icmp .eq 13, 3) := dk_159 0 13 (dk_at dksX6_hasVariable_0 7 rfl rfl)
theorem dX6_hasVariable_10 : decode cX6_hasVariable 10 = .ok (.aload_n 0, 1) := dk_42 (dk_at dksX6_hasVariable_0 10 rfl rfl)
theorem dX6_hasVariable_11 : decode cX6_hasVariable 11 = .ok (.iload_n 1, 1) := dk_27 (dk_at dksX6_hasVariable_0 11 rfl rfl)
theorem dX6_hasVariable_12 : decode cX6_hasVariable 12 = .ok (.iconst 2, 1) := dk_5 (dk_at dksX6_hasVariable_0 12 rfl rfl)
theorem dX6_hasVariable_13 : decode cX6_hasVariable 13 = .ok (.invokevirtual 92, 3) := dk_182 0 92 (dk_at dksX6_hasVariable_0 13 rfl rfl)
theorem dX6_hasVariable_16 : decode cX6_hasVariable 16 = .ok (.iload_n 2, 1) := dk_28 (dk_at dksX6_hasVariable_0 16 rfl rfl)
theorem dX6_hasVariable_17 : decode cX6_hasVariable 17 = .ok (.if_icmp .ne 7, 3) := dk_160 0 7 (dk_at dksX6_hasVariable_0 17 rfl rfl)
theorem dX6_hasVariable_20 : decode cX6_hasVariable 20 = .ok (.iconst 1, 1) := dk_4 (dk_at dksX6_hasVariable_0 20 rfl rfl)
theorem dX6_hasVariable_21 : decode cX6_hasVariable 21 = .ok (.goto 4, 3) := dk_167 0 4 (dk_at dksX6_hasVariable_0 21 rfl rfl)
theorem dX6_hasVariable_24 : decode cX6_hasVariable 24 = .ok (.iconst 0, 1) := dk_3 (dk_at dksX6_hasVariable_1 0 rfl rfl)
theorem dX6_hasVariable_25 : decode cX6_hasVariable 25 = .ok (.istore_n 3, 1) := dk_62 (dk_at dksX6_hasVariable_1 1 rfl rfl)
theorem dX6_hasVariable_26 : decode cX6_hasVariable 26 = .ok (.iconst 0, 1) := dk_3 (dk_at dksX6_hasVariable_1 2 rfl rfl)
theorem dX6_hasVariable_27 : decode cX6_hasVariable 27 = .ok (.istore 4, 2) := dk_54 4 (dk_at dksX6_hasVariable_1 3 rfl rfl)
theorem dX6_hasVariable_29 : decode cX6_hasVariable 29 = .ok (.iload 4, 2) := dk_21 4 (dk_at dksX6_hasVariable_1 5 rfl rfl)
theorem dX6_hasVariable_31 : decode cX6_hasVariable 31 = .ok (.aload_n 0, 1) := dk_42 (dk_at dksX6_hasVariable_1 7 rfl rfl)
theorem dX6_hasVariable_32 : decode cX6_hasVariable 32 = .ok (.iload_n 1, 1) := dk_27 (dk_at dksX6_hasVariable_1 8 rfl rfl)
theorem dX6_hasVariable_33 : decode cX6_hasVariable 33 = .ok (.iconst 3, 1) := dk_6 (dk_at dksX6_hasVariable_1 9 rfl rfl)
theorem dX6_hasVariable_34 : decode cX6_hasVariable 34 = .ok (.invokevirtual 92, 3) := dk_182 0 92 (dk_at dksX6_hasVariable_1 10 rfl rfl)
theorem dX6_hasVariable_37 : decode cX6_hasVariable 37 = .ok (.if_icmp .ge 41, 3) := dk_162 0 41 (dk_at dksX6_hasVariable_1 13 rfl rfl)
theorem dX6_hasVariable_40 : decode cX6_hasVariable 40 = .ok (.iload_n 3, 1) := dk_29 (dk_at dksX6_hasVariable_1 16 rfl rfl)
theorem dX6_hasVariable_41 : decode cX6_hasVariable 41 = .ok (.aload_n 0, 1) := dk_42 (dk_at dksX6_hasVariable_1 17 rfl rfl)
theorem dX6_hasVariable_42 : decode cX6_hasVariable 42 = .ok (.iload_n 1, 1) := dk_27 (dk_at dksX6_hasVariable_1 18 rfl rfl)
theorem dX6_hasVariable_43 : decode cX6_hasVariable 43 = .ok (.iload 4, 2) := dk_21 4 (dk_at dksX6_hasVariable_1 19 rfl rfl)
theorem dX6_hasVariable_45 : decode cX6_hasVariable 45 = .ok (.iconst 2, 1) := dk_5 (dk_at dksX6_hasVariable_1 21 rfl rfl)
theorem dX6_hasVariable_46 : decode cX6_hasVariable 46 = .ok (.invokevirtual 96, 3) := dk_182 0 96 (dk_at dksX6_hasVariable_2 0 rfl rfl)
theorem dX6_hasVariable_49 : decode cX6_hasVariable 49 = .ok (.iload_n 2, 1) := dk_28 (dk_at dksX6_hasVariable_2 3 rfl rfl)
theorem dX6_hasVariable_50 : decode cX6_hasVariable 50 = .ok (.if_icmp .eq 15, 3) := dk_159 0 15 (dk_at dksX6_hasVariable_2 4 rfl rfl)
theorem dX6_hasVariable_53 : decode cX6_hasVariable 53 = .ok (.aload_n 0, 1) := dk_42 (dk_at dksX6_hasVariable_2 7 rfl rfl)
theorem dX6_hasVariable_54 : decode cX6_hasVariable 54 = .ok (.iload_n 1, 1) := dk_27 (dk_at dksX6_hasVariable_2 8 rfl rfl)
theorem dX6_hasVariable_55 : decode cX6_hasVariable 55 = .ok (.iload 4, 2) := dk_21 4 (dk_at dksX6_hasVariable_2 9 rfl rfl)
theorem dX6_hasVariable_57 : decode cX6_hasVariable 57 = .ok (.iconst 3, 1) := dk_6 (dk_at dksX6_hasVariable_2 11 rfl rfl)
theorem dX6_hasVariable_58 : decode cX6_hasVariable 58 = .ok (.invokevirtual 96, 3) := dk_182 0 96 (dk_at dksX6_hasVariable_2 12 rfl rfl)
theorem dX6_hasVariable_61 : decode cX6_hasVariable 61 = .ok (.iload_n 2, 1) := dk_28 (dk_at dksX6_hasVariable_2 15 rfl rfl)
theorem dX6_hasVariable_62 : decode cX6_hasVariable 62 = .ok (.if_icmp .ne 7, 3) := dk_160 0 7 (dk_at dksX6_hasVariable_2 16 rfl rfl)
theorem dX6_hasVariable_65 : decode cX6_hasVariable 65 = .ok (.iconst 1, 1) := dk_4 (dk_at dksX6_hasVariable_2 19 rfl rfl)
theorem dX6_hasVariable_66 : decode cX6_hasVariable 66 = .ok (.goto 4, 3) := dk_167 0 4 (dk_at dksX6_hasVariable_2 20 rfl rfl)
theorem dX6_hasVariable_69 : decode cX6_hasVariable 69 = .ok (.iconst 0, 1) := dk_3 (dk_at dksX6_hasVariable_2 23 rfl rfl)
theorem dX6_hasVariable_70 : decode cX6_hasVariable 70 = .ok (.ior, 1) := dk_128 (dk_at dksX6_hasVariable_3 0 rfl rfl)
theorem dX6_hasVariable_71 : decode cX6_hasVariable 71 = .ok (.istore_n 3, 1) := dk_62 (dk_at dksX6_hasVariable_3 1 rfl rfl)
theorem dX6_hasVariable_72 : decode cX6_hasVariable 72 = .ok (.iinc 4 1, 3) := dk_132 4 1 (dk_at dksX6_hasVariable_3 2 rfl rfl)
theorem dX6_hasVariable_75 : decode cX6_hasVariable 75 = .ok (.goto (-46), 3) := dk_167 255 210 (dk_at dksX6_hasVariable_3 5 rfl rfl)
theorem dX6_hasVariable_78 : decode cX6_hasVariable 78 = .ok (.iload_n 3, 1) := dk_29 (dk_at dksX6_hasVariable_3 8 rfl rfl)
theorem dX6_hasVariable_79 : decode cX6_hasVariable 79 = .ok (.ireturn, 1) := dk_172 (dk_at dksX6_hasVariable_3 9 rfl rfl)
abbrev cX6_holdsAll : ByteArray := prog_28_method_29_code
def yX6_holdsAll : MethodName := ⟨RX6, "holdsAll", "(I)Z"⟩
def dkwX6_holdsAll_1 : List UInt8 := [132, 2, 1, 167, 255, 232, 4, 172]
abbrev dktX6_holdsAll_1 : List UInt8 := dkwX6_holdsAll_1 ++ []
def dkwX6_holdsAll_0 : List UInt8 := [3, 61, 28, 42, 27, 6, 182, 0, 92, 162, 0, 20, 42, 27, 28, 182, 0, 117, 154, 0, 5, 3, 172]
abbrev dktX6_holdsAll_0 : List UInt8 := dkwX6_holdsAll_0 ++ dktX6_holdsAll_1
theorem dksX6_holdsAll_0 : cX6_holdsAll.data.toList.drop 0 = dktX6_holdsAll_0 := by decide +kernel
theorem dksX6_holdsAll_1 : cX6_holdsAll.data.toList.drop 23 = dktX6_holdsAll_1 := dk_seg dksX6_holdsAll_0 23 rfl rfl
theorem dX6_holdsAll_0 : decode cX6_holdsAll 0 = .ok (.iconst 0, 1) := dk_3 (dk_at dksX6_holdsAll_0 0 rfl rfl)
theorem dX6_holdsAll_1 : decode cX6_holdsAll 1 = .ok (.istore_n 2, 1) := dk_61 (dk_at dksX6_holdsAll_0 1 rfl rfl)
theorem dX6_holdsAll_2 : decode cX6_holdsAll 2 = .ok (.iload_n 2, 1) := dk_28 (dk_at dksX6_holdsAll_0 2 rfl rfl)
theorem dX6_holdsAll_3 : decode cX6_holdsAll 3 = .ok (.aload_n 0, 1) := dk_42 (dk_at dksX6_holdsAll_0 3 rfl rfl)
theorem dX6_holdsAll_4 : decode cX6_holdsAll 4 = .ok (.iload_n 1, 1) := dk_27 (dk_at dksX6_holdsAll_0 4 rfl rfl)
theorem dX6_holdsAll_5 : decode cX6_holdsAll 5 = .ok (.iconst 3, 1) := dk_6 (dk_at dksX6_holdsAll_0 5 rfl rfl)
theorem dX6_holdsAll_6 : decode cX6_holdsAll 6 = .ok (.invokevirtual 92, 3) := dk_182 0 92 (dk_at dksX6_holdsAll_0 6 rfl rfl)
theorem dX6_holdsAll_9 : decode cX6_holdsAll 9 = .ok (.if_icmp .ge 20, 3) := dk_162 0 20 (dk_at dksX6_holdsAll_0 9 rfl rfl)
theorem dX6_holdsAll_12 : decode cX6_holdsAll 12 = .ok (.aload_n 0, 1) := dk_42 (dk_at dksX6_holdsAll_0 12 rfl rfl)
theorem dX6_holdsAll_13 : decode cX6_holdsAll 13 = .ok (.iload_n 1, 1) := dk_27 (dk_at dksX6_holdsAll_0 13 rfl rfl)
theorem dX6_holdsAll_14 : decode cX6_holdsAll 14 = .ok (.iload_n 2, 1) := dk_28 (dk_at dksX6_holdsAll_0 14 rfl rfl)
theorem dX6_holdsAll_15 : decode cX6_holdsAll 15 = .ok (.invokevirtual 117, 3) := dk_182 0 117 (dk_at dksX6_holdsAll_0 15 rfl rfl)
theorem dX6_holdsAll_18 : decode cX6_holdsAll 18 = .ok (.ifCond .ne 5, 3) := dk_154 0 5 (dk_at dksX6_holdsAll_0 18 rfl rfl)
theorem dX6_holdsAll_21 : decode cX6_holdsAll 21 = .ok (.iconst 0, 1) := dk_3 (dk_at dksX6_holdsAll_0 21 rfl rfl)
theorem dX6_holdsAll_22 : decode cX6_holdsAll 22 = .ok (.ireturn, 1) := dk_172 (dk_at dksX6_holdsAll_0 22 rfl rfl)
theorem dX6_holdsAll_23 : decode cX6_holdsAll 23 = .ok (.iinc 2 1, 3) := dk_132 2 1 (dk_at dksX6_holdsAll_1 0 rfl rfl)
theorem dX6_holdsAll_26 : decode cX6_holdsAll 26 = .ok (.goto (-24), 3) := dk_167 255 232 (dk_at dksX6_holdsAll_1 3 rfl rfl)
theorem dX6_holdsAll_29 : decode cX6_holdsAll 29 = .ok (.iconst 1, 1) := dk_4 (dk_at dksX6_holdsAll_1 6 rfl rfl)
theorem dX6_holdsAll_30 : decode cX6_holdsAll 30 = .ok (.ireturn, 1) := dk_172 (dk_at dksX6_holdsAll_1 7 rfl rfl)
abbrev cX6_holds : ByteArray := prog_28_method_28_code
def yX6_holds : MethodName := ⟨RX6, "holds", "(II)Z"⟩
def dkwX6_holds_5 : List UInt8 := [160, 0, 7, 4, 167, 0, 4, 3, 172]
abbrev dktX6_holds_5 : List UInt8 := dkwX6_holds_5 ++ []
def dkwX6_holds_4 : List UInt8 := [154, 0, 7, 4, 167, 0, 4, 3, 172, 29, 21, 4, 162, 0, 7, 4, 167, 0, 4, 3, 172, 29, 21, 4]
abbrev dktX6_holds_4 : List UInt8 := dkwX6_holds_4 ++ dktX6_holds_5
def dkwX6_holds_3 : List UInt8 := [42, 180, 0, 37, 42, 27, 28, 182, 0, 114, 51, 172, 42, 180, 0, 37, 42, 27, 28, 182, 0, 114, 51]
abbrev dktX6_holds_3 : List UInt8 := dkwX6_holds_3 ++ dktX6_holds_4
def dkwX6_holds_2 : List UInt8 := [170, 0, 0, 0, 0, 0, 0, 72, 0, 0, 0, 0, 0, 0, 0, 2, 0, 0, 0, 28, 0, 0, 0, 40, 0, 0, 0, 60]
abbrev dktX6_holds_2 : List UInt8 := dkwX6_holds_2 ++ dktX6_holds_3
def dkwX6_holds_1 : List UInt8 := [54, 4, 42, 27, 28, 3, 182, 0, 96]
abbrev dktX6_holds_1 : List UInt8 := dkwX6_holds_1 ++ dktX6_holds_2
def dkwX6_holds_0 : List UInt8 := [42, 42, 27, 28, 5, 182, 0, 96, 182, 0, 110, 62, 42, 42, 27, 28, 6, 182, 0, 96, 182, 0, 110]
abbrev dktX6_holds_0 : List UInt8 := dkwX6_holds_0 ++ dktX6_holds_1
theorem dksX6_holds_0 : cX6_holds.data.toList.drop 0 = dktX6_holds_0 := by decide +kernel
theorem dksX6_holds_1 : cX6_holds.data.toList.drop 23 = dktX6_holds_1 := dk_seg dksX6_holds_0 23 rfl rfl
theorem dksX6_holds_2 : cX6_holds.data.toList.drop 32 = dktX6_holds_2 := dk_seg dksX6_holds_1 9 rfl rfl
theorem dksX6_holds_3 : cX6_holds.data.toList.drop 60 = dktX6_holds_3 := dk_seg dksX6_holds_2 28 rfl rfl
theorem dksX6_holds_4 : cX6_holds.data.toList.drop 83 = dktX6_holds_4 := dk_seg dksX6_holds_3 23 rfl rfl
theorem dksX6_holds_5 : cX6_holds.data.toList.drop 107 = dktX6_holds_5 := dk_seg dksX6_holds_4 24 rfl rfl
theorem dX6_holds_0 : decode cX6_holds 0 = .ok (.aload_n 0, 1) := dk_42 (dk_at dksX6_holds_0 0 rfl rfl)
theorem dX6_holds_1 : decode cX6_holds 1 = .ok (.aload_n 0, 1) := dk_42 (dk_at dksX6_holds_0 1 rfl rfl)
theorem dX6_holds_2 : decode cX6_holds 2 = .ok (.iload_n 1, 1) := dk_27 (dk_at dksX6_holds_0 2 rfl rfl)
theorem dX6_holds_3 : decode cX6_holds 3 = .ok (.iload_n 2, 1) := dk_28 (dk_at dksX6_holds_0 3 rfl rfl)
theorem dX6_holds_4 : decode cX6_holds 4 = .ok (.iconst 2, 1) := dk_5 (dk_at dksX6_holds_0 4 rfl rfl)
theorem dX6_holds_5 : decode cX6_holds 5 = .ok (.invokevirtual 96, 3) := dk_182 0 96 (dk_at dksX6_holds_0 5 rfl rfl)
theorem dX6_holds_8 : decode cX6_holds 8 = .ok (.invokevirtual 110, 3) := dk_182 0 110 (dk_at dksX6_holds_0 8 rfl rfl)
theorem dX6_holds_11 : decode cX6_holds 11 = .ok (.istore_n 3, 1) := dk_62 (dk_at dksX6_holds_0 11 rfl rfl)
theorem dX6_holds_12 : decode cX6_holds 12 = .ok (.aload_n 0, 1) := dk_42 (dk_at dksX6_holds_0 12 rfl rfl)
theorem dX6_holds_13 : decode cX6_holds 13 = .ok (.aload_n 0, 1) := dk_42 (dk_at dksX6_holds_0 13 rfl rfl)
theorem dX6_holds_14 : decode cX6_holds 14 = .ok (.iload_n 1, 1) := dk_27 (dk_at dksX6_holds_0 14 rfl rfl)
theorem dX6_holds_15 : decode cX6_holds 15 = .ok (.iload_n 2, 1) := dk_28 (dk_at dksX6_holds_0 15 rfl rfl)
theorem dX6_holds_16 : decode cX6_holds 16 = .ok (.iconst 3, 1) := dk_6 (dk_at dksX6_holds_0 16 rfl rfl)
theorem dX6_holds_17 : decode cX6_holds 17 = .ok (.invokevirtual 96, 3) := dk_182 0 96 (dk_at dksX6_holds_0 17 rfl rfl)
theorem dX6_holds_20 : decode cX6_holds 20 = .ok (.invokevirtual 110, 3) := dk_182 0 110 (dk_at dksX6_holds_0 20 rfl rfl)
theorem dX6_holds_23 : decode cX6_holds 23 = .ok (.istore 4, 2) := dk_54 4 (dk_at dksX6_holds_1 0 rfl rfl)
theorem dX6_holds_25 : decode cX6_holds 25 = .ok (.aload_n 0, 1) := dk_42 (dk_at dksX6_holds_1 2 rfl rfl)
theorem dX6_holds_26 : decode cX6_holds 26 = .ok (.iload_n 1, 1) := dk_27 (dk_at dksX6_holds_1 3 rfl rfl)
theorem dX6_holds_27 : decode cX6_holds 27 = .ok (.iload_n 2, 1) := dk_28 (dk_at dksX6_holds_1 4 rfl rfl)
theorem dX6_holds_28 : decode cX6_holds 28 = .ok (.iconst 0, 1) := dk_3 (dk_at dksX6_holds_1 5 rfl rfl)
theorem dX6_holds_29 : decode cX6_holds 29 = .ok (.invokevirtual 96, 3) := dk_182 0 96 (dk_at dksX6_holds_1 6 rfl rfl)
theorem dX6_holds_32 : decode cX6_holds 32 = .ok (.tableswitch 72 0 2 #[28, 40, 60], 28) := by decide +kernel
theorem dX6_holds_60 : decode cX6_holds 60 = .ok (.aload_n 0, 1) := dk_42 (dk_at dksX6_holds_3 0 rfl rfl)
theorem dX6_holds_61 : decode cX6_holds 61 = .ok (.getfield 37, 3) := dk_180 0 37 (dk_at dksX6_holds_3 1 rfl rfl)
theorem dX6_holds_64 : decode cX6_holds 64 = .ok (.aload_n 0, 1) := dk_42 (dk_at dksX6_holds_3 4 rfl rfl)
theorem dX6_holds_65 : decode cX6_holds 65 = .ok (.iload_n 1, 1) := dk_27 (dk_at dksX6_holds_3 5 rfl rfl)
theorem dX6_holds_66 : decode cX6_holds 66 = .ok (.iload_n 2, 1) := dk_28 (dk_at dksX6_holds_3 6 rfl rfl)
theorem dX6_holds_67 : decode cX6_holds 67 = .ok (.invokevirtual 114, 3) := dk_182 0 114 (dk_at dksX6_holds_3 7 rfl rfl)
theorem dX6_holds_70 : decode cX6_holds 70 = .ok (.baload, 1) := dk_51 (dk_at dksX6_holds_3 10 rfl rfl)
theorem dX6_holds_71 : decode cX6_holds 71 = .ok (.ireturn, 1) := dk_172 (dk_at dksX6_holds_3 11 rfl rfl)
theorem dX6_holds_72 : decode cX6_holds 72 = .ok (.aload_n 0, 1) := dk_42 (dk_at dksX6_holds_3 12 rfl rfl)
theorem dX6_holds_73 : decode cX6_holds 73 = .ok (.getfield 37, 3) := dk_180 0 37 (dk_at dksX6_holds_3 13 rfl rfl)
theorem dX6_holds_76 : decode cX6_holds 76 = .ok (.aload_n 0, 1) := dk_42 (dk_at dksX6_holds_3 16 rfl rfl)
theorem dX6_holds_77 : decode cX6_holds 77 = .ok (.iload_n 1, 1) := dk_27 (dk_at dksX6_holds_3 17 rfl rfl)
theorem dX6_holds_78 : decode cX6_holds 78 = .ok (.iload_n 2, 1) := dk_28 (dk_at dksX6_holds_3 18 rfl rfl)
theorem dX6_holds_79 : decode cX6_holds 79 = .ok (.invokevirtual 114, 3) := dk_182 0 114 (dk_at dksX6_holds_3 19 rfl rfl)
theorem dX6_holds_82 : decode cX6_holds 82 = .ok (.baload, 1) := dk_51 (dk_at dksX6_holds_3 22 rfl rfl)
theorem dX6_holds_83 : decode cX6_holds 83 = .ok (.ifCond .ne 7, 3) := dk_154 0 7 (dk_at dksX6_holds_4 0 rfl rfl)
theorem dX6_holds_86 : decode cX6_holds 86 = .ok (.iconst 1, 1) := dk_4 (dk_at dksX6_holds_4 3 rfl rfl)
theorem dX6_holds_87 : decode cX6_holds 87 = .ok (.goto 4, 3) := dk_167 0 4 (dk_at dksX6_holds_4 4 rfl rfl)
theorem dX6_holds_90 : decode cX6_holds 90 = .ok (.iconst 0, 1) := dk_3 (dk_at dksX6_holds_4 7 rfl rfl)
theorem dX6_holds_91 : decode cX6_holds 91 = .ok (.ireturn, 1) := dk_172 (dk_at dksX6_holds_4 8 rfl rfl)
theorem dX6_holds_92 : decode cX6_holds 92 = .ok (.iload_n 3, 1) := dk_29 (dk_at dksX6_holds_4 9 rfl rfl)
theorem dX6_holds_93 : decode cX6_holds 93 = .ok (.iload 4, 2) := dk_21 4 (dk_at dksX6_holds_4 10 rfl rfl)
theorem dX6_holds_95 : decode cX6_holds 95 = .ok (.if_icmp .ge 7, 3) := dk_162 0 7 (dk_at dksX6_holds_4 12 rfl rfl)
theorem dX6_holds_98 : decode cX6_holds 98 = .ok (.iconst 1, 1) := dk_4 (dk_at dksX6_holds_4 15 rfl rfl)
theorem dX6_holds_99 : decode cX6_holds 99 = .ok (.goto 4, 3) := dk_167 0 4 (dk_at dksX6_holds_4 16 rfl rfl)
theorem dX6_holds_102 : decode cX6_holds 102 = .ok (.iconst 0, 1) := dk_3 (dk_at dksX6_holds_4 19 rfl rfl)
theorem dX6_holds_103 : decode cX6_holds 103 = .ok (.ireturn, 1) := dk_172 (dk_at dksX6_holds_4 20 rfl rfl)
theorem dX6_holds_104 : decode cX6_holds 104 = .ok (.iload_n 3, 1) := dk_29 (dk_at dksX6_holds_4 21 rfl rfl)
theorem dX6_holds_105 : decode cX6_holds 105 = .ok (.iload 4, 2) := dk_21 4 (dk_at dksX6_holds_4 22 rfl rfl)
theorem dX6_holds_107 : decode cX6_holds 107 = .ok (.if_icmp .ne 7, 3) := dk_160 0 7 (dk_at dksX6_holds_5 0 rfl rfl)
theorem dX6_holds_110 : decode cX6_holds 110 = .ok (.iconst 1, 1) := dk_4 (dk_at dksX6_holds_5 3 rfl rfl)
theorem dX6_holds_111 : decode cX6_holds 111 = .ok (.goto 4, 3) := dk_167 0 4 (dk_at dksX6_holds_5 4 rfl rfl)
theorem dX6_holds_114 : decode cX6_holds 114 = .ok (.iconst 0, 1) := dk_3 (dk_at dksX6_holds_5 7 rfl rfl)
theorem dX6_holds_115 : decode cX6_holds 115 = .ok (.ireturn, 1) := dk_172 (dk_at dksX6_holds_5 8 rfl rfl)
abbrev cX6_constant : ByteArray := prog_28_method_18_code
def yX6_constant : MethodName := ⟨RX6, "constant", "(I)I"⟩
def dkwX6_constant_0 : List UInt8 := [27, 16, 9, 164, 0, 15, 42, 180, 0, 34, 27, 16, 10, 100, 46, 167, 0, 4, 27, 172]
abbrev dktX6_constant_0 : List UInt8 := dkwX6_constant_0 ++ []
theorem dksX6_constant_0 : cX6_constant.data.toList.drop 0 = dktX6_constant_0 := by decide +kernel
theorem dX6_constant_0 : decode cX6_constant 0 = .ok (.iload_n 1, 1) := dk_27 (dk_at dksX6_constant_0 0 rfl rfl)
theorem dX6_constant_1 : decode cX6_constant 1 = .ok (.bipush 9, 2) := dk_16 9 (dk_at dksX6_constant_0 1 rfl rfl)
theorem dX6_constant_3 : decode cX6_constant 3 = .ok (.if_icmp .le 15, 3) := dk_164 0 15 (dk_at dksX6_constant_0 3 rfl rfl)
theorem dX6_constant_6 : decode cX6_constant 6 = .ok (.aload_n 0, 1) := dk_42 (dk_at dksX6_constant_0 6 rfl rfl)
theorem dX6_constant_7 : decode cX6_constant 7 = .ok (.getfield 34, 3) := dk_180 0 34 (dk_at dksX6_constant_0 7 rfl rfl)
theorem dX6_constant_10 : decode cX6_constant 10 = .ok (.iload_n 1, 1) := dk_27 (dk_at dksX6_constant_0 10 rfl rfl)
theorem dX6_constant_11 : decode cX6_constant 11 = .ok (.bipush 10, 2) := dk_16 10 (dk_at dksX6_constant_0 11 rfl rfl)
theorem dX6_constant_13 : decode cX6_constant 13 = .ok (.isub, 1) := dk_100 (dk_at dksX6_constant_0 13 rfl rfl)
theorem dX6_constant_14 : decode cX6_constant 14 = .ok (.iaload, 1) := dk_46 (dk_at dksX6_constant_0 14 rfl rfl)
theorem dX6_constant_15 : decode cX6_constant 15 = .ok (.goto 4, 3) := dk_167 0 4 (dk_at dksX6_constant_0 15 rfl rfl)
theorem dX6_constant_18 : decode cX6_constant 18 = .ok (.iload_n 1, 1) := dk_27 (dk_at dksX6_constant_0 18 rfl rfl)
theorem dX6_constant_19 : decode cX6_constant 19 = .ok (.ireturn, 1) := dk_172 (dk_at dksX6_constant_0 19 rfl rfl)
abbrev cX6_factOfLiteral : ByteArray := prog_28_method_26_code
def yX6_factOfLiteral : MethodName := ⟨RX6, "factOfLiteral", "(II)I"⟩
def dkwX6_factOfLiteral_1 : List UInt8 := [182, 0, 96, 182, 0, 110, 184, 0, 88, 172]
abbrev dktX6_factOfLiteral_1 : List UInt8 := dkwX6_factOfLiteral_1 ++ []
def dkwX6_factOfLiteral_0 : List UInt8 := [42, 27, 28, 4, 182, 0, 96, 42, 42, 27, 28, 5, 182, 0, 96, 182, 0, 110, 42, 42, 27, 28, 6]
abbrev dktX6_factOfLiteral_0 : List UInt8 := dkwX6_factOfLiteral_0 ++ dktX6_factOfLiteral_1
theorem dksX6_factOfLiteral_0 : cX6_factOfLiteral.data.toList.drop 0 = dktX6_factOfLiteral_0 := by decide +kernel
theorem dksX6_factOfLiteral_1 : cX6_factOfLiteral.data.toList.drop 23 = dktX6_factOfLiteral_1 := dk_seg dksX6_factOfLiteral_0 23 rfl rfl
theorem dX6_factOfLiteral_0 : decode cX6_factOfLiteral 0 = .ok (.aload_n 0, 1) := dk_42 (dk_at dksX6_factOfLiteral_0 0 rfl rfl)
theorem dX6_factOfLiteral_1 : decode cX6_factOfLiteral 1 = .ok (.iload_n 1, 1) := dk_27 (dk_at dksX6_factOfLiteral_0 1 rfl rfl)
theorem dX6_factOfLiteral_2 : decode cX6_factOfLiteral 2 = .ok (.iload_n 2, 1) := dk_28 (dk_at dksX6_factOfLiteral_0 2 rfl rfl)
theorem dX6_factOfLiteral_3 : decode cX6_factOfLiteral 3 = .ok (.iconst 1, 1) := dk_4 (dk_at dksX6_factOfLiteral_0 3 rfl rfl)
theorem dX6_factOfLiteral_4 : decode cX6_factOfLiteral 4 = .ok (.invokevirtual 96, 3) := dk_182 0 96 (dk_at dksX6_factOfLiteral_0 4 rfl rfl)
theorem dX6_factOfLiteral_7 : decode cX6_factOfLiteral 7 = .ok (.aload_n 0, 1) := dk_42 (dk_at dksX6_factOfLiteral_0 7 rfl rfl)
theorem dX6_factOfLiteral_8 : decode cX6_factOfLiteral 8 = .ok (.aload_n 0, 1) := dk_42 (dk_at dksX6_factOfLiteral_0 8 rfl rfl)
theorem dX6_factOfLiteral_9 : decode cX6_factOfLiteral 9 = .ok (.iload_n 1, 1) := dk_27 (dk_at dksX6_factOfLiteral_0 9 rfl rfl)
theorem dX6_factOfLiteral_10 : decode cX6_factOfLiteral 10 = .ok (.iload_n 2, 1) := dk_28 (dk_at dksX6_factOfLiteral_0 10 rfl rfl)
theorem dX6_factOfLiteral_11 : decode cX6_factOfLiteral 11 = .ok (.iconst 2, 1) := dk_5 (dk_at dksX6_factOfLiteral_0 11 rfl rfl)
theorem dX6_factOfLiteral_12 : decode cX6_factOfLiteral 12 = .ok (.invokevirtual 96, 3) := dk_182 0 96 (dk_at dksX6_factOfLiteral_0 12 rfl rfl)
theorem dX6_factOfLiteral_15 : decode cX6_factOfLiteral 15 = .ok (.invokevirtual 110, 3) := dk_182 0 110 (dk_at dksX6_factOfLiteral_0 15 rfl rfl)
theorem dX6_factOfLiteral_18 : decode cX6_factOfLiteral 18 = .ok (.aload_n 0, 1) := dk_42 (dk_at dksX6_factOfLiteral_0 18 rfl rfl)
theorem dX6_factOfLiteral_19 : decode cX6_factOfLiteral 19 = .ok (.aload_n 0, 1) := dk_42 (dk_at dksX6_factOfLiteral_0 19 rfl rfl)
theorem dX6_factOfLiteral_20 : decode cX6_factOfLiteral 20 = .ok (.iload_n 1, 1) := dk_27 (dk_at dksX6_factOfLiteral_0 20 rfl rfl)
theorem dX6_factOfLiteral_21 : decode cX6_factOfLiteral 21 = .ok (.iload_n 2, 1) := dk_28 (dk_at dksX6_factOfLiteral_0 21 rfl rfl)
theorem dX6_factOfLiteral_22 : decode cX6_factOfLiteral 22 = .ok (.iconst 3, 1) := dk_6 (dk_at dksX6_factOfLiteral_0 22 rfl rfl)
theorem dX6_factOfLiteral_23 : decode cX6_factOfLiteral 23 = .ok (.invokevirtual 96, 3) := dk_182 0 96 (dk_at dksX6_factOfLiteral_1 0 rfl rfl)
theorem dX6_factOfLiteral_26 : decode cX6_factOfLiteral 26 = .ok (.invokevirtual 110, 3) := dk_182 0 110 (dk_at dksX6_factOfLiteral_1 3 rfl rfl)
theorem dX6_factOfLiteral_29 : decode cX6_factOfLiteral 29 = .ok (.invokestatic 88, 3) := dk_184 0 88 (dk_at dksX6_factOfLiteral_1 6 rfl rfl)
theorem dX6_factOfLiteral_32 : decode cX6_factOfLiteral 32 = .ok (.ireturn, 1) := dk_172 (dk_at dksX6_factOfLiteral_1 9 rfl rfl)
abbrev cX6_head : ByteArray := prog_28_method_27_code
def yX6_head : MethodName := ⟨RX6, "head", "(I)I"⟩
def dkwX6_head_1 : List UInt8 := [182, 0, 110, 184, 0, 88, 172]
abbrev dktX6_head_1 : List UInt8 := dkwX6_head_1 ++ []
def dkwX6_head_0 : List UInt8 := [42, 27, 3, 182, 0, 92, 42, 42, 27, 4, 182, 0, 92, 182, 0, 110, 42, 42, 27, 5, 182, 0, 92]
abbrev dktX6_head_0 : List UInt8 := dkwX6_head_0 ++ dktX6_head_1
theorem dksX6_head_0 : cX6_head.data.toList.drop 0 = dktX6_head_0 := by decide +kernel
theorem dksX6_head_1 : cX6_head.data.toList.drop 23 = dktX6_head_1 := dk_seg dksX6_head_0 23 rfl rfl
theorem dX6_head_0 : decode cX6_head 0 = .ok (.aload_n 0, 1) := dk_42 (dk_at dksX6_head_0 0 rfl rfl)
theorem dX6_head_1 : decode cX6_head 1 = .ok (.iload_n 1, 1) := dk_27 (dk_at dksX6_head_0 1 rfl rfl)
theorem dX6_head_2 : decode cX6_head 2 = .ok (.iconst 0, 1) := dk_3 (dk_at dksX6_head_0 2 rfl rfl)
theorem dX6_head_3 : decode cX6_head 3 = .ok (.invokevirtual 92, 3) := dk_182 0 92 (dk_at dksX6_head_0 3 rfl rfl)
theorem dX6_head_6 : decode cX6_head 6 = .ok (.aload_n 0, 1) := dk_42 (dk_at dksX6_head_0 6 rfl rfl)
theorem dX6_head_7 : decode cX6_head 7 = .ok (.aload_n 0, 1) := dk_42 (dk_at dksX6_head_0 7 rfl rfl)
theorem dX6_head_8 : decode cX6_head 8 = .ok (.iload_n 1, 1) := dk_27 (dk_at dksX6_head_0 8 rfl rfl)
theorem dX6_head_9 : decode cX6_head 9 = .ok (.iconst 1, 1) := dk_4 (dk_at dksX6_head_0 9 rfl rfl)
theorem dX6_head_10 : decode cX6_head 10 = .ok (.invokevirtual 92, 3) := dk_182 0 92 (dk_at dksX6_head_0 10 rfl rfl)
theorem dX6_head_13 : decode cX6_head 13 = .ok (.invokevirtual 110, 3) := dk_182 0 110 (dk_at dksX6_head_0 13 rfl rfl)
theorem dX6_head_16 : decode cX6_head 16 = .ok (.aload_n 0, 1) := dk_42 (dk_at dksX6_head_0 16 rfl rfl)
theorem dX6_head_17 : decode cX6_head 17 = .ok (.aload_n 0, 1) := dk_42 (dk_at dksX6_head_0 17 rfl rfl)
theorem dX6_head_18 : decode cX6_head 18 = .ok (.iload_n 1, 1) := dk_27 (dk_at dksX6_head_0 18 rfl rfl)
theorem dX6_head_19 : decode cX6_head 19 = .ok (.iconst 2, 1) := dk_5 (dk_at dksX6_head_0 19 rfl rfl)
theorem dX6_head_20 : decode cX6_head 20 = .ok (.invokevirtual 92, 3) := dk_182 0 92 (dk_at dksX6_head_0 20 rfl rfl)
theorem dX6_head_23 : decode cX6_head 23 = .ok (.invokevirtual 110, 3) := dk_182 0 110 (dk_at dksX6_head_1 0 rfl rfl)
theorem dX6_head_26 : decode cX6_head 26 = .ok (.invokestatic 88, 3) := dk_184 0 88 (dk_at dksX6_head_1 3 rfl rfl)
theorem dX6_head_29 : decode cX6_head 29 = .ok (.ireturn, 1) := dk_172 (dk_at dksX6_head_1 6 rfl rfl)
abbrev cX6_next : ByteArray := prog_28_method_31_code
def yX6_next : MethodName := ⟨RX6, "next", "(II)I"⟩
def dkwX6_next_3 : List UInt8 := [21, 4, 29, 96, 54, 4, 167, 255, 232, 21, 4, 172]
abbrev dktX6_next_3 : List UInt8 := dkwX6_next_3 ++ []
def dkwX6_next_2 : List UInt8 := [28, 29, 96, 54, 4, 21, 4, 17, 3, 232, 162, 0, 22, 42, 27, 21, 4, 182, 0, 123, 154, 0, 12]
abbrev dktX6_next_2 : List UInt8 := dkwX6_next_2 ++ dktX6_next_3
def dkwX6_next_1 : List UInt8 := [16, 10, 167, 0, 21, 42, 27, 16, 10, 182, 0, 120, 158, 0, 8, 16, 100, 167, 0, 6, 17, 3, 232, 62]
abbrev dktX6_next_1 : List UInt8 := dkwX6_next_1 ++ dktX6_next_2
def dkwX6_next_0 : List UInt8 := [42, 27, 16, 12, 182, 0, 120, 158, 0, 7, 4, 167, 0, 36, 42, 27, 16, 11, 182, 0, 120, 158, 0, 8]
abbrev dktX6_next_0 : List UInt8 := dkwX6_next_0 ++ dktX6_next_1
theorem dksX6_next_0 : cX6_next.data.toList.drop 0 = dktX6_next_0 := by decide +kernel
theorem dksX6_next_1 : cX6_next.data.toList.drop 24 = dktX6_next_1 := dk_seg dksX6_next_0 24 rfl rfl
theorem dksX6_next_2 : cX6_next.data.toList.drop 48 = dktX6_next_2 := dk_seg dksX6_next_1 24 rfl rfl
theorem dksX6_next_3 : cX6_next.data.toList.drop 71 = dktX6_next_3 := dk_seg dksX6_next_2 23 rfl rfl
theorem dX6_next_0 : decode cX6_next 0 = .ok (.aload_n 0, 1) := dk_42 (dk_at dksX6_next_0 0 rfl rfl)
theorem dX6_next_1 : decode cX6_next 1 = .ok (.iload_n 1, 1) := dk_27 (dk_at dksX6_next_0 1 rfl rfl)
theorem dX6_next_2 : decode cX6_next 2 = .ok (.bipush 12, 2) := dk_16 12 (dk_at dksX6_next_0 2 rfl rfl)
theorem dX6_next_4 : decode cX6_next 4 = .ok (.invokevirtual 120, 3) := dk_182 0 120 (dk_at dksX6_next_0 4 rfl rfl)
theorem dX6_next_7 : decode cX6_next 7 = .ok (.ifCond .le 7, 3) := dk_158 0 7 (dk_at dksX6_next_0 7 rfl rfl)
theorem dX6_next_10 : decode cX6_next 10 = .ok (.iconst 1, 1) := dk_4 (dk_at dksX6_next_0 10 rfl rfl)
theorem dX6_next_11 : decode cX6_next 11 = .ok (.goto 36, 3) := dk_167 0 36 (dk_at dksX6_next_0 11 rfl rfl)
theorem dX6_next_14 : decode cX6_next 14 = .ok (.aload_n 0, 1) := dk_42 (dk_at dksX6_next_0 14 rfl rfl)
theorem dX6_next_15 : decode cX6_next 15 = .ok (.iload_n 1, 1) := dk_27 (dk_at dksX6_next_0 15 rfl rfl)
theorem dX6_next_16 : decode cX6_next 16 = .ok (.bipush 11, 2) := dk_16 11 (dk_at dksX6_next_0 16 rfl rfl)
theorem dX6_next_18 : decode cX6_next 18 = .ok (.invokevirtual 120, 3) := dk_182 0 120 (dk_at dksX6_next_0 18 rfl rfl)
theorem dX6_next_21 : decode cX6_next 21 = .ok (.ifCond .le 8, 3) := dk_158 0 8 (dk_at dksX6_next_0 21 rfl rfl)
theorem dX6_next_24 : decode cX6_next 24 = .ok (.bipush 10, 2) := dk_16 10 (dk_at dksX6_next_1 0 rfl rfl)
theorem dX6_next_26 : decode cX6_next 26 = .ok (.goto 21, 3) := dk_167 0 21 (dk_at dksX6_next_1 2 rfl rfl)
theorem dX6_next_29 : decode cX6_next 29 = .ok (.aload_n 0, 1) := dk_42 (dk_at dksX6_next_1 5 rfl rfl)
theorem dX6_next_30 : decode cX6_next 30 = .ok (.iload_n 1, 1) := dk_27 (dk_at dksX6_next_1 6 rfl rfl)
theorem dX6_next_31 : decode cX6_next 31 = .ok (.bipush 10, 2) := dk_16 10 (dk_at dksX6_next_1 7 rfl rfl)
theorem dX6_next_33 : decode cX6_next 33 = .ok (.invokevirtual 120, 3) := dk_182 0 120 (dk_at dksX6_next_1 9 rfl rfl)
theorem dX6_next_36 : decode cX6_next 36 = .ok (.ifCond .le 8, 3) := dk_158 0 8 (dk_at dksX6_next_1 12 rfl rfl)
theorem dX6_next_39 : decode cX6_next 39 = .ok (.bipush 100, 2) := dk_16 100 (dk_at dksX6_next_1 15 rfl rfl)
theorem dX6_next_41 : decode cX6_next 41 = .ok (.goto 6, 3) := dk_167 0 6 (dk_at dksX6_next_1 17 rfl rfl)
theorem dX6_next_44 : decode cX6_next 44 = .ok (.sipush 1000, 3) := dk_17 3 232 (dk_at dksX6_next_1 20 rfl rfl)
theorem dX6_next_47 : decode cX6_next 47 = .ok (.istore_n 3, 1) := dk_62 (dk_at dksX6_next_1 23 rfl rfl)
theorem dX6_next_48 : decode cX6_next 48 = .ok (.iload_n 2, 1) := dk_28 (dk_at dksX6_next_2 0 rfl rfl)
theorem dX6_next_49 : decode cX6_next 49 = .ok (.iload_n 3, 1) := dk_29 (dk_at dksX6_next_2 1 rfl rfl)
theorem dX6_next_50 : decode cX6_next 50 = .ok (.iadd, 1) := dk_96 (dk_at dksX6_next_2 2 rfl rfl)
theorem dX6_next_51 : decode cX6_next 51 = .ok (.istore 4, 2) := dk_54 4 (dk_at dksX6_next_2 3 rfl rfl)
theorem dX6_next_53 : decode cX6_next 53 = .ok (.iload 4, 2) := dk_21 4 (dk_at dksX6_next_2 5 rfl rfl)
theorem dX6_next_55 : decode cX6_next 55 = .ok (.sipush 1000, 3) := dk_17 3 232 (dk_at dksX6_next_2 7 rfl rfl)
theorem dX6_next_58 : decode cX6_next 58 = .ok (.if_icmp .ge 22, 3) := dk_162 0 22 (dk_at dksX6_next_2 10 rfl rfl)
theorem dX6_next_61 : decode cX6_next 61 = .ok (.aload_n 0, 1) := dk_42 (dk_at dksX6_next_2 13 rfl rfl)
theorem dX6_next_62 : decode cX6_next 62 = .ok (.iload_n 1, 1) := dk_27 (dk_at dksX6_next_2 14 rfl rfl)
theorem dX6_next_63 : decode cX6_next 63 = .ok (.iload 4, 2) := dk_21 4 (dk_at dksX6_next_2 15 rfl rfl)
theorem dX6_next_65 : decode cX6_next 65 = .ok (.invokevirtual 123, 3) := dk_182 0 123 (dk_at dksX6_next_2 17 rfl rfl)
theorem dX6_next_68 : decode cX6_next 68 = .ok (.ifCond .ne 12, 3) := dk_154 0 12 (dk_at dksX6_next_2 20 rfl rfl)
theorem dX6_next_71 : decode cX6_next 71 = .ok (.iload 4, 2) := dk_21 4 (dk_at dksX6_next_3 0 rfl rfl)
theorem dX6_next_73 : decode cX6_next 73 = .ok (.iload_n 3, 1) := dk_29 (dk_at dksX6_next_3 2 rfl rfl)
theorem dX6_next_74 : decode cX6_next 74 = .ok (.iadd, 1) := dk_96 (dk_at dksX6_next_3 3 rfl rfl)
theorem dX6_next_75 : decode cX6_next 75 = .ok (.istore 4, 2) := dk_54 4 (dk_at dksX6_next_3 4 rfl rfl)
theorem dX6_next_77 : decode cX6_next 77 = .ok (.goto (-24), 3) := dk_167 255 232 (dk_at dksX6_next_3 6 rfl rfl)
theorem dX6_next_80 : decode cX6_next 80 = .ok (.iload 4, 2) := dk_21 4 (dk_at dksX6_next_3 9 rfl rfl)
theorem dX6_next_82 : decode cX6_next 82 = .ok (.ireturn, 1) := dk_172 (dk_at dksX6_next_3 11 rfl rfl)
abbrev cX6_measures : ByteArray := prog_28_method_37_code
def yX6_measures : MethodName := ⟨RX6, "measures", "()V"⟩
def dkwX6_measures_4 : List UInt8 := [162, 0, 14, 42, 28, 182, 0, 148, 132, 2, 1, 167, 255, 238, 177]
abbrev dktX6_measures_4 : List UInt8 := dkwX6_measures_4 ++ []
def dkwX6_measures_3 : List UInt8 := [182, 0, 145, 128, 60, 132, 2, 1, 167, 255, 235, 167, 255, 224, 3, 61, 28, 42, 180, 0, 9, 6, 46]
abbrev dktX6_measures_3 : List UInt8 := dkwX6_measures_3 ++ dktX6_measures_4
def dkwX6_measures_2 : List UInt8 := [60, 27, 153, 0, 34, 3, 60, 3, 61, 28, 42, 180, 0, 9, 6, 46, 162, 0, 17, 27, 42, 28]
abbrev dktX6_measures_2 : List UInt8 := dkwX6_measures_2 ++ dktX6_measures_3
def dkwX6_measures_1 : List UInt8 := [160, 0, 7, 3, 167, 0, 5, 18, 144, 79, 42, 180, 0, 25, 27, 2, 79, 132, 1, 1, 167, 255, 215, 4]
abbrev dktX6_measures_1 : List UInt8 := dkwX6_measures_1 ++ dktX6_measures_2
def dkwX6_measures_0 : List UInt8 := [3, 60, 27, 17, 1, 184, 162, 0, 40, 42, 180, 0, 22, 27, 42, 180, 0, 9, 7, 27, 96, 46, 4]
abbrev dktX6_measures_0 : List UInt8 := dkwX6_measures_0 ++ dktX6_measures_1
theorem dksX6_measures_0 : cX6_measures.data.toList.drop 0 = dktX6_measures_0 := by decide +kernel
theorem dksX6_measures_1 : cX6_measures.data.toList.drop 23 = dktX6_measures_1 := dk_seg dksX6_measures_0 23 rfl rfl
theorem dksX6_measures_2 : cX6_measures.data.toList.drop 47 = dktX6_measures_2 := dk_seg dksX6_measures_1 24 rfl rfl
theorem dksX6_measures_3 : cX6_measures.data.toList.drop 69 = dktX6_measures_3 := dk_seg dksX6_measures_2 22 rfl rfl
theorem dksX6_measures_4 : cX6_measures.data.toList.drop 92 = dktX6_measures_4 := dk_seg dksX6_measures_3 23 rfl rfl
theorem dX6_measures_0 : decode cX6_measures 0 = .ok (.iconst 0, 1) := dk_3 (dk_at dksX6_measures_0 0 rfl rfl)
theorem dX6_measures_1 : decode cX6_measures 1 = .ok (.istore_n 1, 1) := dk_60 (dk_at dksX6_measures_0 1 rfl rfl)
theorem dX6_measures_2 : decode cX6_measures 2 = .ok (.iload_n 1, 1) := dk_27 (dk_at dksX6_measures_0 2 rfl rfl)
theorem dX6_measures_3 : decode cX6_measures 3 = .ok (.sipush 440, 3) := dk_17 1 184 (dk_at dksX6_measures_0 3 rfl rfl)
theorem dX6_measures_6 : decode cX6_measures 6 = .ok (.if_icmp .ge 40, 3) := dk_162 0 40 (dk_at dksX6_measures_0 6 rfl rfl)
theorem dX6_measures_9 : decode cX6_measures 9 = .ok (.aload_n 0, 1) := dk_42 (dk_at dksX6_measures_0 9 rfl rfl)
theorem dX6_measures_10 : decode cX6_measures 10 = .ok (.getfield 22, 3) := dk_180 0 22 (dk_at dksX6_measures_0 10 rfl rfl)
theorem dX6_measures_13 : decode cX6_measures 13 = .ok (.iload_n 1, 1) := dk_27 (dk_at dksX6_measures_0 13 rfl rfl)
theorem dX6_measures_14 : decode cX6_measures 14 = .ok (.aload_n 0, 1) := dk_42 (dk_at dksX6_measures_0 14 rfl rfl)
theorem dX6_measures_15 : decode cX6_measures 15 = .ok (.getfield 9, 3) := dk_180 0 9 (dk_at dksX6_measures_0 15 rfl rfl)
theorem dX6_measures_18 : decode cX6_measures 18 = .ok (.iconst 4, 1) := dk_7 (dk_at dksX6_measures_0 18 rfl rfl)
theorem dX6_measures_19 : decode cX6_measures 19 = .ok (.iload_n 1, 1) := dk_27 (dk_at dksX6_measures_0 19 rfl rfl)
theorem dX6_measures_20 : decode cX6_measures 20 = .ok (.iadd, 1) := dk_96 (dk_at dksX6_measures_0 20 rfl rfl)
theorem dX6_measures_21 : decode cX6_measures 21 = .ok (.iaload, 1) := dk_46 (dk_at dksX6_measures_0 21 rfl rfl)
theorem dX6_measures_22 : decode cX6_measures 22 = .ok (.iconst 1, 1) := dk_4 (dk_at dksX6_measures_0 22 rfl rfl)
theorem dX6_measures_23 : decode cX6_measures 23 = .ok (.if_icmp .ne 7, 3) := dk_160 0 7 (dk_at dksX6_measures_1 0 rfl rfl)
theorem dX6_measures_26 : decode cX6_measures 26 = .ok (.iconst 0, 1) := dk_3 (dk_at dksX6_measures_1 3 rfl rfl)
theorem dX6_measures_27 : decode cX6_measures 27 = .ok (.goto 5, 3) := dk_167 0 5 (dk_at dksX6_measures_1 4 rfl rfl)
theorem dX6_measures_30 : decode cX6_measures 30 = .ok (.ldc 144, 2) := dk_18 144 (dk_at dksX6_measures_1 7 rfl rfl)
theorem dX6_measures_32 : decode cX6_measures 32 = .ok (.iastore, 1) := dk_79 (dk_at dksX6_measures_1 9 rfl rfl)
theorem dX6_measures_33 : decode cX6_measures 33 = .ok (.aload_n 0, 1) := dk_42 (dk_at dksX6_measures_1 10 rfl rfl)
theorem dX6_measures_34 : decode cX6_measures 34 = .ok (.getfield 25, 3) := dk_180 0 25 (dk_at dksX6_measures_1 11 rfl rfl)
theorem dX6_measures_37 : decode cX6_measures 37 = .ok (.iload_n 1, 1) := dk_27 (dk_at dksX6_measures_1 14 rfl rfl)
theorem dX6_measures_38 : decode cX6_measures 38 = .ok (.iconst (-1), 1) := dk_2 (dk_at dksX6_measures_1 15 rfl rfl)
theorem dX6_measures_39 : decode cX6_measures 39 = .ok (.iastore, 1) := dk_79 (dk_at dksX6_measures_1 16 rfl rfl)
theorem dX6_measures_40 : decode cX6_measures 40 = .ok (.iinc 1 1, 3) := dk_132 1 1 (dk_at dksX6_measures_1 17 rfl rfl)
theorem dX6_measures_43 : decode cX6_measures 43 = .ok (.goto (-41), 3) := dk_167 255 215 (dk_at dksX6_measures_1 20 rfl rfl)
theorem dX6_measures_46 : decode cX6_measures 46 = .ok (.iconst 1, 1) := dk_4 (dk_at dksX6_measures_1 23 rfl rfl)
theorem dX6_measures_47 : decode cX6_measures 47 = .ok (.istore_n 1, 1) := dk_60 (dk_at dksX6_measures_2 0 rfl rfl)
theorem dX6_measures_48 : decode cX6_measures 48 = .ok (.iload_n 1, 1) := dk_27 (dk_at dksX6_measures_2 1 rfl rfl)
theorem dX6_measures_49 : decode cX6_measures 49 = .ok (.ifCond .eq 34, 3) := dk_153 0 34 (dk_at dksX6_measures_2 2 rfl rfl)
theorem dX6_measures_52 : decode cX6_measures 52 = .ok (.iconst 0, 1) := dk_3 (dk_at dksX6_measures_2 5 rfl rfl)
theorem dX6_measures_53 : decode cX6_measures 53 = .ok (.istore_n 1, 1) := dk_60 (dk_at dksX6_measures_2 6 rfl rfl)
theorem dX6_measures_54 : decode cX6_measures 54 = .ok (.iconst 0, 1) := dk_3 (dk_at dksX6_measures_2 7 rfl rfl)
theorem dX6_measures_55 : decode cX6_measures 55 = .ok (.istore_n 2, 1) := dk_61 (dk_at dksX6_measures_2 8 rfl rfl)
theorem dX6_measures_56 : decode cX6_measures 56 = .ok (.iload_n 2, 1) := dk_28 (dk_at dksX6_measures_2 9 rfl rfl)
theorem dX6_measures_57 : decode cX6_measures 57 = .ok (.aload_n 0, 1) := dk_42 (dk_at dksX6_measures_2 10 rfl rfl)
theorem dX6_measures_58 : decode cX6_measures 58 = .ok (.getfield 9, 3) := dk_180 0 9 (dk_at dksX6_measures_2 11 rfl rfl)
theorem dX6_measures_61 : decode cX6_measures 61 = .ok (.iconst 3, 1) := dk_6 (dk_at dksX6_measures_2 14 rfl rfl)
theorem dX6_measures_62 : decode cX6_measures 62 = .ok (.iaload, 1) := dk_46 (dk_at dksX6_measures_2 15 rfl rfl)
theorem dX6_measures_63 : decode cX6_measures 63 = .ok (.if_icmp .ge 17, 3) := dk_162 0 17 (dk_at dksX6_measures_2 16 rfl rfl)
theorem dX6_measures_66 : decode cX6_measures 66 = .ok (.iload_n 1, 1) := dk_27 (dk_at dksX6_measures_2 19 rfl rfl)
theorem dX6_measures_67 : decode cX6_measures 67 = .ok (.aload_n 0, 1) := dk_42 (dk_at dksX6_measures_2 20 rfl rfl)
theorem dX6_measures_68 : decode cX6_measures 68 = .ok (.iload_n 2, 1) := dk_28 (dk_at dksX6_measures_2 21 rfl rfl)
theorem dX6_measures_69 : decode cX6_measures 69 = .ok (.invokevirtual 145, 3) := dk_182 0 145 (dk_at dksX6_measures_3 0 rfl rfl)
theorem dX6_measures_72 : decode cX6_measures 72 = .ok (.ior, 1) := dk_128 (dk_at dksX6_measures_3 3 rfl rfl)
theorem dX6_measures_73 : decode cX6_measures 73 = .ok (.istore_n 1, 1) := dk_60 (dk_at dksX6_measures_3 4 rfl rfl)
theorem dX6_measures_74 : decode cX6_measures 74 = .ok (.iinc 2 1, 3) := dk_132 2 1 (dk_at dksX6_measures_3 5 rfl rfl)
theorem dX6_measures_77 : decode cX6_measures 77 = .ok (.goto (-21), 3) := dk_167 255 235 (dk_at dksX6_measures_3 8 rfl rfl)
theorem dX6_measures_80 : decode cX6_measures 80 = .ok (.goto (-32), 3) := dk_167 255 224 (dk_at dksX6_measures_3 11 rfl rfl)
theorem dX6_measures_83 : decode cX6_measures 83 = .ok (.iconst 0, 1) := dk_3 (dk_at dksX6_measures_3 14 rfl rfl)
theorem dX6_measures_84 : decode cX6_measures 84 = .ok (.istore_n 2, 1) := dk_61 (dk_at dksX6_measures_3 15 rfl rfl)
theorem dX6_measures_85 : decode cX6_measures 85 = .ok (.iload_n 2, 1) := dk_28 (dk_at dksX6_measures_3 16 rfl rfl)
theorem dX6_measures_86 : decode cX6_measures 86 = .ok (.aload_n 0, 1) := dk_42 (dk_at dksX6_measures_3 17 rfl rfl)
theorem dX6_measures_87 : decode cX6_measures 87 = .ok (.getfield 9, 3) := dk_180 0 9 (dk_at dksX6_measures_3 18 rfl rfl)
theorem dX6_measures_90 : decode cX6_measures 90 = .ok (.iconst 3, 1) := dk_6 (dk_at dksX6_measures_3 21 rfl rfl)
theorem dX6_measures_91 : decode cX6_measures 91 = .ok (.iaload, 1) := dk_46 (dk_at dksX6_measures_3 22 rfl rfl)
theorem dX6_measures_92 : decode cX6_measures 92 = .ok (.if_icmp .ge 14, 3) := dk_162 0 14 (dk_at dksX6_measures_4 0 rfl rfl)
theorem dX6_measures_95 : decode cX6_measures 95 = .ok (.aload_n 0, 1) := dk_42 (dk_at dksX6_measures_4 3 rfl rfl)
theorem dX6_measures_96 : decode cX6_measures 96 = .ok (.iload_n 2, 1) := dk_28 (dk_at dksX6_measures_4 4 rfl rfl)
theorem dX6_measures_97 : decode cX6_measures 97 = .ok (.invokevirtual 148, 3) := dk_182 0 148 (dk_at dksX6_measures_4 5 rfl rfl)
theorem dX6_measures_100 : decode cX6_measures 100 = .ok (.iinc 2 1, 3) := dk_132 2 1 (dk_at dksX6_measures_4 8 rfl rfl)
theorem dX6_measures_103 : decode cX6_measures 103 = .ok (.goto (-18), 3) := dk_167 255 238 (dk_at dksX6_measures_4 11 rfl rfl)
theorem dX6_measures_106 : decode cX6_measures 106 = .ok (.return_, 1) := dk_177 (dk_at dksX6_measures_4 14 rfl rfl)
abbrev cX6_lowers : ByteArray := prog_28_method_35_code
def yX6_lowers : MethodName := ⟨RX6, "lowers", "(I)Z"⟩
def dkwX6_lowers_3 : List UInt8 := [167, 255, 190, 28, 172]
abbrev dktX6_lowers_3 : List UInt8 := dkwX6_lowers_3 ++ []
def dkwX6_lowers_2 : List UInt8 := [42, 180, 0, 22, 42, 27, 182, 0, 129, 42, 27, 182, 0, 141, 79, 4, 61, 42, 27, 29, 182, 0, 132, 62]
abbrev dktX6_lowers_2 : List UInt8 := dkwX6_lowers_2 ++ dktX6_lowers_3
def dkwX6_lowers_1 : List UInt8 := [182, 0, 126, 153, 0, 38, 42, 27, 182, 0, 141, 42, 180, 0, 22, 42, 27, 182, 0, 129, 46, 162, 0, 20]
abbrev dktX6_lowers_1 : List UInt8 := dkwX6_lowers_1 ++ dktX6_lowers_2
def dkwX6_lowers_0 : List UInt8 := [3, 61, 3, 62, 29, 17, 3, 232, 162, 0, 65, 42, 27, 29, 182, 0, 123, 153, 0, 46, 42, 27]
abbrev dktX6_lowers_0 : List UInt8 := dkwX6_lowers_0 ++ dktX6_lowers_1
theorem dksX6_lowers_0 : cX6_lowers.data.toList.drop 0 = dktX6_lowers_0 := by decide +kernel
theorem dksX6_lowers_1 : cX6_lowers.data.toList.drop 22 = dktX6_lowers_1 := dk_seg dksX6_lowers_0 22 rfl rfl
theorem dksX6_lowers_2 : cX6_lowers.data.toList.drop 46 = dktX6_lowers_2 := dk_seg dksX6_lowers_1 24 rfl rfl
theorem dksX6_lowers_3 : cX6_lowers.data.toList.drop 70 = dktX6_lowers_3 := dk_seg dksX6_lowers_2 24 rfl rfl
theorem dX6_lowers_0 : decode cX6_lowers 0 = .ok (.iconst 0, 1) := dk_3 (dk_at dksX6_lowers_0 0 rfl rfl)
theorem dX6_lowers_1 : decode cX6_lowers 1 = .ok (.istore_n 2, 1) := dk_61 (dk_at dksX6_lowers_0 1 rfl rfl)
theorem dX6_lowers_2 : decode cX6_lowers 2 = .ok (.iconst 0, 1) := dk_3 (dk_at dksX6_lowers_0 2 rfl rfl)
theorem dX6_lowers_3 : decode cX6_lowers 3 = .ok (.istore_n 3, 1) := dk_62 (dk_at dksX6_lowers_0 3 rfl rfl)
theorem dX6_lowers_4 : decode cX6_lowers 4 = .ok (.iload_n 3, 1) := dk_29 (dk_at dksX6_lowers_0 4 rfl rfl)
theorem dX6_lowers_5 : decode cX6_lowers 5 = .ok (.sipush 1000, 3) := dk_17 3 232 (dk_at dksX6_lowers_0 5 rfl rfl)
theorem dX6_lowers_8 : decode cX6_lowers 8 = .ok (.if_icmp .ge 65, 3) := dk_162 0 65 (dk_at dksX6_lowers_0 8 rfl rfl)
theorem dX6_lowers_11 : decode cX6_lowers 11 = .ok (.aload_n 0, 1) := dk_42 (dk_at dksX6_lowers_0 11 rfl rfl)
theorem dX6_lowers_12 : decode cX6_lowers 12 = .ok (.iload_n 1, 1) := dk_27 (dk_at dksX6_lowers_0 12 rfl rfl)
theorem dX6_lowers_13 : decode cX6_lowers 13 = .ok (.iload_n 3, 1) := dk_29 (dk_at dksX6_lowers_0 13 rfl rfl)
theorem dX6_lowers_14 : decode cX6_lowers 14 = .ok (.invokevirtual 123, 3) := dk_182 0 123 (dk_at dksX6_lowers_0 14 rfl rfl)
theorem dX6_lowers_17 : decode cX6_lowers 17 = .ok (.ifCond .eq 46, 3) := dk_153 0 46 (dk_at dksX6_lowers_0 17 rfl rfl)
theorem dX6_lowers_20 : decode cX6_lowers 20 = .ok (.aload_n 0, 1) := dk_42 (dk_at dksX6_lowers_0 20 rfl rfl)
theorem dX6_lowers_21 : decode cX6_lowers 21 = .ok (.iload_n 1, 1) := dk_27 (dk_at dksX6_lowers_0 21 rfl rfl)
theorem dX6_lowers_22 : decode cX6_lowers 22 = .ok (.invokevirtual 126, 3) := dk_182 0 126 (dk_at dksX6_lowers_1 0 rfl rfl)
theorem dX6_lowers_25 : decode cX6_lowers 25 = .ok (.ifCond .eq 38, 3) := dk_153 0 38 (dk_at dksX6_lowers_1 3 rfl rfl)
theorem dX6_lowers_28 : decode cX6_lowers 28 = .ok (.aload_n 0, 1) := dk_42 (dk_at dksX6_lowers_1 6 rfl rfl)
theorem dX6_lowers_29 : decode cX6_lowers 29 = .ok (.iload_n 1, 1) := dk_27 (dk_at dksX6_lowers_1 7 rfl rfl)
theorem dX6_lowers_30 : decode cX6_lowers 30 = .ok (.invokevirtual 141, 3) := dk_182 0 141 (dk_at dksX6_lowers_1 8 rfl rfl)
theorem dX6_lowers_33 : decode cX6_lowers 33 = .ok (.aload_n 0, 1) := dk_42 (dk_at dksX6_lowers_1 11 rfl rfl)
theorem dX6_lowers_34 : decode cX6_lowers 34 = .ok (.getfield 22, 3) := dk_180 0 22 (dk_at dksX6_lowers_1 12 rfl rfl)
theorem dX6_lowers_37 : decode cX6_lowers 37 = .ok (.aload_n 0, 1) := dk_42 (dk_at dksX6_lowers_1 15 rfl rfl)
theorem dX6_lowers_38 : decode cX6_lowers 38 = .ok (.iload_n 1, 1) := dk_27 (dk_at dksX6_lowers_1 16 rfl rfl)
theorem dX6_lowers_39 : decode cX6_lowers 39 = .ok (.invokevirtual 129, 3) := dk_182 0 129 (dk_at dksX6_lowers_1 17 rfl rfl)
theorem dX6_lowers_42 : decode cX6_lowers 42 = .ok (.iaload, 1) := dk_46 (dk_at dksX6_lowers_1 20 rfl rfl)
theorem dX6_lowers_43 : decode cX6_lowers 43 = .ok (.if_icmp .ge 20, 3) := dk_162 0 20 (dk_at dksX6_lowers_1 21 rfl rfl)
theorem dX6_lowers_46 : decode cX6_lowers 46 = .ok (.aload_n 0, 1) := dk_42 (dk_at dksX6_lowers_2 0 rfl rfl)
theorem dX6_lowers_47 : decode cX6_lowers 47 = .ok (.getfield 22, 3) := dk_180 0 22 (dk_at dksX6_lowers_2 1 rfl rfl)
theorem dX6_lowers_50 : decode cX6_lowers 50 = .ok (.aload_n 0, 1) := dk_42 (dk_at dksX6_lowers_2 4 rfl rfl)
theorem dX6_lowers_51 : decode cX6_lowers 51 = .ok (.iload_n 1, 1) := dk_27 (dk_at dksX6_lowers_2 5 rfl rfl)
theorem dX6_lowers_52 : decode cX6_lowers 52 = .ok (.invokevirtual 129, 3) := dk_182 0 129 (dk_at dksX6_lowers_2 6 rfl rfl)
theorem dX6_lowers_55 : decode cX6_lowers 55 = .ok (.aload_n 0, 1) := dk_42 (dk_at dksX6_lowers_2 9 rfl rfl)
theorem dX6_lowers_56 : decode cX6_lowers 56 = .ok (.iload_n 1, 1) := dk_27 (dk_at dksX6_lowers_2 10 rfl rfl)
theorem dX6_lowers_57 : decode cX6_lowers 57 = .ok (.invokevirtual 141, 3) := dk_182 0 141 (dk_at dksX6_lowers_2 11 rfl rfl)
theorem dX6_lowers_60 : decode cX6_lowers 60 = .ok (.iastore, 1) := dk_79 (dk_at dksX6_lowers_2 14 rfl rfl)
theorem dX6_lowers_61 : decode cX6_lowers 61 = .ok (.iconst 1, 1) := dk_4 (dk_at dksX6_lowers_2 15 rfl rfl)
theorem dX6_lowers_62 : decode cX6_lowers 62 = .ok (.istore_n 2, 1) := dk_61 (dk_at dksX6_lowers_2 16 rfl rfl)
theorem dX6_lowers_63 : decode cX6_lowers 63 = .ok (.aload_n 0, 1) := dk_42 (dk_at dksX6_lowers_2 17 rfl rfl)
theorem dX6_lowers_64 : decode cX6_lowers 64 = .ok (.iload_n 1, 1) := dk_27 (dk_at dksX6_lowers_2 18 rfl rfl)
theorem dX6_lowers_65 : decode cX6_lowers 65 = .ok (.iload_n 3, 1) := dk_29 (dk_at dksX6_lowers_2 19 rfl rfl)
theorem dX6_lowers_66 : decode cX6_lowers 66 = .ok (.invokevirtual 132, 3) := dk_182 0 132 (dk_at dksX6_lowers_2 20 rfl rfl)
theorem dX6_lowers_69 : decode cX6_lowers 69 = .ok (.istore_n 3, 1) := dk_62 (dk_at dksX6_lowers_2 23 rfl rfl)
theorem dX6_lowers_70 : decode cX6_lowers 70 = .ok (.goto (-66), 3) := dk_167 255 190 (dk_at dksX6_lowers_3 0 rfl rfl)
theorem dX6_lowers_73 : decode cX6_lowers 73 = .ok (.iload_n 2, 1) := dk_28 (dk_at dksX6_lowers_3 3 rfl rfl)
theorem dX6_lowers_74 : decode cX6_lowers 74 = .ok (.ireturn, 1) := dk_172 (dk_at dksX6_lowers_3 4 rfl rfl)
abbrev cX6_heightBy : ByteArray := prog_28_method_34_code
def yX6_heightBy : MethodName := ⟨RX6, "heightBy", "(I)I"⟩
def dkwX6_heightBy_2 : List UInt8 := [28, 61, 132, 3, 1, 167, 255, 207, 28, 4, 96, 172]
abbrev dktX6_heightBy_2 : List UInt8 := dkwX6_heightBy_2 ++ []
def dkwX6_heightBy_1 : List UInt8 := [42, 180, 0, 22, 42, 27, 29, 182, 0, 114, 46, 54, 4, 21, 4, 28, 164, 0, 8, 21, 4, 167, 0, 4]
abbrev dktX6_heightBy_1 : List UInt8 := dkwX6_heightBy_1 ++ dktX6_heightBy_2
def dkwX6_heightBy_0 : List UInt8 := [3, 61, 3, 62, 29, 42, 27, 6, 182, 0, 92, 162, 0, 45, 42, 27, 29, 3, 182, 0, 96, 154, 0, 29]
abbrev dktX6_heightBy_0 : List UInt8 := dkwX6_heightBy_0 ++ dktX6_heightBy_1
theorem dksX6_heightBy_0 : cX6_heightBy.data.toList.drop 0 = dktX6_heightBy_0 := by decide +kernel
theorem dksX6_heightBy_1 : cX6_heightBy.data.toList.drop 24 = dktX6_heightBy_1 := dk_seg dksX6_heightBy_0 24 rfl rfl
theorem dksX6_heightBy_2 : cX6_heightBy.data.toList.drop 48 = dktX6_heightBy_2 := dk_seg dksX6_heightBy_1 24 rfl rfl
theorem dX6_heightBy_0 : decode cX6_heightBy 0 = .ok (.iconst 0, 1) := dk_3 (dk_at dksX6_heightBy_0 0 rfl rfl)
theorem dX6_heightBy_1 : decode cX6_heightBy 1 = .ok (.istore_n 2, 1) := dk_61 (dk_at dksX6_heightBy_0 1 rfl rfl)
theorem dX6_heightBy_2 : decode cX6_heightBy 2 = .ok (.iconst 0, 1) := dk_3 (dk_at dksX6_heightBy_0 2 rfl rfl)
theorem dX6_heightBy_3 : decode cX6_heightBy 3 = .ok (.istore_n 3, 1) := dk_62 (dk_at dksX6_heightBy_0 3 rfl rfl)
theorem dX6_heightBy_4 : decode cX6_heightBy 4 = .ok (.iload_n 3, 1) := dk_29 (dk_at dksX6_heightBy_0 4 rfl rfl)
theorem dX6_heightBy_5 : decode cX6_heightBy 5 = .ok (.aload_n 0, 1) := dk_42 (dk_at dksX6_heightBy_0 5 rfl rfl)
theorem dX6_heightBy_6 : decode cX6_heightBy 6 = .ok (.iload_n 1, 1) := dk_27 (dk_at dksX6_heightBy_0 6 rfl rfl)
theorem dX6_heightBy_7 : decode cX6_heightBy 7 = .ok (.iconst 3, 1) := dk_6 (dk_at dksX6_heightBy_0 7 rfl rfl)
theorem dX6_heightBy_8 : decode cX6_heightBy 8 = .ok (.invokevirtual 92, 3) := dk_182 0 92 (dk_at dksX6_heightBy_0 8 rfl rfl)
theorem dX6_heightBy_11 : decode cX6_heightBy 11 = .ok (.if_icmp .ge 45, 3) := dk_162 0 45 (dk_at dksX6_heightBy_0 11 rfl rfl)
theorem dX6_heightBy_14 : decode cX6_heightBy 14 = .ok (.aload_n 0, 1) := dk_42 (dk_at dksX6_heightBy_0 14 rfl rfl)
theorem dX6_heightBy_15 : decode cX6_heightBy 15 = .ok (.iload_n 1, 1) := dk_27 (dk_at dksX6_heightBy_0 15 rfl rfl)
theorem dX6_heightBy_16 : decode cX6_heightBy 16 = .ok (.iload_n 3, 1) := dk_29 (dk_at dksX6_heightBy_0 16 rfl rfl)
theorem dX6_heightBy_17 : decode cX6_heightBy 17 = .ok (.iconst 0, 1) := dk_3 (dk_at dksX6_heightBy_0 17 rfl rfl)
theorem dX6_heightBy_18 : decode cX6_heightBy 18 = .ok (.invokevirtual 96, 3) := dk_182 0 96 (dk_at dksX6_heightBy_0 18 rfl rfl)
theorem dX6_heightBy_21 : decode cX6_heightBy 21 = .ok (.ifCond .ne 29, 3) := dk_154 0 29 (dk_at dksX6_heightBy_0 21 rfl rfl)
theorem dX6_heightBy_24 : decode cX6_heightBy 24 = .ok (.aload_n 0, 1) := dk_42 (dk_at dksX6_heightBy_1 0 rfl rfl)
theorem dX6_heightBy_25 : decode cX6_heightBy 25 = .ok (.getfield 22, 3) := dk_180 0 22 (dk_at dksX6_heightBy_1 1 rfl rfl)
theorem dX6_heightBy_28 : decode cX6_heightBy 28 = .ok (.aload_n 0, 1) := dk_42 (dk_at dksX6_heightBy_1 4 rfl rfl)
theorem dX6_heightBy_29 : decode cX6_heightBy 29 = .ok (.iload_n 1, 1) := dk_27 (dk_at dksX6_heightBy_1 5 rfl rfl)
theorem dX6_heightBy_30 : decode cX6_heightBy 30 = .ok (.iload_n 3, 1) := dk_29 (dk_at dksX6_heightBy_1 6 rfl rfl)
theorem dX6_heightBy_31 : decode cX6_heightBy 31 = .ok (.invokevirtual 114, 3) := dk_182 0 114 (dk_at dksX6_heightBy_1 7 rfl rfl)
theorem dX6_heightBy_34 : decode cX6_heightBy 34 = .ok (.iaload, 1) := dk_46 (dk_at dksX6_heightBy_1 10 rfl rfl)
theorem dX6_heightBy_35 : decode cX6_heightBy 35 = .ok (.istore 4, 2) := dk_54 4 (dk_at dksX6_heightBy_1 11 rfl rfl)
theorem dX6_heightBy_37 : decode cX6_heightBy 37 = .ok (.iload 4, 2) := dk_21 4 (dk_at dksX6_heightBy_1 13 rfl rfl)
theorem dX6_heightBy_39 : decode cX6_heightBy 39 = .ok (.iload_n 2, 1) := dk_28 (dk_at dksX6_heightBy_1 15 rfl rfl)
theorem dX6_heightBy_40 : decode cX6_heightBy 40 = .ok (.if_icmp .le 8, 3) := dk_164 0 8 (dk_at dksX6_heightBy_1 16 rfl rfl)
theorem dX6_heightBy_43 : decode cX6_heightBy 43 = .ok (.iload 4, 2) := dk_21 4 (dk_at dksX6_heightBy_1 19 rfl rfl)
theorem dX6_heightBy_45 : decode cX6_heightBy 45 = .ok (.goto 4, 3) := dk_167 0 4 (dk_at dksX6_heightBy_1 21 rfl rfl)
theorem dX6_heightBy_48 : decode cX6_heightBy 48 = .ok (.iload_n 2, 1) := dk_28 (dk_at dksX6_heightBy_2 0 rfl rfl)
theorem dX6_heightBy_49 : decode cX6_heightBy 49 = .ok (.istore_n 2, 1) := dk_61 (dk_at dksX6_heightBy_2 1 rfl rfl)
theorem dX6_heightBy_50 : decode cX6_heightBy 50 = .ok (.iinc 3 1, 3) := dk_132 3 1 (dk_at dksX6_heightBy_2 2 rfl rfl)
theorem dX6_heightBy_53 : decode cX6_heightBy 53 = .ok (.goto (-49), 3) := dk_167 255 207 (dk_at dksX6_heightBy_2 5 rfl rfl)
theorem dX6_heightBy_56 : decode cX6_heightBy 56 = .ok (.iload_n 2, 1) := dk_28 (dk_at dksX6_heightBy_2 8 rfl rfl)
theorem dX6_heightBy_57 : decode cX6_heightBy 57 = .ok (.iconst 1, 1) := dk_4 (dk_at dksX6_heightBy_2 9 rfl rfl)
theorem dX6_heightBy_58 : decode cX6_heightBy 58 = .ok (.iadd, 1) := dk_96 (dk_at dksX6_heightBy_2 10 rfl rfl)
theorem dX6_heightBy_59 : decode cX6_heightBy 59 = .ok (.ireturn, 1) := dk_172 (dk_at dksX6_heightBy_2 11 rfl rfl)
abbrev cX6_chooses : ByteArray := prog_28_method_36_code
def yX6_chooses : MethodName := ⟨RX6, "chooses", "(I)V"⟩
def dkwX6_chooses_3 : List UInt8 := [17, 3, 232, 27, 104, 28, 96, 79, 42, 27, 28, 182, 0, 132, 61, 167, 255, 174, 177]
abbrev dktX6_chooses_3 : List UInt8 := dkwX6_chooses_3 ++ []
def dkwX6_chooses_2 : List UInt8 := [158, 0, 30, 42, 27, 182, 0, 141, 42, 180, 0, 22, 29, 46, 160, 0, 16, 42, 180, 0, 25, 29]
abbrev dktX6_chooses_2 : List UInt8 := dkwX6_chooses_2 ++ dktX6_chooses_3
def dkwX6_chooses_1 : List UInt8 := [153, 0, 54, 42, 27, 182, 0, 129, 62, 42, 180, 0, 25, 29, 46, 156, 0, 39, 42, 180, 0, 22, 29, 46]
abbrev dktX6_chooses_1 : List UInt8 := dkwX6_chooses_1 ++ dktX6_chooses_2
def dkwX6_chooses_0 : List UInt8 := [3, 61, 28, 17, 3, 232, 162, 0, 81, 42, 27, 28, 182, 0, 123, 153, 0, 62, 42, 27, 182, 0, 126]
abbrev dktX6_chooses_0 : List UInt8 := dkwX6_chooses_0 ++ dktX6_chooses_1
theorem dksX6_chooses_0 : cX6_chooses.data.toList.drop 0 = dktX6_chooses_0 := by decide +kernel
theorem dksX6_chooses_1 : cX6_chooses.data.toList.drop 23 = dktX6_chooses_1 := dk_seg dksX6_chooses_0 23 rfl rfl
theorem dksX6_chooses_2 : cX6_chooses.data.toList.drop 47 = dktX6_chooses_2 := dk_seg dksX6_chooses_1 24 rfl rfl
theorem dksX6_chooses_3 : cX6_chooses.data.toList.drop 69 = dktX6_chooses_3 := dk_seg dksX6_chooses_2 22 rfl rfl
theorem dX6_chooses_0 : decode cX6_chooses 0 = .ok (.iconst 0, 1) := dk_3 (dk_at dksX6_chooses_0 0 rfl rfl)
theorem dX6_chooses_1 : decode cX6_chooses 1 = .ok (.istore_n 2, 1) := dk_61 (dk_at dksX6_chooses_0 1 rfl rfl)
theorem dX6_chooses_2 : decode cX6_chooses 2 = .ok (.iload_n 2, 1) := dk_28 (dk_at dksX6_chooses_0 2 rfl rfl)
theorem dX6_chooses_3 : decode cX6_chooses 3 = .ok (.sipush 1000, 3) := dk_17 3 232 (dk_at dksX6_chooses_0 3 rfl rfl)
theorem dX6_chooses_6 : decode cX6_chooses 6 = .ok (.if_icmp .ge 81, 3) := dk_162 0 81 (dk_at dksX6_chooses_0 6 rfl rfl)
theorem dX6_chooses_9 : decode cX6_chooses 9 = .ok (.aload_n 0, 1) := dk_42 (dk_at dksX6_chooses_0 9 rfl rfl)
theorem dX6_chooses_10 : decode cX6_chooses 10 = .ok (.iload_n 1, 1) := dk_27 (dk_at dksX6_chooses_0 10 rfl rfl)
theorem dX6_chooses_11 : decode cX6_chooses 11 = .ok (.iload_n 2, 1) := dk_28 (dk_at dksX6_chooses_0 11 rfl rfl)
theorem dX6_chooses_12 : decode cX6_chooses 12 = .ok (.invokevirtual 123, 3) := dk_182 0 123 (dk_at dksX6_chooses_0 12 rfl rfl)
theorem dX6_chooses_15 : decode cX6_chooses 15 = .ok (.ifCond .eq 62, 3) := dk_153 0 62 (dk_at dksX6_chooses_0 15 rfl rfl)
theorem dX6_chooses_18 : decode cX6_chooses 18 = .ok (.aload_n 0, 1) := dk_42 (dk_at dksX6_chooses_0 18 rfl rfl)
theorem dX6_chooses_19 : decode cX6_chooses 19 = .ok (.iload_n 1, 1) := dk_27 (dk_at dksX6_chooses_0 19 rfl rfl)
theorem dX6_chooses_20 : decode cX6_chooses 20 = .ok (.invokevirtual 126, 3) := dk_182 0 126 (dk_at dksX6_chooses_0 20 rfl rfl)
theorem dX6_chooses_23 : decode cX6_chooses 23 = .ok (.ifCond .eq 54, 3) := dk_153 0 54 (dk_at dksX6_chooses_1 0 rfl rfl)
theorem dX6_chooses_26 : decode cX6_chooses 26 = .ok (.aload_n 0, 1) := dk_42 (dk_at dksX6_chooses_1 3 rfl rfl)
theorem dX6_chooses_27 : decode cX6_chooses 27 = .ok (.iload_n 1, 1) := dk_27 (dk_at dksX6_chooses_1 4 rfl rfl)
theorem dX6_chooses_28 : decode cX6_chooses 28 = .ok (.invokevirtual 129, 3) := dk_182 0 129 (dk_at dksX6_chooses_1 5 rfl rfl)
theorem dX6_chooses_31 : decode cX6_chooses 31 = .ok (.istore_n 3, 1) := dk_62 (dk_at dksX6_chooses_1 8 rfl rfl)
theorem dX6_chooses_32 : decode cX6_chooses 32 = .ok (.aload_n 0, 1) := dk_42 (dk_at dksX6_chooses_1 9 rfl rfl)
theorem dX6_chooses_33 : decode cX6_chooses 33 = .ok (.getfield 25, 3) := dk_180 0 25 (dk_at dksX6_chooses_1 10 rfl rfl)
theorem dX6_chooses_36 : decode cX6_chooses 36 = .ok (.iload_n 3, 1) := dk_29 (dk_at dksX6_chooses_1 13 rfl rfl)
theorem dX6_chooses_37 : decode cX6_chooses 37 = .ok (.iaload, 1) := dk_46 (dk_at dksX6_chooses_1 14 rfl rfl)
theorem dX6_chooses_38 : decode cX6_chooses 38 = .ok (.ifCond .ge 39, 3) := dk_156 0 39 (dk_at dksX6_chooses_1 15 rfl rfl)
theorem dX6_chooses_41 : decode cX6_chooses 41 = .ok (.aload_n 0, 1) := dk_42 (dk_at dksX6_chooses_1 18 rfl rfl)
theorem dX6_chooses_42 : decode cX6_chooses 42 = .ok (.getfield 22, 3) := dk_180 0 22 (dk_at dksX6_chooses_1 19 rfl rfl)
theorem dX6_chooses_45 : decode cX6_chooses 45 = .ok (.iload_n 3, 1) := dk_29 (dk_at dksX6_chooses_1 22 rfl rfl)
theorem dX6_chooses_46 : decode cX6_chooses 46 = .ok (.iaload, 1) := dk_46 (dk_at dksX6_chooses_1 23 rfl rfl)
theorem dX6_chooses_47 : decode cX6_chooses 47 = .ok (.ifCond .le 30, 3) := dk_158 0 30 (dk_at dksX6_chooses_2 0 rfl rfl)
theorem dX6_chooses_50 : decode cX6_chooses 50 = .ok (.aload_n 0, 1) := dk_42 (dk_at dksX6_chooses_2 3 rfl rfl)
theorem dX6_chooses_51 : decode cX6_chooses 51 = .ok (.iload_n 1, 1) := dk_27 (dk_at dksX6_chooses_2 4 rfl rfl)
theorem dX6_chooses_52 : decode cX6_chooses 52 = .ok (.invokevirtual 141, 3) := dk_182 0 141 (dk_at dksX6_chooses_2 5 rfl rfl)
theorem dX6_chooses_55 : decode cX6_chooses 55 = .ok (.aload_n 0, 1) := dk_42 (dk_at dksX6_chooses_2 8 rfl rfl)
theorem dX6_chooses_56 : decode cX6_chooses 56 = .ok (.getfield 22, 3) := dk_180 0 22 (dk_at dksX6_chooses_2 9 rfl rfl)
theorem dX6_chooses_59 : decode cX6_chooses 59 = .ok (.iload_n 3, 1) := dk_29 (dk_at dksX6_chooses_2 12 rfl rfl)
theorem dX6_chooses_60 : decode cX6_chooses 60 = .ok (.iaload, 1) := dk_46 (dk_at dksX6_chooses_2 13 rfl rfl)
theorem dX6_chooses_61 : decode cX6_chooses 61 = .ok (.if_icmp .ne 16, 3) := dk_160 0 16 (dk_at dksX6_chooses_2 14 rfl rfl)
theorem dX6_chooses_64 : decode cX6_chooses 64 = .ok (.aload_n 0, 1) := dk_42 (dk_at dksX6_chooses_2 17 rfl rfl)
theorem dX6_chooses_65 : decode cX6_chooses 65 = .ok (.getfield 25, 3) := dk_180 0 25 (dk_at dksX6_chooses_2 18 rfl rfl)
theorem dX6_chooses_68 : decode cX6_chooses 68 = .ok (.iload_n 3, 1) := dk_29 (dk_at dksX6_chooses_2 21 rfl rfl)
theorem dX6_chooses_69 : decode cX6_chooses 69 = .ok (.sipush 1000, 3) := dk_17 3 232 (dk_at dksX6_chooses_3 0 rfl rfl)
theorem dX6_chooses_72 : decode cX6_chooses 72 = .ok (.iload_n 1, 1) := dk_27 (dk_at dksX6_chooses_3 3 rfl rfl)
theorem dX6_chooses_73 : decode cX6_chooses 73 = .ok (.imul, 1) := dk_104 (dk_at dksX6_chooses_3 4 rfl rfl)
theorem dX6_chooses_74 : decode cX6_chooses 74 = .ok (.iload_n 2, 1) := dk_28 (dk_at dksX6_chooses_3 5 rfl rfl)
theorem dX6_chooses_75 : decode cX6_chooses 75 = .ok (.iadd, 1) := dk_96 (dk_at dksX6_chooses_3 6 rfl rfl)
theorem dX6_chooses_76 : decode cX6_chooses 76 = .ok (.iastore, 1) := dk_79 (dk_at dksX6_chooses_3 7 rfl rfl)
theorem dX6_chooses_77 : decode cX6_chooses 77 = .ok (.aload_n 0, 1) := dk_42 (dk_at dksX6_chooses_3 8 rfl rfl)
theorem dX6_chooses_78 : decode cX6_chooses 78 = .ok (.iload_n 1, 1) := dk_27 (dk_at dksX6_chooses_3 9 rfl rfl)
theorem dX6_chooses_79 : decode cX6_chooses 79 = .ok (.iload_n 2, 1) := dk_28 (dk_at dksX6_chooses_3 10 rfl rfl)
theorem dX6_chooses_80 : decode cX6_chooses 80 = .ok (.invokevirtual 132, 3) := dk_182 0 132 (dk_at dksX6_chooses_3 11 rfl rfl)
theorem dX6_chooses_83 : decode cX6_chooses 83 = .ok (.istore_n 2, 1) := dk_61 (dk_at dksX6_chooses_3 14 rfl rfl)
theorem dX6_chooses_84 : decode cX6_chooses 84 = .ok (.goto (-82), 3) := dk_167 255 174 (dk_at dksX6_chooses_3 15 rfl rfl)
theorem dX6_chooses_87 : decode cX6_chooses 87 = .ok (.return_, 1) := dk_177 (dk_at dksX6_chooses_3 18 rfl rfl)
abbrev cX6_takes : ByteArray := prog_28_method_43_code
def yX6_takes : MethodName := ⟨RX6, "takes", "(III)I"⟩
def dkwX6_takes_2 : List UInt8 := [180, 0, 9, 3, 46, 172]
abbrev dktX6_takes_2 : List UInt8 := dkwX6_takes_2 ++ []
def dkwX6_takes_1 : List UInt8 := [3, 79, 42, 180, 0, 9, 3, 92, 46, 4, 100, 79, 42, 180, 0, 9, 5, 92, 46, 4, 96, 79, 42]
abbrev dktX6_takes_1 : List UInt8 := dkwX6_takes_1 ++ dktX6_takes_2
def dkwX6_takes_0 : List UInt8 := [42, 27, 28, 29, 182, 0, 180, 153, 0, 5, 3, 172, 42, 180, 0, 9, 7, 27, 28, 29, 184, 0, 168, 96]
abbrev dktX6_takes_0 : List UInt8 := dkwX6_takes_0 ++ dktX6_takes_1
theorem dksX6_takes_0 : cX6_takes.data.toList.drop 0 = dktX6_takes_0 := by decide +kernel
theorem dksX6_takes_1 : cX6_takes.data.toList.drop 24 = dktX6_takes_1 := dk_seg dksX6_takes_0 24 rfl rfl
theorem dksX6_takes_2 : cX6_takes.data.toList.drop 47 = dktX6_takes_2 := dk_seg dksX6_takes_1 23 rfl rfl
theorem dX6_takes_0 : decode cX6_takes 0 = .ok (.aload_n 0, 1) := dk_42 (dk_at dksX6_takes_0 0 rfl rfl)
theorem dX6_takes_1 : decode cX6_takes 1 = .ok (.iload_n 1, 1) := dk_27 (dk_at dksX6_takes_0 1 rfl rfl)
theorem dX6_takes_2 : decode cX6_takes 2 = .ok (.iload_n 2, 1) := dk_28 (dk_at dksX6_takes_0 2 rfl rfl)
theorem dX6_takes_3 : decode cX6_takes 3 = .ok (.iload_n 3, 1) := dk_29 (dk_at dksX6_takes_0 3 rfl rfl)
theorem dX6_takes_4 : decode cX6_takes 4 = .ok (.invokevirtual 180, 3) := dk_182 0 180 (dk_at dksX6_takes_0 4 rfl rfl)
theorem dX6_takes_7 : decode cX6_takes 7 = .ok (.ifCond .eq 5, 3) := dk_153 0 5 (dk_at dksX6_takes_0 7 rfl rfl)
theorem dX6_takes_10 : decode cX6_takes 10 = .ok (.iconst 0, 1) := dk_3 (dk_at dksX6_takes_0 10 rfl rfl)
theorem dX6_takes_11 : decode cX6_takes 11 = .ok (.ireturn, 1) := dk_172 (dk_at dksX6_takes_0 11 rfl rfl)
theorem dX6_takes_12 : decode cX6_takes 12 = .ok (.aload_n 0, 1) := dk_42 (dk_at dksX6_takes_0 12 rfl rfl)
theorem dX6_takes_13 : decode cX6_takes 13 = .ok (.getfield 9, 3) := dk_180 0 9 (dk_at dksX6_takes_0 13 rfl rfl)
theorem dX6_takes_16 : decode cX6_takes 16 = .ok (.iconst 4, 1) := dk_7 (dk_at dksX6_takes_0 16 rfl rfl)
theorem dX6_takes_17 : decode cX6_takes 17 = .ok (.iload_n 1, 1) := dk_27 (dk_at dksX6_takes_0 17 rfl rfl)
theorem dX6_takes_18 : decode cX6_takes 18 = .ok (.iload_n 2, 1) := dk_28 (dk_at dksX6_takes_0 18 rfl rfl)
theorem dX6_takes_19 : decode cX6_takes 19 = .ok (.iload_n 3, 1) := dk_29 (dk_at dksX6_takes_0 19 rfl rfl)
theorem dX6_takes_20 : decode cX6_takes 20 = .ok (.invokestatic 168, 3) := dk_184 0 168 (dk_at dksX6_takes_0 20 rfl rfl)
theorem dX6_takes_23 : decode cX6_takes 23 = .ok (.iadd, 1) := dk_96 (dk_at dksX6_takes_0 23 rfl rfl)
theorem dX6_takes_24 : decode cX6_takes 24 = .ok (.iconst 0, 1) := dk_3 (dk_at dksX6_takes_1 0 rfl rfl)
theorem dX6_takes_25 : decode cX6_takes 25 = .ok (.iastore, 1) := dk_79 (dk_at dksX6_takes_1 1 rfl rfl)
theorem dX6_takes_26 : decode cX6_takes 26 = .ok (.aload_n 0, 1) := dk_42 (dk_at dksX6_takes_1 2 rfl rfl)
theorem dX6_takes_27 : decode cX6_takes 27 = .ok (.getfield 9, 3) := dk_180 0 9 (dk_at dksX6_takes_1 3 rfl rfl)
theorem dX6_takes_30 : decode cX6_takes 30 = .ok (.iconst 0, 1) := dk_3 (dk_at dksX6_takes_1 6 rfl rfl)
theorem dX6_takes_31 : decode cX6_takes 31 = .ok (.dup2, 1) := dk_92 (dk_at dksX6_takes_1 7 rfl rfl)
theorem dX6_takes_32 : decode cX6_takes 32 = .ok (.iaload, 1) := dk_46 (dk_at dksX6_takes_1 8 rfl rfl)
theorem dX6_takes_33 : decode cX6_takes 33 = .ok (.iconst 1, 1) := dk_4 (dk_at dksX6_takes_1 9 rfl rfl)
theorem dX6_takes_34 : decode cX6_takes 34 = .ok (.isub, 1) := dk_100 (dk_at dksX6_takes_1 10 rfl rfl)
theorem dX6_takes_35 : decode cX6_takes 35 = .ok (.iastore, 1) := dk_79 (dk_at dksX6_takes_1 11 rfl rfl)
theorem dX6_takes_36 : decode cX6_takes 36 = .ok (.aload_n 0, 1) := dk_42 (dk_at dksX6_takes_1 12 rfl rfl)
theorem dX6_takes_37 : decode cX6_takes 37 = .ok (.getfield 9, 3) := dk_180 0 9 (dk_at dksX6_takes_1 13 rfl rfl)
theorem dX6_takes_40 : decode cX6_takes 40 = .ok (.iconst 2, 1) := dk_5 (dk_at dksX6_takes_1 16 rfl rfl)
theorem dX6_takes_41 : decode cX6_takes 41 = .ok (.dup2, 1) := dk_92 (dk_at dksX6_takes_1 17 rfl rfl)
theorem dX6_takes_42 : decode cX6_takes 42 = .ok (.iaload, 1) := dk_46 (dk_at dksX6_takes_1 18 rfl rfl)
theorem dX6_takes_43 : decode cX6_takes 43 = .ok (.iconst 1, 1) := dk_4 (dk_at dksX6_takes_1 19 rfl rfl)
theorem dX6_takes_44 : decode cX6_takes 44 = .ok (.iadd, 1) := dk_96 (dk_at dksX6_takes_1 20 rfl rfl)
theorem dX6_takes_45 : decode cX6_takes 45 = .ok (.iastore, 1) := dk_79 (dk_at dksX6_takes_1 21 rfl rfl)
theorem dX6_takes_46 : decode cX6_takes 46 = .ok (.aload_n 0, 1) := dk_42 (dk_at dksX6_takes_1 22 rfl rfl)
theorem dX6_takes_47 : decode cX6_takes 47 = .ok (.getfield 9, 3) := dk_180 0 9 (dk_at dksX6_takes_2 0 rfl rfl)
theorem dX6_takes_50 : decode cX6_takes 50 = .ok (.iconst 0, 1) := dk_3 (dk_at dksX6_takes_2 3 rfl rfl)
theorem dX6_takes_51 : decode cX6_takes 51 = .ok (.iaload, 1) := dk_46 (dk_at dksX6_takes_2 4 rfl rfl)
theorem dX6_takes_52 : decode cX6_takes 52 = .ok (.ireturn, 1) := dk_172 (dk_at dksX6_takes_2 5 rfl rfl)
abbrev cX6_isNotGiven : ByteArray := prog_28_method_42_code
def yX6_isNotGiven : MethodName := ⟨RX6, "isNotGiven", "(III)Z"⟩
def dkwX6_isNotGiven_2 : List UInt8 := [182, 0, 164, 172]
abbrev dktX6_isNotGiven_2 : List UInt8 := dkwX6_isNotGiven_2 ++ []
def dkwX6_isNotGiven_1 : List UInt8 := [42, 42, 180, 0, 9, 7, 27, 28, 29, 184, 0, 168, 96, 46, 154, 0, 7, 4, 167, 0, 4, 3, 5]
abbrev dktX6_isNotGiven_1 : List UInt8 := dkwX6_isNotGiven_1 ++ dktX6_isNotGiven_2
def dkwX6_isNotGiven_0 : List UInt8 := [42, 27, 28, 29, 184, 0, 161, 154, 0, 7, 4, 167, 0, 4, 3, 4, 182, 0, 164, 153, 0, 5, 4, 172]
abbrev dktX6_isNotGiven_0 : List UInt8 := dkwX6_isNotGiven_0 ++ dktX6_isNotGiven_1
theorem dksX6_isNotGiven_0 : cX6_isNotGiven.data.toList.drop 0 = dktX6_isNotGiven_0 := by decide +kernel
theorem dksX6_isNotGiven_1 : cX6_isNotGiven.data.toList.drop 24 = dktX6_isNotGiven_1 := dk_seg dksX6_isNotGiven_0 24 rfl rfl
theorem dksX6_isNotGiven_2 : cX6_isNotGiven.data.toList.drop 47 = dktX6_isNotGiven_2 := dk_seg dksX6_isNotGiven_1 23 rfl rfl
theorem dX6_isNotGiven_0 : decode cX6_isNotGiven 0 = .ok (.aload_n 0, 1) := dk_42 (dk_at dksX6_isNotGiven_0 0 rfl rfl)
theorem dX6_isNotGiven_1 : decode cX6_isNotGiven 1 = .ok (.iload_n 1, 1) := dk_27 (dk_at dksX6_isNotGiven_0 1 rfl rfl)
theorem dX6_isNotGiven_2 : decode cX6_isNotGiven 2 = .ok (.iload_n 2, 1) := dk_28 (dk_at dksX6_isNotGiven_0 2 rfl rfl)
theorem dX6_isNotGiven_3 : decode cX6_isNotGiven 3 = .ok (.iload_n 3, 1) := dk_29 (dk_at dksX6_isNotGiven_0 3 rfl rfl)
theorem dX6_isNotGiven_4 : decode cX6_isNotGiven 4 = .ok (.invokestatic 161, 3) := dk_184 0 161 (dk_at dksX6_isNotGiven_0 4 rfl rfl)
theorem dX6_isNotGiven_7 : decode cX6_isNotGiven 7 = .ok (.ifCond .ne 7, 3) := dk_154 0 7 (dk_at dksX6_isNotGiven_0 7 rfl rfl)
theorem dX6_isNotGiven_10 : decode cX6_isNotGiven 10 = .ok (.iconst 1, 1) := dk_4 (dk_at dksX6_isNotGiven_0 10 rfl rfl)
theorem dX6_isNotGiven_11 : decode cX6_isNotGiven 11 = .ok (.goto 4, 3) := dk_167 0 4 (dk_at dksX6_isNotGiven_0 11 rfl rfl)
theorem dX6_isNotGiven_14 : decode cX6_isNotGiven 14 = .ok (.iconst 0, 1) := dk_3 (dk_at dksX6_isNotGiven_0 14 rfl rfl)
theorem dX6_isNotGiven_15 : decode cX6_isNotGiven 15 = .ok (.iconst 1, 1) := dk_4 (dk_at dksX6_isNotGiven_0 15 rfl rfl)
theorem dX6_isNotGiven_16 : decode cX6_isNotGiven 16 = .ok (.invokevirtual 164, 3) := dk_182 0 164 (dk_at dksX6_isNotGiven_0 16 rfl rfl)
theorem dX6_isNotGiven_19 : decode cX6_isNotGiven 19 = .ok (.ifCond .eq 5, 3) := dk_153 0 5 (dk_at dksX6_isNotGiven_0 19 rfl rfl)
theorem dX6_isNotGiven_22 : decode cX6_isNotGiven 22 = .ok (.iconst 1, 1) := dk_4 (dk_at dksX6_isNotGiven_0 22 rfl rfl)
theorem dX6_isNotGiven_23 : decode cX6_isNotGiven 23 = .ok (.ireturn, 1) := dk_172 (dk_at dksX6_isNotGiven_0 23 rfl rfl)
theorem dX6_isNotGiven_24 : decode cX6_isNotGiven 24 = .ok (.aload_n 0, 1) := dk_42 (dk_at dksX6_isNotGiven_1 0 rfl rfl)
theorem dX6_isNotGiven_25 : decode cX6_isNotGiven 25 = .ok (.aload_n 0, 1) := dk_42 (dk_at dksX6_isNotGiven_1 1 rfl rfl)
theorem dX6_isNotGiven_26 : decode cX6_isNotGiven 26 = .ok (.getfield 9, 3) := dk_180 0 9 (dk_at dksX6_isNotGiven_1 2 rfl rfl)
theorem dX6_isNotGiven_29 : decode cX6_isNotGiven 29 = .ok (.iconst 4, 1) := dk_7 (dk_at dksX6_isNotGiven_1 5 rfl rfl)
theorem dX6_isNotGiven_30 : decode cX6_isNotGiven 30 = .ok (.iload_n 1, 1) := dk_27 (dk_at dksX6_isNotGiven_1 6 rfl rfl)
theorem dX6_isNotGiven_31 : decode cX6_isNotGiven 31 = .ok (.iload_n 2, 1) := dk_28 (dk_at dksX6_isNotGiven_1 7 rfl rfl)
theorem dX6_isNotGiven_32 : decode cX6_isNotGiven 32 = .ok (.iload_n 3, 1) := dk_29 (dk_at dksX6_isNotGiven_1 8 rfl rfl)
theorem dX6_isNotGiven_33 : decode cX6_isNotGiven 33 = .ok (.invokestatic 168, 3) := dk_184 0 168 (dk_at dksX6_isNotGiven_1 9 rfl rfl)
theorem dX6_isNotGiven_36 : decode cX6_isNotGiven 36 = .ok (.iadd, 1) := dk_96 (dk_at dksX6_isNotGiven_1 12 rfl rfl)
theorem dX6_isNotGiven_37 : decode cX6_isNotGiven 37 = .ok (.iaload, 1) := dk_46 (dk_at dksX6_isNotGiven_1 13 rfl rfl)
theorem dX6_isNotGiven_38 : decode cX6_isNotGiven 38 = .ok (.ifCond .ne 7, 3) := dk_154 0 7 (dk_at dksX6_isNotGiven_1 14 rfl rfl)
theorem dX6_isNotGiven_41 : decode cX6_isNotGiven 41 = .ok (.iconst 1, 1) := dk_4 (dk_at dksX6_isNotGiven_1 17 rfl rfl)
theorem dX6_isNotGiven_42 : decode cX6_isNotGiven 42 = .ok (.goto 4, 3) := dk_167 0 4 (dk_at dksX6_isNotGiven_1 18 rfl rfl)
theorem dX6_isNotGiven_45 : decode cX6_isNotGiven 45 = .ok (.iconst 0, 1) := dk_3 (dk_at dksX6_isNotGiven_1 21 rfl rfl)
theorem dX6_isNotGiven_46 : decode cX6_isNotGiven 46 = .ok (.iconst 2, 1) := dk_5 (dk_at dksX6_isNotGiven_1 22 rfl rfl)
theorem dX6_isNotGiven_47 : decode cX6_isNotGiven 47 = .ok (.invokevirtual 164, 3) := dk_182 0 164 (dk_at dksX6_isNotGiven_2 0 rfl rfl)
theorem dX6_isNotGiven_50 : decode cX6_isNotGiven 50 = .ok (.ireturn, 1) := dk_172 (dk_at dksX6_isNotGiven_2 3 rfl rfl)
abbrev cX6_unlike : ByteArray := prog_28_method_45_code
def yX6_unlike : MethodName := ⟨RX6, "unlike", "(Z)I"⟩
def dkwX6_unlike_2 : List UInt8 := [96, 61, 132, 3, 1, 167, 255, 218, 28, 172]
abbrev dktX6_unlike_2 : List UInt8 := dkwX6_unlike_2 ++ []
def dkwX6_unlike_1 : List UInt8 := [180, 0, 41, 29, 51, 27, 160, 0, 17, 42, 180, 0, 37, 29, 51, 27, 159, 0, 7, 4, 167, 0, 4, 3]
abbrev dktX6_unlike_1 : List UInt8 := dkwX6_unlike_1 ++ dktX6_unlike_2
def dkwX6_unlike_0 : List UInt8 := [42, 182, 0, 152, 42, 3, 181, 0, 70, 3, 61, 3, 62, 29, 17, 1, 184, 162, 0, 37, 28, 42]
abbrev dktX6_unlike_0 : List UInt8 := dkwX6_unlike_0 ++ dktX6_unlike_1
theorem dksX6_unlike_0 : cX6_unlike.data.toList.drop 0 = dktX6_unlike_0 := by decide +kernel
theorem dksX6_unlike_1 : cX6_unlike.data.toList.drop 22 = dktX6_unlike_1 := dk_seg dksX6_unlike_0 22 rfl rfl
theorem dksX6_unlike_2 : cX6_unlike.data.toList.drop 46 = dktX6_unlike_2 := dk_seg dksX6_unlike_1 24 rfl rfl
theorem dX6_unlike_0 : decode cX6_unlike 0 = .ok (.aload_n 0, 1) := dk_42 (dk_at dksX6_unlike_0 0 rfl rfl)
theorem dX6_unlike_1 : decode cX6_unlike 1 = .ok (.invokevirtual 152, 3) := dk_182 0 152 (dk_at dksX6_unlike_0 1 rfl rfl)
theorem dX6_unlike_4 : decode cX6_unlike 4 = .ok (.aload_n 0, 1) := dk_42 (dk_at dksX6_unlike_0 4 rfl rfl)
theorem dX6_unlike_5 : decode cX6_unlike 5 = .ok (.iconst 0, 1) := dk_3 (dk_at dksX6_unlike_0 5 rfl rfl)
theorem dX6_unlike_6 : decode cX6_unlike 6 = .ok (.putfield 70, 3) := dk_181 0 70 (dk_at dksX6_unlike_0 6 rfl rfl)
theorem dX6_unlike_9 : decode cX6_unlike 9 = .ok (.iconst 0, 1) := dk_3 (dk_at dksX6_unlike_0 9 rfl rfl)
theorem dX6_unlike_10 : decode cX6_unlike 10 = .ok (.istore_n 2, 1) := dk_61 (dk_at dksX6_unlike_0 10 rfl rfl)
theorem dX6_unlike_11 : decode cX6_unlike 11 = .ok (.iconst 0, 1) := dk_3 (dk_at dksX6_unlike_0 11 rfl rfl)
theorem dX6_unlike_12 : decode cX6_unlike 12 = .ok (.istore_n 3, 1) := dk_62 (dk_at dksX6_unlike_0 12 rfl rfl)
theorem dX6_unlike_13 : decode cX6_unlike 13 = .ok (.iload_n 3, 1) := dk_29 (dk_at dksX6_unlike_0 13 rfl rfl)
theorem dX6_unlike_14 : decode cX6_unlike 14 = .ok (.sipush 440, 3) := dk_17 1 184 (dk_at dksX6_unlike_0 14 rfl rfl)
theorem dX6_unlike_17 : decode cX6_unlike 17 = .ok (.if_icmp .ge 37, 3) := dk_162 0 37 (dk_at dksX6_unlike_0 17 rfl rfl)
theorem dX6_unlike_20 : decode cX6_unlike 20 = .ok (.iload_n 2, 1) := dk_28 (dk_at dksX6_unlike_0 20 rfl rfl)
theorem dX6_unlike_21 : decode cX6_unlike 21 = .ok (.aload_n 0, 1) := dk_42 (dk_at dksX6_unlike_0 21 rfl rfl)
theorem dX6_unlike_22 : decode cX6_unlike 22 = .ok (.getfield 41, 3) := dk_180 0 41 (dk_at dksX6_unlike_1 0 rfl rfl)
theorem dX6_unlike_25 : decode cX6_unlike 25 = .ok (.iload_n 3, 1) := dk_29 (dk_at dksX6_unlike_1 3 rfl rfl)
theorem dX6_unlike_26 : decode cX6_unlike 26 = .ok (.baload, 1) := dk_51 (dk_at dksX6_unlike_1 4 rfl rfl)
theorem dX6_unlike_27 : decode cX6_unlike 27 = .ok (.iload_n 1, 1) := dk_27 (dk_at dksX6_unlike_1 5 rfl rfl)
theorem dX6_unlike_28 : decode cX6_unlike 28 = .ok (.if_icmp .ne 17, 3) := dk_160 0 17 (dk_at dksX6_unlike_1 6 rfl rfl)
theorem dX6_unlike_31 : decode cX6_unlike 31 = .ok (.aload_n 0, 1) := dk_42 (dk_at dksX6_unlike_1 9 rfl rfl)
theorem dX6_unlike_32 : decode cX6_unlike 32 = .ok (.getfield 37, 3) := dk_180 0 37 (dk_at dksX6_unlike_1 10 rfl rfl)
theorem dX6_unlike_35 : decode cX6_unlike 35 = .ok (.iload_n 3, 1) := dk_29 (dk_at dksX6_unlike_1 13 rfl rfl)
theorem dX6_unlike_36 : decode cX6_unlike 36 = .ok (.baload, 1) := dk_51 (dk_at dksX6_unlike_1 14 rfl rfl)
theorem dX6_unlike_37 : decode cX6_unlike 37 = .ok (.iload_n 1, 1) := dk_27 (dk_at dksX6_unlike_1 15 rfl rfl)
theorem dX6_unlike_38 : decode cX6_unlike 38 = .ok (.if_icmp .eq 7, 3) := dk_159 0 7 (dk_at dksX6_unlike_1 16 rfl rfl)
theorem dX6_unlike_41 : decode cX6_unlike 41 = .ok (.iconst 1, 1) := dk_4 (dk_at dksX6_unlike_1 19 rfl rfl)
theorem dX6_unlike_42 : decode cX6_unlike 42 = .ok (.goto 4, 3) := dk_167 0 4 (dk_at dksX6_unlike_1 20 rfl rfl)
theorem dX6_unlike_45 : decode cX6_unlike 45 = .ok (.iconst 0, 1) := dk_3 (dk_at dksX6_unlike_1 23 rfl rfl)
theorem dX6_unlike_46 : decode cX6_unlike 46 = .ok (.iadd, 1) := dk_96 (dk_at dksX6_unlike_2 0 rfl rfl)
theorem dX6_unlike_47 : decode cX6_unlike 47 = .ok (.istore_n 2, 1) := dk_61 (dk_at dksX6_unlike_2 1 rfl rfl)
theorem dX6_unlike_48 : decode cX6_unlike 48 = .ok (.iinc 3 1, 3) := dk_132 3 1 (dk_at dksX6_unlike_2 2 rfl rfl)
theorem dX6_unlike_51 : decode cX6_unlike 51 = .ok (.goto (-38), 3) := dk_167 255 218 (dk_at dksX6_unlike_2 5 rfl rfl)
theorem dX6_unlike_54 : decode cX6_unlike 54 = .ok (.iload_n 2, 1) := dk_28 (dk_at dksX6_unlike_2 8 rfl rfl)
theorem dX6_unlike_55 : decode cX6_unlike 55 = .ok (.ireturn, 1) := dk_172 (dk_at dksX6_unlike_2 9 rfl rfl)
abbrev cX6_dropRule : ByteArray := prog_28_method_48_code
def yX6_dropRule : MethodName := ⟨RX6, "dropRule", "(I)I"⟩
def dkwX6_dropRule_0 : List UInt8 := [42, 182, 0, 171, 42, 42, 27, 182, 0, 199, 182, 0, 177, 172]
abbrev dktX6_dropRule_0 : List UInt8 := dkwX6_dropRule_0 ++ []
theorem dksX6_dropRule_0 : cX6_dropRule.data.toList.drop 0 = dktX6_dropRule_0 := by decide +kernel
theorem dX6_dropRule_0 : decode cX6_dropRule 0 = .ok (.aload_n 0, 1) := dk_42 (dk_at dksX6_dropRule_0 0 rfl rfl)
theorem dX6_dropRule_1 : decode cX6_dropRule 1 = .ok (.invokevirtual 171, 3) := dk_182 0 171 (dk_at dksX6_dropRule_0 1 rfl rfl)
theorem dX6_dropRule_4 : decode cX6_dropRule 4 = .ok (.aload_n 0, 1) := dk_42 (dk_at dksX6_dropRule_0 4 rfl rfl)
theorem dX6_dropRule_5 : decode cX6_dropRule 5 = .ok (.aload_n 0, 1) := dk_42 (dk_at dksX6_dropRule_0 5 rfl rfl)
theorem dX6_dropRule_6 : decode cX6_dropRule 6 = .ok (.iload_n 1, 1) := dk_27 (dk_at dksX6_dropRule_0 6 rfl rfl)
theorem dX6_dropRule_7 : decode cX6_dropRule 7 = .ok (.invokevirtual 199, 3) := dk_182 0 199 (dk_at dksX6_dropRule_0 7 rfl rfl)
theorem dX6_dropRule_10 : decode cX6_dropRule 10 = .ok (.invokevirtual 177, 3) := dk_182 0 177 (dk_at dksX6_dropRule_0 10 rfl rfl)
theorem dX6_dropRule_13 : decode cX6_dropRule 13 = .ok (.ireturn, 1) := dk_172 (dk_at dksX6_dropRule_0 13 rfl rfl)
abbrev cX6_drops : ByteArray := prog_28_method_47_code
def yX6_drops : MethodName := ⟨RX6, "drops", "(I)I"⟩
def dkwX6_drops_4 : List UInt8 := [100, 79, 42, 180, 0, 9, 6, 46, 172]
abbrev dktX6_drops_4 : List UInt8 := dkwX6_drops_4 ++ []
def dkwX6_drops_3 : List UInt8 := [162, 0, 16, 42, 180, 0, 9, 28, 3, 79, 132, 2, 1, 167, 255, 239, 42, 180, 0, 9, 6, 92, 46, 4]
abbrev dktX6_drops_3 : List UInt8 := dkwX6_drops_3 ++ dktX6_drops_4
def dkwX6_drops_2 : List UInt8 := [180, 0, 9, 28, 16, 76, 96, 46, 79, 132, 2, 1, 167, 255, 231, 17, 4, 28, 61, 28, 17, 4, 104]
abbrev dktX6_drops_2 : List UInt8 := dkwX6_drops_2 ++ dktX6_drops_3
def dkwX6_drops_1 : List UInt8 := [17, 1, 188, 16, 76, 27, 104, 96, 61, 28, 17, 4, 28, 162, 0, 24, 42, 180, 0, 9, 28, 42]
abbrev dktX6_drops_1 : List UInt8 := dkwX6_drops_1 ++ dktX6_drops_2
def dkwX6_drops_0 : List UInt8 := [42, 42, 27, 182, 0, 196, 154, 0, 7, 4, 167, 0, 4, 3, 4, 182, 0, 164, 153, 0, 5, 3, 172]
abbrev dktX6_drops_0 : List UInt8 := dkwX6_drops_0 ++ dktX6_drops_1
theorem dksX6_drops_0 : cX6_drops.data.toList.drop 0 = dktX6_drops_0 := by decide +kernel
theorem dksX6_drops_1 : cX6_drops.data.toList.drop 23 = dktX6_drops_1 := dk_seg dksX6_drops_0 23 rfl rfl
theorem dksX6_drops_2 : cX6_drops.data.toList.drop 45 = dktX6_drops_2 := dk_seg dksX6_drops_1 22 rfl rfl
theorem dksX6_drops_3 : cX6_drops.data.toList.drop 68 = dktX6_drops_3 := dk_seg dksX6_drops_2 23 rfl rfl
theorem dksX6_drops_4 : cX6_drops.data.toList.drop 92 = dktX6_drops_4 := dk_seg dksX6_drops_3 24 rfl rfl
theorem dX6_drops_0 : decode cX6_drops 0 = .ok (.aload_n 0, 1) := dk_42 (dk_at dksX6_drops_0 0 rfl rfl)
theorem dX6_drops_1 : decode cX6_drops 1 = .ok (.aload_n 0, 1) := dk_42 (dk_at dksX6_drops_0 1 rfl rfl)
theorem dX6_drops_2 : decode cX6_drops 2 = .ok (.iload_n 1, 1) := dk_27 (dk_at dksX6_drops_0 2 rfl rfl)
theorem dX6_drops_3 : decode cX6_drops 3 = .ok (.invokevirtual 196, 3) := dk_182 0 196 (dk_at dksX6_drops_0 3 rfl rfl)
theorem dX6_drops_6 : decode cX6_drops 6 = .ok (.ifCond .ne 7, 3) := dk_154 0 7 (dk_at dksX6_drops_0 6 rfl rfl)
theorem dX6_drops_9 : decode cX6_drops 9 = .ok (.iconst 1, 1) := dk_4 (dk_at dksX6_drops_0 9 rfl rfl)
theorem dX6_drops_10 : decode cX6_drops 10 = .ok (.goto 4, 3) := dk_167 0 4 (dk_at dksX6_drops_0 10 rfl rfl)
theorem dX6_drops_13 : decode cX6_drops 13 = .ok (.iconst 0, 1) := dk_3 (dk_at dksX6_drops_0 13 rfl rfl)
theorem dX6_drops_14 : decode cX6_drops 14 = .ok (.iconst 1, 1) := dk_4 (dk_at dksX6_drops_0 14 rfl rfl)
theorem dX6_drops_15 : decode cX6_drops 15 = .ok (.invokevirtual 164, 3) := dk_182 0 164 (dk_at dksX6_drops_0 15 rfl rfl)
theorem dX6_drops_18 : decode cX6_drops 18 = .ok (.ifCond .eq 5, 3) := dk_153 0 5 (dk_at dksX6_drops_0 18 rfl rfl)
theorem dX6_drops_21 : decode cX6_drops 21 = .ok (.iconst 0, 1) := dk_3 (dk_at dksX6_drops_0 21 rfl rfl)
theorem dX6_drops_22 : decode cX6_drops 22 = .ok (.ireturn, 1) := dk_172 (dk_at dksX6_drops_0 22 rfl rfl)
theorem dX6_drops_23 : decode cX6_drops 23 = .ok (.sipush 444, 3) := dk_17 1 188 (dk_at dksX6_drops_1 0 rfl rfl)
theorem dX6_drops_26 : decode cX6_drops 26 = .ok (.bipush 76, 2) := dk_16 76 (dk_at dksX6_drops_1 3 rfl rfl)
theorem dX6_drops_28 : decode cX6_drops 28 = .ok (.iload_n 1, 1) := dk_27 (dk_at dksX6_drops_1 5 rfl rfl)
theorem dX6_drops_29 : decode cX6_drops 29 = .ok (.imul, 1) := dk_104 (dk_at dksX6_drops_1 6 rfl rfl)
theorem dX6_drops_30 : decode cX6_drops 30 = .ok (.iadd, 1) := dk_96 (dk_at dksX6_drops_1 7 rfl rfl)
theorem dX6_drops_31 : decode cX6_drops 31 = .ok (.istore_n 2, 1) := dk_61 (dk_at dksX6_drops_1 8 rfl rfl)
theorem dX6_drops_32 : decode cX6_drops 32 = .ok (.iload_n 2, 1) := dk_28 (dk_at dksX6_drops_1 9 rfl rfl)
theorem dX6_drops_33 : decode cX6_drops 33 = .ok (.sipush 1052, 3) := dk_17 4 28 (dk_at dksX6_drops_1 10 rfl rfl)
theorem dX6_drops_36 : decode cX6_drops 36 = .ok (.if_icmp .ge 24, 3) := dk_162 0 24 (dk_at dksX6_drops_1 13 rfl rfl)
theorem dX6_drops_39 : decode cX6_drops 39 = .ok (.aload_n 0, 1) := dk_42 (dk_at dksX6_drops_1 16 rfl rfl)
theorem dX6_drops_40 : decode cX6_drops 40 = .ok (.getfield 9, 3) := dk_180 0 9 (dk_at dksX6_drops_1 17 rfl rfl)
theorem dX6_drops_43 : decode cX6_drops 43 = .ok (.iload_n 2, 1) := dk_28 (dk_at dksX6_drops_1 20 rfl rfl)
theorem dX6_drops_44 : decode cX6_drops 44 = .ok (.aload_n 0, 1) := dk_42 (dk_at dksX6_drops_1 21 rfl rfl)
theorem dX6_drops_45 : decode cX6_drops 45 = .ok (.getfield 9, 3) := dk_180 0 9 (dk_at dksX6_drops_2 0 rfl rfl)
theorem dX6_drops_48 : decode cX6_drops 48 = .ok (.iload_n 2, 1) := dk_28 (dk_at dksX6_drops_2 3 rfl rfl)
theorem dX6_drops_49 : decode cX6_drops 49 = .ok (.bipush 76, 2) := dk_16 76 (dk_at dksX6_drops_2 4 rfl rfl)
theorem dX6_drops_51 : decode cX6_drops 51 = .ok (.iadd, 1) := dk_96 (dk_at dksX6_drops_2 6 rfl rfl)
theorem dX6_drops_52 : decode cX6_drops 52 = .ok (.iaload, 1) := dk_46 (dk_at dksX6_drops_2 7 rfl rfl)
theorem dX6_drops_53 : decode cX6_drops 53 = .ok (.iastore, 1) := dk_79 (dk_at dksX6_drops_2 8 rfl rfl)
theorem dX6_drops_54 : decode cX6_drops 54 = .ok (.iinc 2 1, 3) := dk_132 2 1 (dk_at dksX6_drops_2 9 rfl rfl)
theorem dX6_drops_57 : decode cX6_drops 57 = .ok (.goto (-25), 3) := dk_167 255 231 (dk_at dksX6_drops_2 12 rfl rfl)
theorem dX6_drops_60 : decode cX6_drops 60 = .ok (.sipush 1052, 3) := dk_17 4 28 (dk_at dksX6_drops_2 15 rfl rfl)
theorem dX6_drops_63 : decode cX6_drops 63 = .ok (.istore_n 2, 1) := dk_61 (dk_at dksX6_drops_2 18 rfl rfl)
theorem dX6_drops_64 : decode cX6_drops 64 = .ok (.iload_n 2, 1) := dk_28 (dk_at dksX6_drops_2 19 rfl rfl)
theorem dX6_drops_65 : decode cX6_drops 65 = .ok (.sipush 1128, 3) := dk_17 4 104 (dk_at dksX6_drops_2 20 rfl rfl)
theorem dX6_drops_68 : decode cX6_drops 68 = .ok (.if_icmp .ge 16, 3) := dk_162 0 16 (dk_at dksX6_drops_3 0 rfl rfl)
theorem dX6_drops_71 : decode cX6_drops 71 = .ok (.aload_n 0, 1) := dk_42 (dk_at dksX6_drops_3 3 rfl rfl)
theorem dX6_drops_72 : decode cX6_drops 72 = .ok (.getfield 9, 3) := dk_180 0 9 (dk_at dksX6_drops_3 4 rfl rfl)
theorem dX6_drops_75 : decode cX6_drops 75 = .ok (.iload_n 2, 1) := dk_28 (dk_at dksX6_drops_3 7 rfl rfl)
theorem dX6_drops_76 : decode cX6_drops 76 = .ok (.iconst 0, 1) := dk_3 (dk_at dksX6_drops_3 8 rfl rfl)
theorem dX6_drops_77 : decode cX6_drops 77 = .ok (.iastore, 1) := dk_79 (dk_at dksX6_drops_3 9 rfl rfl)
theorem dX6_drops_78 : decode cX6_drops 78 = .ok (.iinc 2 1, 3) := dk_132 2 1 (dk_at dksX6_drops_3 10 rfl rfl)
theorem dX6_drops_81 : decode cX6_drops 81 = .ok (.goto (-17), 3) := dk_167 255 239 (dk_at dksX6_drops_3 13 rfl rfl)
theorem dX6_drops_84 : decode cX6_drops 84 = .ok (.aload_n 0, 1) := dk_42 (dk_at dksX6_drops_3 16 rfl rfl)
theorem dX6_drops_85 : decode cX6_drops 85 = .ok (.getfield 9, 3) := dk_180 0 9 (dk_at dksX6_drops_3 17 rfl rfl)
theorem dX6_drops_88 : decode cX6_drops 88 = .ok (.iconst 3, 1) := dk_6 (dk_at dksX6_drops_3 20 rfl rfl)
theorem dX6_drops_89 : decode cX6_drops 89 = .ok (.dup2, 1) := dk_92 (dk_at dksX6_drops_3 21 rfl rfl)
theorem dX6_drops_90 : decode cX6_drops 90 = .ok (.iaload, 1) := dk_46 (dk_at dksX6_drops_3 22 rfl rfl)
theorem dX6_drops_91 : decode cX6_drops 91 = .ok (.iconst 1, 1) := dk_4 (dk_at dksX6_drops_3 23 rfl rfl)
theorem dX6_drops_92 : decode cX6_drops 92 = .ok (.isub, 1) := dk_100 (dk_at dksX6_drops_4 0 rfl rfl)
theorem dX6_drops_93 : decode cX6_drops 93 = .ok (.iastore, 1) := dk_79 (dk_at dksX6_drops_4 1 rfl rfl)
theorem dX6_drops_94 : decode cX6_drops 94 = .ok (.aload_n 0, 1) := dk_42 (dk_at dksX6_drops_4 2 rfl rfl)
theorem dX6_drops_95 : decode cX6_drops 95 = .ok (.getfield 9, 3) := dk_180 0 9 (dk_at dksX6_drops_4 3 rfl rfl)
theorem dX6_drops_98 : decode cX6_drops 98 = .ok (.iconst 3, 1) := dk_6 (dk_at dksX6_drops_4 6 rfl rfl)
theorem dX6_drops_99 : decode cX6_drops 99 = .ok (.iaload, 1) := dk_46 (dk_at dksX6_drops_4 7 rfl rfl)
theorem dX6_drops_100 : decode cX6_drops 100 = .ok (.ireturn, 1) := dk_172 (dk_at dksX6_drops_4 8 rfl rfl)
abbrev cX6_isRule : ByteArray := prog_28_method_19_code
def yX6_isRule : MethodName := ⟨RX6, "isRule", "(I)Z"⟩
def dkwX6_isRule_0 : List UInt8 := [27, 3, 42, 180, 0, 9, 6, 46, 4, 100, 184, 0, 77, 172]
abbrev dktX6_isRule_0 : List UInt8 := dkwX6_isRule_0 ++ []
theorem dksX6_isRule_0 : cX6_isRule.data.toList.drop 0 = dktX6_isRule_0 := by decide +kernel
theorem dX6_isRule_0 : decode cX6_isRule 0 = .ok (.iload_n 1, 1) := dk_27 (dk_at dksX6_isRule_0 0 rfl rfl)
theorem dX6_isRule_1 : decode cX6_isRule 1 = .ok (.iconst 0, 1) := dk_3 (dk_at dksX6_isRule_0 1 rfl rfl)
theorem dX6_isRule_2 : decode cX6_isRule 2 = .ok (.aload_n 0, 1) := dk_42 (dk_at dksX6_isRule_0 2 rfl rfl)
theorem dX6_isRule_3 : decode cX6_isRule 3 = .ok (.getfield 9, 3) := dk_180 0 9 (dk_at dksX6_isRule_0 3 rfl rfl)
theorem dX6_isRule_6 : decode cX6_isRule 6 = .ok (.iconst 3, 1) := dk_6 (dk_at dksX6_isRule_0 6 rfl rfl)
theorem dX6_isRule_7 : decode cX6_isRule 7 = .ok (.iaload, 1) := dk_46 (dk_at dksX6_isRule_0 7 rfl rfl)
theorem dX6_isRule_8 : decode cX6_isRule 8 = .ok (.iconst 1, 1) := dk_4 (dk_at dksX6_isRule_0 8 rfl rfl)
theorem dX6_isRule_9 : decode cX6_isRule 9 = .ok (.isub, 1) := dk_100 (dk_at dksX6_isRule_0 9 rfl rfl)
theorem dX6_isRule_10 : decode cX6_isRule 10 = .ok (.invokestatic 77, 3) := dk_184 0 77 (dk_at dksX6_isRule_0 10 rfl rfl)
theorem dX6_isRule_13 : decode cX6_isRule 13 = .ok (.ireturn, 1) := dk_172 (dk_at dksX6_isRule_0 13 rfl rfl)
abbrev cX6_givenCount : ByteArray := prog_28_method_49_code
def yX6_givenCount : MethodName := ⟨RX6, "givenCount", "()I"⟩
def dkwX6_givenCount_0 : List UInt8 := [42, 3, 181, 0, 63, 42, 180, 0, 9, 3, 46, 172]
abbrev dktX6_givenCount_0 : List UInt8 := dkwX6_givenCount_0 ++ []
theorem dksX6_givenCount_0 : cX6_givenCount.data.toList.drop 0 = dktX6_givenCount_0 := by decide +kernel
theorem dX6_givenCount_0 : decode cX6_givenCount 0 = .ok (.aload_n 0, 1) := dk_42 (dk_at dksX6_givenCount_0 0 rfl rfl)
theorem dX6_givenCount_1 : decode cX6_givenCount 1 = .ok (.iconst 0, 1) := dk_3 (dk_at dksX6_givenCount_0 1 rfl rfl)
theorem dX6_givenCount_2 : decode cX6_givenCount 2 = .ok (.putfield 63, 3) := dk_181 0 63 (dk_at dksX6_givenCount_0 2 rfl rfl)
theorem dX6_givenCount_5 : decode cX6_givenCount 5 = .ok (.aload_n 0, 1) := dk_42 (dk_at dksX6_givenCount_0 5 rfl rfl)
theorem dX6_givenCount_6 : decode cX6_givenCount 6 = .ok (.getfield 9, 3) := dk_180 0 9 (dk_at dksX6_givenCount_0 6 rfl rfl)
theorem dX6_givenCount_9 : decode cX6_givenCount 9 = .ok (.iconst 0, 1) := dk_3 (dk_at dksX6_givenCount_0 9 rfl rfl)
theorem dX6_givenCount_10 : decode cX6_givenCount 10 = .ok (.iaload, 1) := dk_46 (dk_at dksX6_givenCount_0 10 rfl rfl)
theorem dX6_givenCount_11 : decode cX6_givenCount 11 = .ok (.ireturn, 1) := dk_172 (dk_at dksX6_givenCount_0 11 rfl rfl)
abbrev cX6_isGiven : ByteArray := prog_28_method_50_code
def yX6_isGiven : MethodName := ⟨RX6, "isGiven", "(CII)Z"⟩
def dkwX6_isGiven_1 : List UInt8 := [180, 0, 9, 7, 27, 28, 29, 184, 0, 168, 96, 46, 4, 160, 0, 7, 4, 167, 0, 4, 3, 172]
abbrev dktX6_isGiven_1 : List UInt8 := dkwX6_isGiven_1 ++ []
def dkwX6_isGiven_0 : List UInt8 := [42, 27, 28, 29, 184, 0, 161, 154, 0, 7, 4, 167, 0, 4, 3, 4, 182, 0, 164, 154, 0, 24, 42]
abbrev dktX6_isGiven_0 : List UInt8 := dkwX6_isGiven_0 ++ dktX6_isGiven_1
theorem dksX6_isGiven_0 : cX6_isGiven.data.toList.drop 0 = dktX6_isGiven_0 := by decide +kernel
theorem dksX6_isGiven_1 : cX6_isGiven.data.toList.drop 23 = dktX6_isGiven_1 := dk_seg dksX6_isGiven_0 23 rfl rfl
theorem dX6_isGiven_0 : decode cX6_isGiven 0 = .ok (.aload_n 0, 1) := dk_42 (dk_at dksX6_isGiven_0 0 rfl rfl)
theorem dX6_isGiven_1 : decode cX6_isGiven 1 = .ok (.iload_n 1, 1) := dk_27 (dk_at dksX6_isGiven_0 1 rfl rfl)
theorem dX6_isGiven_2 : decode cX6_isGiven 2 = .ok (.iload_n 2, 1) := dk_28 (dk_at dksX6_isGiven_0 2 rfl rfl)
theorem dX6_isGiven_3 : decode cX6_isGiven 3 = .ok (.iload_n 3, 1) := dk_29 (dk_at dksX6_isGiven_0 3 rfl rfl)
theorem dX6_isGiven_4 : decode cX6_isGiven 4 = .ok (.invokestatic 161, 3) := dk_184 0 161 (dk_at dksX6_isGiven_0 4 rfl rfl)
theorem dX6_isGiven_7 : decode cX6_isGiven 7 = .ok (.ifCond .ne 7, 3) := dk_154 0 7 (dk_at dksX6_isGiven_0 7 rfl rfl)
theorem dX6_isGiven_10 : decode cX6_isGiven 10 = .ok (.iconst 1, 1) := dk_4 (dk_at dksX6_isGiven_0 10 rfl rfl)
theorem dX6_isGiven_11 : decode cX6_isGiven 11 = .ok (.goto 4, 3) := dk_167 0 4 (dk_at dksX6_isGiven_0 11 rfl rfl)
theorem dX6_isGiven_14 : decode cX6_isGiven 14 = .ok (.iconst 0, 1) := dk_3 (dk_at dksX6_isGiven_0 14 rfl rfl)
theorem dX6_isGiven_15 : decode cX6_isGiven 15 = .ok (.iconst 1, 1) := dk_4 (dk_at dksX6_isGiven_0 15 rfl rfl)
theorem dX6_isGiven_16 : decode cX6_isGiven 16 = .ok (.invokevirtual 164, 3) := dk_182 0 164 (dk_at dksX6_isGiven_0 16 rfl rfl)
theorem dX6_isGiven_19 : decode cX6_isGiven 19 = .ok (.ifCond .ne 24, 3) := dk_154 0 24 (dk_at dksX6_isGiven_0 19 rfl rfl)
theorem dX6_isGiven_22 : decode cX6_isGiven 22 = .ok (.aload_n 0, 1) := dk_42 (dk_at dksX6_isGiven_0 22 rfl rfl)
theorem dX6_isGiven_23 : decode cX6_isGiven 23 = .ok (.getfield 9, 3) := dk_180 0 9 (dk_at dksX6_isGiven_1 0 rfl rfl)
theorem dX6_isGiven_26 : decode cX6_isGiven 26 = .ok (.iconst 4, 1) := dk_7 (dk_at dksX6_isGiven_1 3 rfl rfl)
theorem dX6_isGiven_27 : decode cX6_isGiven 27 = .ok (.iload_n 1, 1) := dk_27 (dk_at dksX6_isGiven_1 4 rfl rfl)
theorem dX6_isGiven_28 : decode cX6_isGiven 28 = .ok (.iload_n 2, 1) := dk_28 (dk_at dksX6_isGiven_1 5 rfl rfl)
theorem dX6_isGiven_29 : decode cX6_isGiven 29 = .ok (.iload_n 3, 1) := dk_29 (dk_at dksX6_isGiven_1 6 rfl rfl)
theorem dX6_isGiven_30 : decode cX6_isGiven 30 = .ok (.invokestatic 168, 3) := dk_184 0 168 (dk_at dksX6_isGiven_1 7 rfl rfl)
theorem dX6_isGiven_33 : decode cX6_isGiven 33 = .ok (.iadd, 1) := dk_96 (dk_at dksX6_isGiven_1 10 rfl rfl)
theorem dX6_isGiven_34 : decode cX6_isGiven 34 = .ok (.iaload, 1) := dk_46 (dk_at dksX6_isGiven_1 11 rfl rfl)
theorem dX6_isGiven_35 : decode cX6_isGiven 35 = .ok (.iconst 1, 1) := dk_4 (dk_at dksX6_isGiven_1 12 rfl rfl)
theorem dX6_isGiven_36 : decode cX6_isGiven 36 = .ok (.if_icmp .ne 7, 3) := dk_160 0 7 (dk_at dksX6_isGiven_1 13 rfl rfl)
theorem dX6_isGiven_39 : decode cX6_isGiven 39 = .ok (.iconst 1, 1) := dk_4 (dk_at dksX6_isGiven_1 16 rfl rfl)
theorem dX6_isGiven_40 : decode cX6_isGiven 40 = .ok (.goto 4, 3) := dk_167 0 4 (dk_at dksX6_isGiven_1 17 rfl rfl)
theorem dX6_isGiven_43 : decode cX6_isGiven 43 = .ok (.iconst 0, 1) := dk_3 (dk_at dksX6_isGiven_1 20 rfl rfl)
theorem dX6_isGiven_44 : decode cX6_isGiven 44 = .ok (.ireturn, 1) := dk_172 (dk_at dksX6_isGiven_1 21 rfl rfl)
abbrev cX6_isTrue : ByteArray := prog_28_method_51_code
def yX6_isTrue : MethodName := ⟨RX6, "isTrue", "(CII)Z"⟩
def dkwX6_isTrue_1 : List UInt8 := [42, 182, 0, 158, 42, 180, 0, 37, 27, 28, 29, 184, 0, 168, 51, 172]
abbrev dktX6_isTrue_1 : List UInt8 := dkwX6_isTrue_1 ++ []
def dkwX6_isTrue_0 : List UInt8 := [42, 27, 28, 29, 184, 0, 161, 154, 0, 7, 4, 167, 0, 4, 3, 4, 182, 0, 164, 153, 0, 5, 3, 172]
abbrev dktX6_isTrue_0 : List UInt8 := dkwX6_isTrue_0 ++ dktX6_isTrue_1
theorem dksX6_isTrue_0 : cX6_isTrue.data.toList.drop 0 = dktX6_isTrue_0 := by decide +kernel
theorem dksX6_isTrue_1 : cX6_isTrue.data.toList.drop 24 = dktX6_isTrue_1 := dk_seg dksX6_isTrue_0 24 rfl rfl
theorem dX6_isTrue_0 : decode cX6_isTrue 0 = .ok (.aload_n 0, 1) := dk_42 (dk_at dksX6_isTrue_0 0 rfl rfl)
theorem dX6_isTrue_1 : decode cX6_isTrue 1 = .ok (.iload_n 1, 1) := dk_27 (dk_at dksX6_isTrue_0 1 rfl rfl)
theorem dX6_isTrue_2 : decode cX6_isTrue 2 = .ok (.iload_n 2, 1) := dk_28 (dk_at dksX6_isTrue_0 2 rfl rfl)
theorem dX6_isTrue_3 : decode cX6_isTrue 3 = .ok (.iload_n 3, 1) := dk_29 (dk_at dksX6_isTrue_0 3 rfl rfl)
theorem dX6_isTrue_4 : decode cX6_isTrue 4 = .ok (.invokestatic 161, 3) := dk_184 0 161 (dk_at dksX6_isTrue_0 4 rfl rfl)
theorem dX6_isTrue_7 : decode cX6_isTrue 7 = .ok (.ifCond .ne 7, 3) := dk_154 0 7 (dk_at dksX6_isTrue_0 7 rfl rfl)
theorem dX6_isTrue_10 : decode cX6_isTrue 10 = .ok (.iconst 1, 1) := dk_4 (dk_at dksX6_isTrue_0 10 rfl rfl)
theorem dX6_isTrue_11 : decode cX6_isTrue 11 = .ok (.goto 4, 3) := dk_167 0 4 (dk_at dksX6_isTrue_0 11 rfl rfl)
theorem dX6_isTrue_14 : decode cX6_isTrue 14 = .ok (.iconst 0, 1) := dk_3 (dk_at dksX6_isTrue_0 14 rfl rfl)
theorem dX6_isTrue_15 : decode cX6_isTrue 15 = .ok (.iconst 1, 1) := dk_4 (dk_at dksX6_isTrue_0 15 rfl rfl)
theorem dX6_isTrue_16 : decode cX6_isTrue 16 = .ok (.invokevirtual 164, 3) := dk_182 0 164 (dk_at dksX6_isTrue_0 16 rfl rfl)
theorem dX6_isTrue_19 : decode cX6_isTrue 19 = .ok (.ifCond .eq 5, 3) := dk_153 0 5 (dk_at dksX6_isTrue_0 19 rfl rfl)
theorem dX6_isTrue_22 : decode cX6_isTrue 22 = .ok (.iconst 0, 1) := dk_3 (dk_at dksX6_isTrue_0 22 rfl rfl)
theorem dX6_isTrue_23 : decode cX6_isTrue 23 = .ok (.ireturn, 1) := dk_172 (dk_at dksX6_isTrue_0 23 rfl rfl)
theorem dX6_isTrue_24 : decode cX6_isTrue 24 = .ok (.aload_n 0, 1) := dk_42 (dk_at dksX6_isTrue_1 0 rfl rfl)
theorem dX6_isTrue_25 : decode cX6_isTrue 25 = .ok (.invokevirtual 158, 3) := dk_182 0 158 (dk_at dksX6_isTrue_1 1 rfl rfl)
theorem dX6_isTrue_28 : decode cX6_isTrue 28 = .ok (.aload_n 0, 1) := dk_42 (dk_at dksX6_isTrue_1 4 rfl rfl)
theorem dX6_isTrue_29 : decode cX6_isTrue 29 = .ok (.getfield 37, 3) := dk_180 0 37 (dk_at dksX6_isTrue_1 5 rfl rfl)
theorem dX6_isTrue_32 : decode cX6_isTrue 32 = .ok (.iload_n 1, 1) := dk_27 (dk_at dksX6_isTrue_1 8 rfl rfl)
theorem dX6_isTrue_33 : decode cX6_isTrue 33 = .ok (.iload_n 2, 1) := dk_28 (dk_at dksX6_isTrue_1 9 rfl rfl)
theorem dX6_isTrue_34 : decode cX6_isTrue 34 = .ok (.iload_n 3, 1) := dk_29 (dk_at dksX6_isTrue_1 10 rfl rfl)
theorem dX6_isTrue_35 : decode cX6_isTrue 35 = .ok (.invokestatic 168, 3) := dk_184 0 168 (dk_at dksX6_isTrue_1 11 rfl rfl)
theorem dX6_isTrue_38 : decode cX6_isTrue 38 = .ok (.baload, 1) := dk_51 (dk_at dksX6_isTrue_1 14 rfl rfl)
theorem dX6_isTrue_39 : decode cX6_isTrue 39 = .ok (.ireturn, 1) := dk_172 (dk_at dksX6_isTrue_1 15 rfl rfl)
abbrev cX6_isTrueByTrying : ByteArray := prog_28_method_52_code
def yX6_isTrueByTrying : MethodName := ⟨RX6, "isTrueByTrying", "(CII)Z"⟩
def dkwX6_isTrueByTrying_0 : List UInt8 := [42, 27, 28, 29, 182, 0, 202, 172]
abbrev dktX6_isTrueByTrying_0 : List UInt8 := dkwX6_isTrueByTrying_0 ++ []
theorem dksX6_isTrueByTrying_0 : cX6_isTrueByTrying.data.toList.drop 0 = dktX6_isTrueByTrying_0 := by decide +kernel
theorem dX6_isTrueByTrying_0 : decode cX6_isTrueByTrying 0 = .ok (.aload_n 0, 1) := dk_42 (dk_at dksX6_isTrueByTrying_0 0 rfl rfl)
theorem dX6_isTrueByTrying_1 : decode cX6_isTrueByTrying 1 = .ok (.iload_n 1, 1) := dk_27 (dk_at dksX6_isTrueByTrying_0 1 rfl rfl)
theorem dX6_isTrueByTrying_2 : decode cX6_isTrueByTrying 2 = .ok (.iload_n 2, 1) := dk_28 (dk_at dksX6_isTrueByTrying_0 2 rfl rfl)
theorem dX6_isTrueByTrying_3 : decode cX6_isTrueByTrying 3 = .ok (.iload_n 3, 1) := dk_29 (dk_at dksX6_isTrueByTrying_0 3 rfl rfl)
theorem dX6_isTrueByTrying_4 : decode cX6_isTrueByTrying 4 = .ok (.invokevirtual 202, 3) := dk_182 0 202 (dk_at dksX6_isTrueByTrying_0 4 rfl rfl)
theorem dX6_isTrueByTrying_7 : decode cX6_isTrueByTrying 7 = .ok (.ireturn, 1) := dk_172 (dk_at dksX6_isTrueByTrying_0 7 rfl rfl)
abbrev cX6_trueCount : ByteArray := prog_28_method_53_code
def yX6_trueCount : MethodName := ⟨RX6, "trueCount", "(C)I"⟩
def dkwX6_trueCount_1 : List UInt8 := [42, 27, 16, 97, 100, 184, 0, 205, 27, 16, 97, 100, 184, 0, 208, 182, 0, 211, 172]
abbrev dktX6_trueCount_1 : List UInt8 := dkwX6_trueCount_1 ++ []
def dkwX6_trueCount_0 : List UInt8 := [42, 27, 184, 0, 81, 154, 0, 7, 4, 167, 0, 4, 3, 4, 182, 0, 164, 153, 0, 7, 3, 167, 0, 21]
abbrev dktX6_trueCount_0 : List UInt8 := dkwX6_trueCount_0 ++ dktX6_trueCount_1
theorem dksX6_trueCount_0 : cX6_trueCount.data.toList.drop 0 = dktX6_trueCount_0 := by decide +kernel
theorem dksX6_trueCount_1 : cX6_trueCount.data.toList.drop 24 = dktX6_trueCount_1 := dk_seg dksX6_trueCount_0 24 rfl rfl
theorem dX6_trueCount_0 : decode cX6_trueCount 0 = .ok (.aload_n 0, 1) := dk_42 (dk_at dksX6_trueCount_0 0 rfl rfl)
theorem dX6_trueCount_1 : decode cX6_trueCount 1 = .ok (.iload_n 1, 1) := dk_27 (dk_at dksX6_trueCount_0 1 rfl rfl)
theorem dX6_trueCount_2 : decode cX6_trueCount 2 = .ok (.invokestatic 81, 3) := dk_184 0 81 (dk_at dksX6_trueCount_0 2 rfl rfl)
theorem dX6_trueCount_5 : decode cX6_trueCount 5 = .ok (.ifCond .ne 7, 3) := dk_154 0 7 (dk_at dksX6_trueCount_0 5 rfl rfl)
theorem dX6_trueCount_8 : decode cX6_trueCount 8 = .ok (.iconst 1, 1) := dk_4 (dk_at dksX6_trueCount_0 8 rfl rfl)
theorem dX6_trueCount_9 : decode cX6_trueCount 9 = .ok (.goto 4, 3) := dk_167 0 4 (dk_at dksX6_trueCount_0 9 rfl rfl)
theorem dX6_trueCount_12 : decode cX6_trueCount 12 = .ok (.iconst 0, 1) := dk_3 (dk_at dksX6_trueCount_0 12 rfl rfl)
theorem dX6_trueCount_13 : decode cX6_trueCount 13 = .ok (.iconst 1, 1) := dk_4 (dk_at dksX6_trueCount_0 13 rfl rfl)
theorem dX6_trueCount_14 : decode cX6_trueCount 14 = .ok (.invokevirtual 164, 3) := dk_182 0 164 (dk_at dksX6_trueCount_0 14 rfl rfl)
theorem dX6_trueCount_17 : decode cX6_trueCount 17 = .ok (.ifCond .eq 7, 3) := dk_153 0 7 (dk_at dksX6_trueCount_0 17 rfl rfl)
theorem dX6_trueCount_20 : decode cX6_trueCount 20 = .ok (.iconst 0, 1) := dk_3 (dk_at dksX6_trueCount_0 20 rfl rfl)
theorem dX6_trueCount_21 : decode cX6_trueCount 21 = .ok (.goto 21, 3) := dk_167 0 21 (dk_at dksX6_trueCount_0 21 rfl rfl)
theorem dX6_trueCount_24 : decode cX6_trueCount 24 = .ok (.aload_n 0, 1) := dk_42 (dk_at dksX6_trueCount_1 0 rfl rfl)
theorem dX6_trueCount_25 : decode cX6_trueCount 25 = .ok (.iload_n 1, 1) := dk_27 (dk_at dksX6_trueCount_1 1 rfl rfl)
theorem dX6_trueCount_26 : decode cX6_trueCount 26 = .ok (.bipush 97, 2) := dk_16 97 (dk_at dksX6_trueCount_1 2 rfl rfl)
theorem dX6_trueCount_28 : decode cX6_trueCount 28 = .ok (.isub, 1) := dk_100 (dk_at dksX6_trueCount_1 4 rfl rfl)
theorem dX6_trueCount_29 : decode cX6_trueCount 29 = .ok (.invokestatic 205, 3) := dk_184 0 205 (dk_at dksX6_trueCount_1 5 rfl rfl)
theorem dX6_trueCount_32 : decode cX6_trueCount 32 = .ok (.iload_n 1, 1) := dk_27 (dk_at dksX6_trueCount_1 8 rfl rfl)
theorem dX6_trueCount_33 : decode cX6_trueCount 33 = .ok (.bipush 97, 2) := dk_16 97 (dk_at dksX6_trueCount_1 9 rfl rfl)
theorem dX6_trueCount_35 : decode cX6_trueCount 35 = .ok (.isub, 1) := dk_100 (dk_at dksX6_trueCount_1 11 rfl rfl)
theorem dX6_trueCount_36 : decode cX6_trueCount 36 = .ok (.invokestatic 208, 3) := dk_184 0 208 (dk_at dksX6_trueCount_1 12 rfl rfl)
theorem dX6_trueCount_39 : decode cX6_trueCount 39 = .ok (.invokevirtual 211, 3) := dk_182 0 211 (dk_at dksX6_trueCount_1 15 rfl rfl)
theorem dX6_trueCount_42 : decode cX6_trueCount 42 = .ok (.ireturn, 1) := dk_172 (dk_at dksX6_trueCount_1 18 rfl rfl)
abbrev cX6_begin : ByteArray := prog_28_method_14_code
def yX6_begin : MethodName := ⟨RX6, "begin", "(I)I"⟩
def dkwX6_begin_1 : List UInt8 := [172]
abbrev dktX6_begin_1 : List UInt8 := dkwX6_begin_1 ++ []
def dkwX6_begin_0 : List UInt8 := [26, 184, 0, 85, 153, 0, 10, 16, 100, 26, 104, 167, 0, 13, 17, 1, 144, 16, 10, 26, 7, 100, 104, 96]
abbrev dktX6_begin_0 : List UInt8 := dkwX6_begin_0 ++ dktX6_begin_1
theorem dksX6_begin_0 : cX6_begin.data.toList.drop 0 = dktX6_begin_0 := by decide +kernel
theorem dksX6_begin_1 : cX6_begin.data.toList.drop 24 = dktX6_begin_1 := dk_seg dksX6_begin_0 24 rfl rfl
theorem dX6_begin_0 : decode cX6_begin 0 = .ok (.iload_n 0, 1) := dk_26 (dk_at dksX6_begin_0 0 rfl rfl)
theorem dX6_begin_1 : decode cX6_begin 1 = .ok (.invokestatic 85, 3) := dk_184 0 85 (dk_at dksX6_begin_0 1 rfl rfl)
theorem dX6_begin_4 : decode cX6_begin 4 = .ok (.ifCond .eq 10, 3) := dk_153 0 10 (dk_at dksX6_begin_0 4 rfl rfl)
theorem dX6_begin_7 : decode cX6_begin 7 = .ok (.bipush 100, 2) := dk_16 100 (dk_at dksX6_begin_0 7 rfl rfl)
theorem dX6_begin_9 : decode cX6_begin 9 = .ok (.iload_n 0, 1) := dk_26 (dk_at dksX6_begin_0 9 rfl rfl)
theorem dX6_begin_10 : decode cX6_begin 10 = .ok (.imul, 1) := dk_104 (dk_at dksX6_begin_0 10 rfl rfl)
theorem dX6_begin_11 : decode cX6_begin 11 = .ok (.goto 13, 3) := dk_167 0 13 (dk_at dksX6_begin_0 11 rfl rfl)
theorem dX6_begin_14 : decode cX6_begin 14 = .ok (.sipush 400, 3) := dk_17 1 144 (dk_at dksX6_begin_0 14 rfl rfl)
theorem dX6_begin_17 : decode cX6_begin 17 = .ok (.bipush 10, 2) := dk_16 10 (dk_at dksX6_begin_0 17 rfl rfl)
theorem dX6_begin_19 : decode cX6_begin 19 = .ok (.iload_n 0, 1) := dk_26 (dk_at dksX6_begin_0 19 rfl rfl)
theorem dX6_begin_20 : decode cX6_begin 20 = .ok (.iconst 4, 1) := dk_7 (dk_at dksX6_begin_0 20 rfl rfl)
theorem dX6_begin_21 : decode cX6_begin 21 = .ok (.isub, 1) := dk_100 (dk_at dksX6_begin_0 21 rfl rfl)
theorem dX6_begin_22 : decode cX6_begin 22 = .ok (.imul, 1) := dk_104 (dk_at dksX6_begin_0 22 rfl rfl)
theorem dX6_begin_23 : decode cX6_begin 23 = .ok (.iadd, 1) := dk_96 (dk_at dksX6_begin_0 23 rfl rfl)
theorem dX6_begin_24 : decode cX6_begin 24 = .ok (.ireturn, 1) := dk_172 (dk_at dksX6_begin_1 0 rfl rfl)
abbrev cX6_end : ByteArray := prog_28_method_15_code
def yX6_end : MethodName := ⟨RX6, "end", "(I)I"⟩
def dkwX6_end_1 : List UInt8 := [100, 104, 96, 172]
abbrev dktX6_end_1 : List UInt8 := dkwX6_end_1 ++ []
def dkwX6_end_0 : List UInt8 := [26, 184, 0, 85, 153, 0, 13, 16, 100, 26, 104, 16, 100, 96, 167, 0, 13, 17, 1, 154, 16, 10, 26, 7]
abbrev dktX6_end_0 : List UInt8 := dkwX6_end_0 ++ dktX6_end_1
theorem dksX6_end_0 : cX6_end.data.toList.drop 0 = dktX6_end_0 := by decide +kernel
theorem dksX6_end_1 : cX6_end.data.toList.drop 24 = dktX6_end_1 := dk_seg dksX6_end_0 24 rfl rfl
theorem dX6_end_0 : decode cX6_end 0 = .ok (.iload_n 0, 1) := dk_26 (dk_at dksX6_end_0 0 rfl rfl)
theorem dX6_end_1 : decode cX6_end 1 = .ok (.invokestatic 85, 3) := dk_184 0 85 (dk_at dksX6_end_0 1 rfl rfl)
theorem dX6_end_4 : decode cX6_end 4 = .ok (.ifCond .eq 13, 3) := dk_153 0 13 (dk_at dksX6_end_0 4 rfl rfl)
theorem dX6_end_7 : decode cX6_end 7 = .ok (.bipush 100, 2) := dk_16 100 (dk_at dksX6_end_0 7 rfl rfl)
theorem dX6_end_9 : decode cX6_end 9 = .ok (.iload_n 0, 1) := dk_26 (dk_at dksX6_end_0 9 rfl rfl)
theorem dX6_end_10 : decode cX6_end 10 = .ok (.imul, 1) := dk_104 (dk_at dksX6_end_0 10 rfl rfl)
theorem dX6_end_11 : decode cX6_end 11 = .ok (.bipush 100, 2) := dk_16 100 (dk_at dksX6_end_0 11 rfl rfl)
theorem dX6_end_13 : decode cX6_end 13 = .ok (.iadd, 1) := dk_96 (dk_at dksX6_end_0 13 rfl rfl)
theorem dX6_end_14 : decode cX6_end 14 = .ok (.goto 13, 3) := dk_167 0 13 (dk_at dksX6_end_0 14 rfl rfl)
theorem dX6_end_17 : decode cX6_end 17 = .ok (.sipush 410, 3) := dk_17 1 154 (dk_at dksX6_end_0 17 rfl rfl)
theorem dX6_end_20 : decode cX6_end 20 = .ok (.bipush 10, 2) := dk_16 10 (dk_at dksX6_end_0 20 rfl rfl)
theorem dX6_end_22 : decode cX6_end 22 = .ok (.iload_n 0, 1) := dk_26 (dk_at dksX6_end_0 22 rfl rfl)
theorem dX6_end_23 : decode cX6_end 23 = .ok (.iconst 4, 1) := dk_7 (dk_at dksX6_end_0 23 rfl rfl)
theorem dX6_end_24 : decode cX6_end 24 = .ok (.isub, 1) := dk_100 (dk_at dksX6_end_1 0 rfl rfl)
theorem dX6_end_25 : decode cX6_end 25 = .ok (.imul, 1) := dk_104 (dk_at dksX6_end_1 1 rfl rfl)
theorem dX6_end_26 : decode cX6_end 26 = .ok (.iadd, 1) := dk_96 (dk_at dksX6_end_1 2 rfl rfl)
theorem dX6_end_27 : decode cX6_end 27 = .ok (.ireturn, 1) := dk_172 (dk_at dksX6_end_1 3 rfl rfl)
abbrev cX6_trueMany : ByteArray := prog_28_method_39_code
def yX6_trueMany : MethodName := ⟨RX6, "trueMany", "(II)I"⟩
def dkwX6_trueMany_1 : List UInt8 := [153, 0, 7, 4, 167, 0, 4, 3, 96, 62, 132, 4, 1, 167, 255, 229, 29, 172]
abbrev dktX6_trueMany_1 : List UInt8 := dkwX6_trueMany_1 ++ []
def dkwX6_trueMany_0 : List UInt8 := [42, 182, 0, 158, 3, 62, 27, 54, 4, 21, 4, 28, 162, 0, 27, 29, 42, 180, 0, 37, 21, 4, 51]
abbrev dktX6_trueMany_0 : List UInt8 := dkwX6_trueMany_0 ++ dktX6_trueMany_1
theorem dksX6_trueMany_0 : cX6_trueMany.data.toList.drop 0 = dktX6_trueMany_0 := by decide +kernel
theorem dksX6_trueMany_1 : cX6_trueMany.data.toList.drop 23 = dktX6_trueMany_1 := dk_seg dksX6_trueMany_0 23 rfl rfl
theorem dX6_trueMany_0 : decode cX6_trueMany 0 = .ok (.aload_n 0, 1) := dk_42 (dk_at dksX6_trueMany_0 0 rfl rfl)
theorem dX6_trueMany_1 : decode cX6_trueMany 1 = .ok (.invokevirtual 158, 3) := dk_182 0 158 (dk_at dksX6_trueMany_0 1 rfl rfl)
theorem dX6_trueMany_4 : decode cX6_trueMany 4 = .ok (.iconst 0, 1) := dk_3 (dk_at dksX6_trueMany_0 4 rfl rfl)
theorem dX6_trueMany_5 : decode cX6_trueMany 5 = .ok (.istore_n 3, 1) := dk_62 (dk_at dksX6_trueMany_0 5 rfl rfl)
theorem dX6_trueMany_6 : decode cX6_trueMany 6 = .ok (.iload_n 1, 1) := dk_27 (dk_at dksX6_trueMany_0 6 rfl rfl)
theorem dX6_trueMany_7 : decode cX6_trueMany 7 = .ok (.istore 4, 2) := dk_54 4 (dk_at dksX6_trueMany_0 7 rfl rfl)
theorem dX6_trueMany_9 : decode cX6_trueMany 9 = .ok (.iload 4, 2) := dk_21 4 (dk_at dksX6_trueMany_0 9 rfl rfl)
theorem dX6_trueMany_11 : decode cX6_trueMany 11 = .ok (.iload_n 2, 1) := dk_28 (dk_at dksX6_trueMany_0 11 rfl rfl)
theorem dX6_trueMany_12 : decode cX6_trueMany 12 = .ok (.if_icmp .ge 27, 3) := dk_162 0 27 (dk_at dksX6_trueMany_0 12 rfl rfl)
theorem dX6_trueMany_15 : decode cX6_trueMany 15 = .ok (.iload_n 3, 1) := dk_29 (dk_at dksX6_trueMany_0 15 rfl rfl)
theorem dX6_trueMany_16 : decode cX6_trueMany 16 = .ok (.aload_n 0, 1) := dk_42 (dk_at dksX6_trueMany_0 16 rfl rfl)
theorem dX6_trueMany_17 : decode cX6_trueMany 17 = .ok (.getfield 37, 3) := dk_180 0 37 (dk_at dksX6_trueMany_0 17 rfl rfl)
theorem dX6_trueMany_20 : decode cX6_trueMany 20 = .ok (.iload 4, 2) := dk_21 4 (dk_at dksX6_trueMany_0 20 rfl rfl)
theorem dX6_trueMany_22 : decode cX6_trueMany 22 = .ok (.baload, 1) := dk_51 (dk_at dksX6_trueMany_0 22 rfl rfl)
theorem dX6_trueMany_23 : decode cX6_trueMany 23 = .ok (.ifCond .eq 7, 3) := dk_153 0 7 (dk_at dksX6_trueMany_1 0 rfl rfl)
theorem dX6_trueMany_26 : decode cX6_trueMany 26 = .ok (.iconst 1, 1) := dk_4 (dk_at dksX6_trueMany_1 3 rfl rfl)
theorem dX6_trueMany_27 : decode cX6_trueMany 27 = .ok (.goto 4, 3) := dk_167 0 4 (dk_at dksX6_trueMany_1 4 rfl rfl)
theorem dX6_trueMany_30 : decode cX6_trueMany 30 = .ok (.iconst 0, 1) := dk_3 (dk_at dksX6_trueMany_1 7 rfl rfl)
theorem dX6_trueMany_31 : decode cX6_trueMany 31 = .ok (.iadd, 1) := dk_96 (dk_at dksX6_trueMany_1 8 rfl rfl)
theorem dX6_trueMany_32 : decode cX6_trueMany 32 = .ok (.istore_n 3, 1) := dk_62 (dk_at dksX6_trueMany_1 9 rfl rfl)
theorem dX6_trueMany_33 : decode cX6_trueMany 33 = .ok (.iinc 4 1, 3) := dk_132 4 1 (dk_at dksX6_trueMany_1 10 rfl rfl)
theorem dX6_trueMany_36 : decode cX6_trueMany 36 = .ok (.goto (-27), 3) := dk_167 255 229 (dk_at dksX6_trueMany_1 13 rfl rfl)
theorem dX6_trueMany_39 : decode cX6_trueMany 39 = .ok (.iload_n 3, 1) := dk_29 (dk_at dksX6_trueMany_1 16 rfl rfl)
theorem dX6_trueMany_40 : decode cX6_trueMany 40 = .ok (.ireturn, 1) := dk_172 (dk_at dksX6_trueMany_1 17 rfl rfl)
abbrev cX6_allTrue : ByteArray := prog_28_method_54_code
def yX6_allTrue : MethodName := ⟨RX6, "allTrue", "()I"⟩
def dkwX6_allTrue_0 : List UInt8 := [42, 3, 181, 0, 63, 42, 3, 17, 1, 184, 182, 0, 211, 172]
abbrev dktX6_allTrue_0 : List UInt8 := dkwX6_allTrue_0 ++ []
theorem dksX6_allTrue_0 : cX6_allTrue.data.toList.drop 0 = dktX6_allTrue_0 := by decide +kernel
theorem dX6_allTrue_0 : decode cX6_allTrue 0 = .ok (.aload_n 0, 1) := dk_42 (dk_at dksX6_allTrue_0 0 rfl rfl)
theorem dX6_allTrue_1 : decode cX6_allTrue 1 = .ok (.iconst 0, 1) := dk_3 (dk_at dksX6_allTrue_0 1 rfl rfl)
theorem dX6_allTrue_2 : decode cX6_allTrue 2 = .ok (.putfield 63, 3) := dk_181 0 63 (dk_at dksX6_allTrue_0 2 rfl rfl)
theorem dX6_allTrue_5 : decode cX6_allTrue 5 = .ok (.aload_n 0, 1) := dk_42 (dk_at dksX6_allTrue_0 5 rfl rfl)
theorem dX6_allTrue_6 : decode cX6_allTrue 6 = .ok (.iconst 0, 1) := dk_3 (dk_at dksX6_allTrue_0 6 rfl rfl)
theorem dX6_allTrue_7 : decode cX6_allTrue 7 = .ok (.sipush 440, 3) := dk_17 1 184 (dk_at dksX6_allTrue_0 7 rfl rfl)
theorem dX6_allTrue_10 : decode cX6_allTrue 10 = .ok (.invokevirtual 211, 3) := dk_182 0 211 (dk_at dksX6_allTrue_0 10 rfl rfl)
theorem dX6_allTrue_13 : decode cX6_allTrue 13 = .ok (.ireturn, 1) := dk_172 (dk_at dksX6_allTrue_0 13 rfl rfl)
abbrev cX6_gainedWithout : ByteArray := prog_28_method_55_code
def yX6_gainedWithout : MethodName := ⟨RX6, "gainedWithout", "(CII)I"⟩
def dkwX6_gainedWithout_2 : List UInt8 := [79, 21, 5, 172]
abbrev dktX6_gainedWithout_2 : List UInt8 := dkwX6_gainedWithout_2 ++ []
def dkwX6_gainedWithout_1 : List UInt8 := [54, 4, 42, 180, 0, 9, 21, 4, 3, 79, 42, 3, 182, 0, 192, 54, 5, 42, 180, 0, 9, 21, 4, 4]
abbrev dktX6_gainedWithout_1 : List UInt8 := dkwX6_gainedWithout_1 ++ dktX6_gainedWithout_2
def dkwX6_gainedWithout_0 : List UInt8 := [42, 27, 28, 29, 182, 0, 180, 153, 0, 5, 3, 172, 42, 182, 0, 183, 7, 27, 28, 29, 184, 0, 168, 96]
abbrev dktX6_gainedWithout_0 : List UInt8 := dkwX6_gainedWithout_0 ++ dktX6_gainedWithout_1
theorem dksX6_gainedWithout_0 : cX6_gainedWithout.data.toList.drop 0 = dktX6_gainedWithout_0 := by decide +kernel
theorem dksX6_gainedWithout_1 : cX6_gainedWithout.data.toList.drop 24 = dktX6_gainedWithout_1 := dk_seg dksX6_gainedWithout_0 24 rfl rfl
theorem dksX6_gainedWithout_2 : cX6_gainedWithout.data.toList.drop 48 = dktX6_gainedWithout_2 := dk_seg dksX6_gainedWithout_1 24 rfl rfl
theorem dX6_gainedWithout_0 : decode cX6_gainedWithout 0 = .ok (.aload_n 0, 1) := dk_42 (dk_at dksX6_gainedWithout_0 0 rfl rfl)
theorem dX6_gainedWithout_1 : decode cX6_gainedWithout 1 = .ok (.iload_n 1, 1) := dk_27 (dk_at dksX6_gainedWithout_0 1 rfl rfl)
theorem dX6_gainedWithout_2 : decode cX6_gainedWithout 2 = .ok (.iload_n 2, 1) := dk_28 (dk_at dksX6_gainedWithout_0 2 rfl rfl)
theorem dX6_gainedWithout_3 : decode cX6_gainedWithout 3 = .ok (.iload_n 3, 1) := dk_29 (dk_at dksX6_gainedWithout_0 3 rfl rfl)
theorem dX6_gainedWithout_4 : decode cX6_gainedWithout 4 = .ok (.invokevirtual 180, 3) := dk_182 0 180 (dk_at dksX6_gainedWithout_0 4 rfl rfl)
theorem dX6_gainedWithout_7 : decode cX6_gainedWithout 7 = .ok (.ifCond .eq 5, 3) := dk_153 0 5 (dk_at dksX6_gainedWithout_0 7 rfl rfl)
theorem dX6_gainedWithout_10 : decode cX6_gainedWithout 10 = .ok (.iconst 0, 1) := dk_3 (dk_at dksX6_gainedWithout_0 10 rfl rfl)
theorem dX6_gainedWithout_11 : decode cX6_gainedWithout 11 = .ok (.ireturn, 1) := dk_172 (dk_at dksX6_gainedWithout_0 11 rfl rfl)
theorem dX6_gainedWithout_12 : decode cX6_gainedWithout 12 = .ok (.aload_n 0, 1) := dk_42 (dk_at dksX6_gainedWithout_0 12 rfl rfl)
theorem dX6_gainedWithout_13 : decode cX6_gainedWithout 13 = .ok (.invokevirtual 183, 3) := dk_182 0 183 (dk_at dksX6_gainedWithout_0 13 rfl rfl)
theorem dX6_gainedWithout_16 : decode cX6_gainedWithout 16 = .ok (.iconst 4, 1) := dk_7 (dk_at dksX6_gainedWithout_0 16 rfl rfl)
theorem dX6_gainedWithout_17 : decode cX6_gainedWithout 17 = .ok (.iload_n 1, 1) := dk_27 (dk_at dksX6_gainedWithout_0 17 rfl rfl)
theorem dX6_gainedWithout_18 : decode cX6_gainedWithout 18 = .ok (.iload_n 2, 1) := dk_28 (dk_at dksX6_gainedWithout_0 18 rfl rfl)
theorem dX6_gainedWithout_19 : decode cX6_gainedWithout 19 = .ok (.iload_n 3, 1) := dk_29 (dk_at dksX6_gainedWithout_0 19 rfl rfl)
theorem dX6_gainedWithout_20 : decode cX6_gainedWithout 20 = .ok (.invokestatic 168, 3) := dk_184 0 168 (dk_at dksX6_gainedWithout_0 20 rfl rfl)
theorem dX6_gainedWithout_23 : decode cX6_gainedWithout 23 = .ok (.iadd, 1) := dk_96 (dk_at dksX6_gainedWithout_0 23 rfl rfl)
theorem dX6_gainedWithout_24 : decode cX6_gainedWithout 24 = .ok (.istore 4, 2) := dk_54 4 (dk_at dksX6_gainedWithout_1 0 rfl rfl)
theorem dX6_gainedWithout_26 : decode cX6_gainedWithout 26 = .ok (.aload_n 0, 1) := dk_42 (dk_at dksX6_gainedWithout_1 2 rfl rfl)
theorem dX6_gainedWithout_27 : decode cX6_gainedWithout 27 = .ok (.getfield 9, 3) := dk_180 0 9 (dk_at dksX6_gainedWithout_1 3 rfl rfl)
theorem dX6_gainedWithout_30 : decode cX6_gainedWithout 30 = .ok (.iload 4, 2) := dk_21 4 (dk_at dksX6_gainedWithout_1 6 rfl rfl)
theorem dX6_gainedWithout_32 : decode cX6_gainedWithout 32 = .ok (.iconst 0, 1) := dk_3 (dk_at dksX6_gainedWithout_1 8 rfl rfl)
theorem dX6_gainedWithout_33 : decode cX6_gainedWithout 33 = .ok (.iastore, 1) := dk_79 (dk_at dksX6_gainedWithout_1 9 rfl rfl)
theorem dX6_gainedWithout_34 : decode cX6_gainedWithout 34 = .ok (.aload_n 0, 1) := dk_42 (dk_at dksX6_gainedWithout_1 10 rfl rfl)
theorem dX6_gainedWithout_35 : decode cX6_gainedWithout 35 = .ok (.iconst 0, 1) := dk_3 (dk_at dksX6_gainedWithout_1 11 rfl rfl)
theorem dX6_gainedWithout_36 : decode cX6_gainedWithout 36 = .ok (.invokevirtual 192, 3) := dk_182 0 192 (dk_at dksX6_gainedWithout_1 12 rfl rfl)
theorem dX6_gainedWithout_39 : decode cX6_gainedWithout 39 = .ok (.istore 5, 2) := dk_54 5 (dk_at dksX6_gainedWithout_1 15 rfl rfl)
theorem dX6_gainedWithout_41 : decode cX6_gainedWithout 41 = .ok (.aload_n 0, 1) := dk_42 (dk_at dksX6_gainedWithout_1 17 rfl rfl)
theorem dX6_gainedWithout_42 : decode cX6_gainedWithout 42 = .ok (.getfield 9, 3) := dk_180 0 9 (dk_at dksX6_gainedWithout_1 18 rfl rfl)
theorem dX6_gainedWithout_45 : decode cX6_gainedWithout 45 = .ok (.iload 4, 2) := dk_21 4 (dk_at dksX6_gainedWithout_1 21 rfl rfl)
theorem dX6_gainedWithout_47 : decode cX6_gainedWithout 47 = .ok (.iconst 1, 1) := dk_4 (dk_at dksX6_gainedWithout_1 23 rfl rfl)
theorem dX6_gainedWithout_48 : decode cX6_gainedWithout 48 = .ok (.iastore, 1) := dk_79 (dk_at dksX6_gainedWithout_2 0 rfl rfl)
theorem dX6_gainedWithout_49 : decode cX6_gainedWithout 49 = .ok (.iload 5, 2) := dk_21 5 (dk_at dksX6_gainedWithout_2 1 rfl rfl)
theorem dX6_gainedWithout_51 : decode cX6_gainedWithout 51 = .ok (.ireturn, 1) := dk_172 (dk_at dksX6_gainedWithout_2 3 rfl rfl)
abbrev cX6_constantAtRank : ByteArray := prog_28_method_57_code
def yX6_constantAtRank : MethodName := ⟨RX6, "constantAtRank", "(CI)I"⟩
def dkwX6_constantAtRank_4 : List UInt8 := [167, 255, 198, 21, 4, 28, 160, 0, 5, 29, 172, 132, 3, 1, 167, 255, 172, 42, 5, 181, 0, 63, 3, 172]
abbrev dktX6_constantAtRank_4 : List UInt8 := dkwX6_constantAtRank_4 ++ []
def dkwX6_constantAtRank_3 : List UInt8 := [21, 6, 154, 0, 13, 21, 5, 29, 162, 0, 7, 4, 167, 0, 4, 3, 96, 54, 4, 132, 5, 1]
abbrev dktX6_constantAtRank_3 : List UInt8 := dkwX6_constantAtRank_3 ++ dktX6_constantAtRank_4
def dkwX6_constantAtRank_2 : List UInt8 := [21, 5, 182, 0, 214, 42, 27, 16, 97, 100, 29, 182, 0, 214, 100, 54, 6, 21, 4, 21, 6, 157, 0, 14]
abbrev dktX6_constantAtRank_2 : List UInt8 := dkwX6_constantAtRank_2 ++ dktX6_constantAtRank_3
def dkwX6_constantAtRank_1 : List UInt8 := [29, 16, 10, 162, 0, 84, 3, 54, 4, 3, 54, 5, 21, 5, 16, 10, 162, 0, 57, 42, 27, 16, 97, 100]
abbrev dktX6_constantAtRank_1 : List UInt8 := dkwX6_constantAtRank_1 ++ dktX6_constantAtRank_2
def dkwX6_constantAtRank_0 : List UInt8 := [42, 27, 184, 0, 81, 154, 0, 7, 4, 167, 0, 4, 3, 4, 182, 0, 164, 153, 0, 5, 3, 172, 3, 62]
abbrev dktX6_constantAtRank_0 : List UInt8 := dkwX6_constantAtRank_0 ++ dktX6_constantAtRank_1
theorem dksX6_constantAtRank_0 : cX6_constantAtRank.data.toList.drop 0 = dktX6_constantAtRank_0 := by decide +kernel
theorem dksX6_constantAtRank_1 : cX6_constantAtRank.data.toList.drop 24 = dktX6_constantAtRank_1 := dk_seg dksX6_constantAtRank_0 24 rfl rfl
theorem dksX6_constantAtRank_2 : cX6_constantAtRank.data.toList.drop 48 = dktX6_constantAtRank_2 := dk_seg dksX6_constantAtRank_1 24 rfl rfl
theorem dksX6_constantAtRank_3 : cX6_constantAtRank.data.toList.drop 72 = dktX6_constantAtRank_3 := dk_seg dksX6_constantAtRank_2 24 rfl rfl
theorem dksX6_constantAtRank_4 : cX6_constantAtRank.data.toList.drop 94 = dktX6_constantAtRank_4 := dk_seg dksX6_constantAtRank_3 22 rfl rfl
theorem dX6_constantAtRank_0 : decode cX6_constantAtRank 0 = .ok (.aload_n 0, 1) := dk_42 (dk_at dksX6_constantAtRank_0 0 rfl rfl)
theorem dX6_constantAtRank_1 : decode cX6_constantAtRank 1 = .ok (.iload_n 1, 1) := dk_27 (dk_at dksX6_constantAtRank_0 1 rfl rfl)
theorem dX6_constantAtRank_2 : decode cX6_constantAtRank 2 = .ok (.invokestatic 81, 3) := dk_184 0 81 (dk_at dksX6_constantAtRank_0 2 rfl rfl)
theorem dX6_constantAtRank_5 : decode cX6_constantAtRank 5 = .ok (.ifCond .ne 7, 3) := dk_154 0 7 (dk_at dksX6_constantAtRank_0 5 rfl rfl)
theorem dX6_constantAtRank_8 : decode cX6_constantAtRank 8 = .ok (.iconst 1, 1) := dk_4 (dk_at dksX6_constantAtRank_0 8 rfl rfl)
theorem dX6_constantAtRank_9 : decode cX6_constantAtRank 9 = .ok (.goto 4, 3) := dk_167 0 4 (dk_at dksX6_constantAtRank_0 9 rfl rfl)
theorem dX6_constantAtRank_12 : decode cX6_constantAtRank 12 = .ok (.iconst 0, 1) := dk_3 (dk_at dksX6_constantAtRank_0 12 rfl rfl)
theorem dX6_constantAtRank_13 : decode cX6_constantAtRank 13 = .ok (.iconst 1, 1) := dk_4 (dk_at dksX6_constantAtRank_0 13 rfl rfl)
theorem dX6_constantAtRank_14 : decode cX6_constantAtRank 14 = .ok (.invokevirtual 164, 3) := dk_182 0 164 (dk_at dksX6_constantAtRank_0 14 rfl rfl)
theorem dX6_constantAtRank_17 : decode cX6_constantAtRank 17 = .ok (.ifCond .eq 5, 3) := dk_153 0 5 (dk_at dksX6_constantAtRank_0 17 rfl rfl)
theorem dX6_constantAtRank_20 : decode cX6_constantAtRank 20 = .ok (.iconst 0, 1) := dk_3 (dk_at dksX6_constantAtRank_0 20 rfl rfl)
theorem dX6_constantAtRank_21 : decode cX6_constantAtRank 21 = .ok (.ireturn, 1) := dk_172 (dk_at dksX6_constantAtRank_0 21 rfl rfl)
theorem dX6_constantAtRank_22 : decode cX6_constantAtRank 22 = .ok (.iconst 0, 1) := dk_3 (dk_at dksX6_constantAtRank_0 22 rfl rfl)
theorem dX6_constantAtRank_23 : decode cX6_constantAtRank 23 = .ok (.istore_n 3, 1) := dk_62 (dk_at dksX6_constantAtRank_0 23 rfl rfl)
theorem dX6_constantAtRank_24 : decode cX6_constantAtRank 24 = .ok (.iload_n 3, 1) := dk_29 (dk_at dksX6_constantAtRank_1 0 rfl rfl)
theorem dX6_constantAtRank_25 : decode cX6_constantAtRank 25 = .ok (.bipush 10, 2) := dk_16 10 (dk_at dksX6_constantAtRank_1 1 rfl rfl)
theorem dX6_constantAtRank_27 : decode cX6_constantAtRank 27 = .ok (.if_icmp .ge 84, 3) := dk_162 0 84 (dk_at dksX6_constantAtRank_1 3 rfl rfl)
theorem dX6_constantAtRank_30 : decode cX6_constantAtRank 30 = .ok (.iconst 0, 1) := dk_3 (dk_at dksX6_constantAtRank_1 6 rfl rfl)
theorem dX6_constantAtRank_31 : decode cX6_constantAtRank 31 = .ok (.istore 4, 2) := dk_54 4 (dk_at dksX6_constantAtRank_1 7 rfl rfl)
theorem dX6_constantAtRank_33 : decode cX6_constantAtRank 33 = .ok (.iconst 0, 1) := dk_3 (dk_at dksX6_constantAtRank_1 9 rfl rfl)
theorem dX6_constantAtRank_34 : decode cX6_constantAtRank 34 = .ok (.istore 5, 2) := dk_54 5 (dk_at dksX6_constantAtRank_1 10 rfl rfl)
theorem dX6_constantAtRank_36 : decode cX6_constantAtRank 36 = .ok (.iload 5, 2) := dk_21 5 (dk_at dksX6_constantAtRank_1 12 rfl rfl)
theorem dX6_constantAtRank_38 : decode cX6_constantAtRank 38 = .ok (.bipush 10, 2) := dk_16 10 (dk_at dksX6_constantAtRank_1 14 rfl rfl)
theorem dX6_constantAtRank_40 : decode cX6_constantAtRank 40 = .ok (.if_icmp .ge 57, 3) := dk_162 0 57 (dk_at dksX6_constantAtRank_1 16 rfl rfl)
theorem dX6_constantAtRank_43 : decode cX6_constantAtRank 43 = .ok (.aload_n 0, 1) := dk_42 (dk_at dksX6_constantAtRank_1 19 rfl rfl)
theorem dX6_constantAtRank_44 : decode cX6_constantAtRank 44 = .ok (.iload_n 1, 1) := dk_27 (dk_at dksX6_constantAtRank_1 20 rfl rfl)
theorem dX6_constantAtRank_45 : decode cX6_constantAtRank 45 = .ok (.bipush 97, 2) := dk_16 97 (dk_at dksX6_constantAtRank_1 21 rfl rfl)
theorem dX6_constantAtRank_47 : decode cX6_constantAtRank 47 = .ok (.isub, 1) := dk_100 (dk_at dksX6_constantAtRank_1 23 rfl rfl)
theorem dX6_constantAtRank_48 : decode cX6_constantAtRank 48 = .ok (.iload 5, 2) := dk_21 5 (dk_at dksX6_constantAtRank_2 0 rfl rfl)
theorem dX6_constantAtRank_50 : decode cX6_constantAtRank 50 = .ok (.invokevirtual 214, 3) := dk_182 0 214 (dk_at dksX6_constantAtRank_2 2 rfl rfl)
theorem dX6_constantAtRank_53 : decode cX6_constantAtRank 53 = .ok (.aload_n 0, 1) := dk_42 (dk_at dksX6_constantAtRank_2 5 rfl rfl)
theorem dX6_constantAtRank_54 : decode cX6_constantAtRank 54 = .ok (.iload_n 1, 1) := dk_27 (dk_at dksX6_constantAtRank_2 6 rfl rfl)
theorem dX6_constantAtRank_55 : decode cX6_constantAtRank 55 = .ok (.bipush 97, 2) := dk_16 97 (dk_at dksX6_constantAtRank_2 7 rfl rfl)
theorem dX6_constantAtRank_57 : decode cX6_constantAtRank 57 = .ok (.isub, 1) := dk_100 (dk_at dksX6_constantAtRank_2 9 rfl rfl)
theorem dX6_constantAtRank_58 : decode cX6_constantAtRank 58 = .ok (.iload_n 3, 1) := dk_29 (dk_at dksX6_constantAtRank_2 10 rfl rfl)
theorem dX6_constantAtRank_59 : decode cX6_constantAtRank 59 = .ok (.invokevirtual 214, 3) := dk_182 0 214 (dk_at dksX6_constantAtRank_2 11 rfl rfl)
theorem dX6_constantAtRank_62 : decode cX6_constantAtRank 62 = .ok (.isub, 1) := dk_100 (dk_at dksX6_constantAtRank_2 14 rfl rfl)
theorem dX6_constantAtRank_63 : decode cX6_constantAtRank 63 = .ok (.istore 6, 2) := dk_54 6 (dk_at dksX6_constantAtRank_2 15 rfl rfl)
theorem dX6_constantAtRank_65 : decode cX6_constantAtRank 65 = .ok (.iload 4, 2) := dk_21 4 (dk_at dksX6_constantAtRank_2 17 rfl rfl)
theorem dX6_constantAtRank_67 : decode cX6_constantAtRank 67 = .ok (.iload 6, 2) := dk_21 6 (dk_at dksX6_constantAtRank_2 19 rfl rfl)
theorem dX6_constantAtRank_69 : decode cX6_constantAtRank 69 = .ok (.ifCond .gt 14, 3) := dk_157 0 14 (dk_at dksX6_constantAtRank_2 21 rfl rfl)
theorem dX6_constantAtRank_72 : decode cX6_constantAtRank 72 = .ok (.iload 6, 2) := dk_21 6 (dk_at dksX6_constantAtRank_3 0 rfl rfl)
theorem dX6_constantAtRank_74 : decode cX6_constantAtRank 74 = .ok (.ifCond .ne 13, 3) := dk_154 0 13 (dk_at dksX6_constantAtRank_3 2 rfl rfl)
theorem dX6_constantAtRank_77 : decode cX6_constantAtRank 77 = .ok (.iload 5, 2) := dk_21 5 (dk_at dksX6_constantAtRank_3 5 rfl rfl)
theorem dX6_constantAtRank_79 : decode cX6_constantAtRank 79 = .ok (.iload_n 3, 1) := dk_29 (dk_at dksX6_constantAtRank_3 7 rfl rfl)
theorem dX6_constantAtRank_80 : decode cX6_constantAtRank 80 = .ok (.if_icmp .ge 7, 3) := dk_162 0 7 (dk_at dksX6_constantAtRank_3 8 rfl rfl)
theorem dX6_constantAtRank_83 : decode cX6_constantAtRank 83 = .ok (.iconst 1, 1) := dk_4 (dk_at dksX6_constantAtRank_3 11 rfl rfl)
theorem dX6_constantAtRank_84 : decode cX6_constantAtRank 84 = .ok (.goto 4, 3) := dk_167 0 4 (dk_at dksX6_constantAtRank_3 12 rfl rfl)
theorem dX6_constantAtRank_87 : decode cX6_constantAtRank 87 = .ok (.iconst 0, 1) := dk_3 (dk_at dksX6_constantAtRank_3 15 rfl rfl)
theorem dX6_constantAtRank_88 : decode cX6_constantAtRank 88 = .ok (.iadd, 1) := dk_96 (dk_at dksX6_constantAtRank_3 16 rfl rfl)
theorem dX6_constantAtRank_89 : decode cX6_constantAtRank 89 = .ok (.istore 4, 2) := dk_54 4 (dk_at dksX6_constantAtRank_3 17 rfl rfl)
theorem dX6_constantAtRank_91 : decode cX6_constantAtRank 91 = .ok (.iinc 5 1, 3) := dk_132 5 1 (dk_at dksX6_constantAtRank_3 19 rfl rfl)
theorem dX6_constantAtRank_94 : decode cX6_constantAtRank 94 = .ok (.goto (-58), 3) := dk_167 255 198 (dk_at dksX6_constantAtRank_4 0 rfl rfl)
theorem dX6_constantAtRank_97 : decode cX6_constantAtRank 97 = .ok (.iload 4, 2) := dk_21 4 (dk_at dksX6_constantAtRank_4 3 rfl rfl)
theorem dX6_constantAtRank_99 : decode cX6_constantAtRank 99 = .ok (.iload_n 2, 1) := dk_28 (dk_at dksX6_constantAtRank_4 5 rfl rfl)
theorem dX6_constantAtRank_100 : decode cX6_constantAtRank 100 = .ok (.if_icmp .ne 5, 3) := dk_160 0 5 (dk_at dksX6_constantAtRank_4 6 rfl rfl)
theorem dX6_constantAtRank_103 : decode cX6_constantAtRank 103 = .ok (.iload_n 3, 1) := dk_29 (dk_at dksX6_constantAtRank_4 9 rfl rfl)
theorem dX6_constantAtRank_104 : decode cX6_constantAtRank 104 = .ok (.ireturn, 1) := dk_172 (dk_at dksX6_constantAtRank_4 10 rfl rfl)
theorem dX6_constantAtRank_105 : decode cX6_constantAtRank 105 = .ok (.iinc 3 1, 3) := dk_132 3 1 (dk_at dksX6_constantAtRank_4 11 rfl rfl)
theorem dX6_constantAtRank_108 : decode cX6_constantAtRank 108 = .ok (.goto (-84), 3) := dk_167 255 172 (dk_at dksX6_constantAtRank_4 14 rfl rfl)
theorem dX6_constantAtRank_111 : decode cX6_constantAtRank 111 = .ok (.aload_n 0, 1) := dk_42 (dk_at dksX6_constantAtRank_4 17 rfl rfl)
theorem dX6_constantAtRank_112 : decode cX6_constantAtRank 112 = .ok (.iconst 2, 1) := dk_5 (dk_at dksX6_constantAtRank_4 18 rfl rfl)
theorem dX6_constantAtRank_113 : decode cX6_constantAtRank 113 = .ok (.putfield 63, 3) := dk_181 0 63 (dk_at dksX6_constantAtRank_4 19 rfl rfl)
theorem dX6_constantAtRank_116 : decode cX6_constantAtRank 116 = .ok (.iconst 0, 1) := dk_3 (dk_at dksX6_constantAtRank_4 22 rfl rfl)
theorem dX6_constantAtRank_117 : decode cX6_constantAtRank 117 = .ok (.ireturn, 1) := dk_172 (dk_at dksX6_constantAtRank_4 23 rfl rfl)
abbrev cX6_trueWith : ByteArray := prog_28_method_56_code
def yX6_trueWith : MethodName := ⟨RX6, "trueWith", "(II)I"⟩
def dkwX6_trueWith_2 : List UInt8 := [4, 96, 182, 0, 211, 172]
abbrev dktX6_trueWith_2 : List UInt8 := dkwX6_trueWith_2 ++ []
def dkwX6_trueWith_1 : List UInt8 := [104, 96, 16, 10, 96, 182, 0, 211, 167, 0, 21, 42, 27, 28, 2, 184, 0, 88, 27, 28, 2, 184, 0, 88]
abbrev dktX6_trueWith_1 : List UInt8 := dkwX6_trueWith_1 ++ dktX6_trueWith_2
def dkwX6_trueWith_0 : List UInt8 := [27, 184, 0, 85, 153, 0, 31, 42, 16, 100, 27, 104, 16, 10, 28, 104, 96, 16, 100, 27, 104, 16, 10, 28]
abbrev dktX6_trueWith_0 : List UInt8 := dkwX6_trueWith_0 ++ dktX6_trueWith_1
theorem dksX6_trueWith_0 : cX6_trueWith.data.toList.drop 0 = dktX6_trueWith_0 := by decide +kernel
theorem dksX6_trueWith_1 : cX6_trueWith.data.toList.drop 24 = dktX6_trueWith_1 := dk_seg dksX6_trueWith_0 24 rfl rfl
theorem dksX6_trueWith_2 : cX6_trueWith.data.toList.drop 48 = dktX6_trueWith_2 := dk_seg dksX6_trueWith_1 24 rfl rfl
theorem dX6_trueWith_0 : decode cX6_trueWith 0 = .ok (.iload_n 1, 1) := dk_27 (dk_at dksX6_trueWith_0 0 rfl rfl)
theorem dX6_trueWith_1 : decode cX6_trueWith 1 = .ok (.invokestatic 85, 3) := dk_184 0 85 (dk_at dksX6_trueWith_0 1 rfl rfl)
theorem dX6_trueWith_4 : decode cX6_trueWith 4 = .ok (.ifCond .eq 31, 3) := dk_153 0 31 (dk_at dksX6_trueWith_0 4 rfl rfl)
theorem dX6_trueWith_7 : decode cX6_trueWith 7 = .ok (.aload_n 0, 1) := dk_42 (dk_at dksX6_trueWith_0 7 rfl rfl)
theorem dX6_trueWith_8 : decode cX6_trueWith 8 = .ok (.bipush 100, 2) := dk_16 100 (dk_at dksX6_trueWith_0 8 rfl rfl)
theorem dX6_trueWith_10 : decode cX6_trueWith 10 = .ok (.iload_n 1, 1) := dk_27 (dk_at dksX6_trueWith_0 10 rfl rfl)
theorem dX6_trueWith_11 : decode cX6_trueWith 11 = .ok (.imul, 1) := dk_104 (dk_at dksX6_trueWith_0 11 rfl rfl)
theorem dX6_trueWith_12 : decode cX6_trueWith 12 = .ok (.bipush 10, 2) := dk_16 10 (dk_at dksX6_trueWith_0 12 rfl rfl)
theorem dX6_trueWith_14 : decode cX6_trueWith 14 = .ok (.iload_n 2, 1) := dk_28 (dk_at dksX6_trueWith_0 14 rfl rfl)
theorem dX6_trueWith_15 : decode cX6_trueWith 15 = .ok (.imul, 1) := dk_104 (dk_at dksX6_trueWith_0 15 rfl rfl)
theorem dX6_trueWith_16 : decode cX6_trueWith 16 = .ok (.iadd, 1) := dk_96 (dk_at dksX6_trueWith_0 16 rfl rfl)
theorem dX6_trueWith_17 : decode cX6_trueWith 17 = .ok (.bipush 100, 2) := dk_16 100 (dk_at dksX6_trueWith_0 17 rfl rfl)
theorem dX6_trueWith_19 : decode cX6_trueWith 19 = .ok (.iload_n 1, 1) := dk_27 (dk_at dksX6_trueWith_0 19 rfl rfl)
theorem dX6_trueWith_20 : decode cX6_trueWith 20 = .ok (.imul, 1) := dk_104 (dk_at dksX6_trueWith_0 20 rfl rfl)
theorem dX6_trueWith_21 : decode cX6_trueWith 21 = .ok (.bipush 10, 2) := dk_16 10 (dk_at dksX6_trueWith_0 21 rfl rfl)
theorem dX6_trueWith_23 : decode cX6_trueWith 23 = .ok (.iload_n 2, 1) := dk_28 (dk_at dksX6_trueWith_0 23 rfl rfl)
theorem dX6_trueWith_24 : decode cX6_trueWith 24 = .ok (.imul, 1) := dk_104 (dk_at dksX6_trueWith_1 0 rfl rfl)
theorem dX6_trueWith_25 : decode cX6_trueWith 25 = .ok (.iadd, 1) := dk_96 (dk_at dksX6_trueWith_1 1 rfl rfl)
theorem dX6_trueWith_26 : decode cX6_trueWith 26 = .ok (.bipush 10, 2) := dk_16 10 (dk_at dksX6_trueWith_1 2 rfl rfl)
theorem dX6_trueWith_28 : decode cX6_trueWith 28 = .ok (.iadd, 1) := dk_96 (dk_at dksX6_trueWith_1 4 rfl rfl)
theorem dX6_trueWith_29 : decode cX6_trueWith 29 = .ok (.invokevirtual 211, 3) := dk_182 0 211 (dk_at dksX6_trueWith_1 5 rfl rfl)
theorem dX6_trueWith_32 : decode cX6_trueWith 32 = .ok (.goto 21, 3) := dk_167 0 21 (dk_at dksX6_trueWith_1 8 rfl rfl)
theorem dX6_trueWith_35 : decode cX6_trueWith 35 = .ok (.aload_n 0, 1) := dk_42 (dk_at dksX6_trueWith_1 11 rfl rfl)
theorem dX6_trueWith_36 : decode cX6_trueWith 36 = .ok (.iload_n 1, 1) := dk_27 (dk_at dksX6_trueWith_1 12 rfl rfl)
theorem dX6_trueWith_37 : decode cX6_trueWith 37 = .ok (.iload_n 2, 1) := dk_28 (dk_at dksX6_trueWith_1 13 rfl rfl)
theorem dX6_trueWith_38 : decode cX6_trueWith 38 = .ok (.iconst (-1), 1) := dk_2 (dk_at dksX6_trueWith_1 14 rfl rfl)
theorem dX6_trueWith_39 : decode cX6_trueWith 39 = .ok (.invokestatic 88, 3) := dk_184 0 88 (dk_at dksX6_trueWith_1 15 rfl rfl)
theorem dX6_trueWith_42 : decode cX6_trueWith 42 = .ok (.iload_n 1, 1) := dk_27 (dk_at dksX6_trueWith_1 18 rfl rfl)
theorem dX6_trueWith_43 : decode cX6_trueWith 43 = .ok (.iload_n 2, 1) := dk_28 (dk_at dksX6_trueWith_1 19 rfl rfl)
theorem dX6_trueWith_44 : decode cX6_trueWith 44 = .ok (.iconst (-1), 1) := dk_2 (dk_at dksX6_trueWith_1 20 rfl rfl)
theorem dX6_trueWith_45 : decode cX6_trueWith 45 = .ok (.invokestatic 88, 3) := dk_184 0 88 (dk_at dksX6_trueWith_1 21 rfl rfl)
theorem dX6_trueWith_48 : decode cX6_trueWith 48 = .ok (.iconst 1, 1) := dk_4 (dk_at dksX6_trueWith_2 0 rfl rfl)
theorem dX6_trueWith_49 : decode cX6_trueWith 49 = .ok (.iadd, 1) := dk_96 (dk_at dksX6_trueWith_2 1 rfl rfl)
theorem dX6_trueWith_50 : decode cX6_trueWith 50 = .ok (.invokevirtual 211, 3) := dk_182 0 211 (dk_at dksX6_trueWith_2 2 rfl rfl)
theorem dX6_trueWith_53 : decode cX6_trueWith 53 = .ok (.ireturn, 1) := dk_172 (dk_at dksX6_trueWith_2 5 rfl rfl)
abbrev cX6_greatest : ByteArray := prog_28_method_58_code
def yX6_greatest : MethodName := ⟨RX6, "greatest", "(C)I"⟩
def dkwX6_greatest_4 : List UInt8 := [167, 255, 216, 28, 172]
abbrev dktX6_greatest_4 : List UInt8 := dkwX6_greatest_4 ++ []
def dkwX6_greatest_3 : List UInt8 := [153, 0, 18, 29, 16, 10, 112, 28, 164, 0, 10, 29, 16, 10, 112, 167, 0, 4, 28, 61, 132, 3, 1]
abbrev dktX6_greatest_3 : List UInt8 := dkwX6_greatest_3 ++ dktX6_greatest_4
def dkwX6_greatest_2 : List UInt8 := [16, 97, 100, 184, 0, 205, 62, 29, 27, 16, 97, 100, 184, 0, 208, 162, 0, 35, 42, 180, 0, 37, 29, 51]
abbrev dktX6_greatest_2 : List UInt8 := dkwX6_greatest_2 ++ dktX6_greatest_3
def dkwX6_greatest_1 : List UInt8 := [182, 0, 217, 154, 0, 7, 4, 167, 0, 4, 3, 5, 182, 0, 164, 153, 0, 5, 3, 172, 3, 61, 27]
abbrev dktX6_greatest_1 : List UInt8 := dkwX6_greatest_1 ++ dktX6_greatest_2
def dkwX6_greatest_0 : List UInt8 := [42, 27, 184, 0, 81, 154, 0, 7, 4, 167, 0, 4, 3, 4, 182, 0, 164, 154, 0, 24, 42, 42, 27]
abbrev dktX6_greatest_0 : List UInt8 := dkwX6_greatest_0 ++ dktX6_greatest_1
theorem dksX6_greatest_0 : cX6_greatest.data.toList.drop 0 = dktX6_greatest_0 := by decide +kernel
theorem dksX6_greatest_1 : cX6_greatest.data.toList.drop 23 = dktX6_greatest_1 := dk_seg dksX6_greatest_0 23 rfl rfl
theorem dksX6_greatest_2 : cX6_greatest.data.toList.drop 46 = dktX6_greatest_2 := dk_seg dksX6_greatest_1 23 rfl rfl
theorem dksX6_greatest_3 : cX6_greatest.data.toList.drop 70 = dktX6_greatest_3 := dk_seg dksX6_greatest_2 24 rfl rfl
theorem dksX6_greatest_4 : cX6_greatest.data.toList.drop 93 = dktX6_greatest_4 := dk_seg dksX6_greatest_3 23 rfl rfl
theorem dX6_greatest_0 : decode cX6_greatest 0 = .ok (.aload_n 0, 1) := dk_42 (dk_at dksX6_greatest_0 0 rfl rfl)
theorem dX6_greatest_1 : decode cX6_greatest 1 = .ok (.iload_n 1, 1) := dk_27 (dk_at dksX6_greatest_0 1 rfl rfl)
theorem dX6_greatest_2 : decode cX6_greatest 2 = .ok (.invokestatic 81, 3) := dk_184 0 81 (dk_at dksX6_greatest_0 2 rfl rfl)
theorem dX6_greatest_5 : decode cX6_greatest 5 = .ok (.ifCond .ne 7, 3) := dk_154 0 7 (dk_at dksX6_greatest_0 5 rfl rfl)
theorem dX6_greatest_8 : decode cX6_greatest 8 = .ok (.iconst 1, 1) := dk_4 (dk_at dksX6_greatest_0 8 rfl rfl)
theorem dX6_greatest_9 : decode cX6_greatest 9 = .ok (.goto 4, 3) := dk_167 0 4 (dk_at dksX6_greatest_0 9 rfl rfl)
theorem dX6_greatest_12 : decode cX6_greatest 12 = .ok (.iconst 0, 1) := dk_3 (dk_at dksX6_greatest_0 12 rfl rfl)
theorem dX6_greatest_13 : decode cX6_greatest 13 = .ok (.iconst 1, 1) := dk_4 (dk_at dksX6_greatest_0 13 rfl rfl)
theorem dX6_greatest_14 : decode cX6_greatest 14 = .ok (.invokevirtual 164, 3) := dk_182 0 164 (dk_at dksX6_greatest_0 14 rfl rfl)
theorem dX6_greatest_17 : decode cX6_greatest 17 = .ok (.ifCond .ne 24, 3) := dk_154 0 24 (dk_at dksX6_greatest_0 17 rfl rfl)
theorem dX6_greatest_20 : decode cX6_greatest 20 = .ok (.aload_n 0, 1) := dk_42 (dk_at dksX6_greatest_0 20 rfl rfl)
theorem dX6_greatest_21 : decode cX6_greatest 21 = .ok (.aload_n 0, 1) := dk_42 (dk_at dksX6_greatest_0 21 rfl rfl)
theorem dX6_greatest_22 : decode cX6_greatest 22 = .ok (.iload_n 1, 1) := dk_27 (dk_at dksX6_greatest_0 22 rfl rfl)
theorem dX6_greatest_23 : decode cX6_greatest 23 = .ok (.invokevirtual 217, 3) := dk_182 0 217 (dk_at dksX6_greatest_1 0 rfl rfl)
theorem dX6_greatest_26 : decode cX6_greatest 26 = .ok (.ifCond .ne 7, 3) := dk_154 0 7 (dk_at dksX6_greatest_1 3 rfl rfl)
theorem dX6_greatest_29 : decode cX6_greatest 29 = .ok (.iconst 1, 1) := dk_4 (dk_at dksX6_greatest_1 6 rfl rfl)
theorem dX6_greatest_30 : decode cX6_greatest 30 = .ok (.goto 4, 3) := dk_167 0 4 (dk_at dksX6_greatest_1 7 rfl rfl)
theorem dX6_greatest_33 : decode cX6_greatest 33 = .ok (.iconst 0, 1) := dk_3 (dk_at dksX6_greatest_1 10 rfl rfl)
theorem dX6_greatest_34 : decode cX6_greatest 34 = .ok (.iconst 2, 1) := dk_5 (dk_at dksX6_greatest_1 11 rfl rfl)
theorem dX6_greatest_35 : decode cX6_greatest 35 = .ok (.invokevirtual 164, 3) := dk_182 0 164 (dk_at dksX6_greatest_1 12 rfl rfl)
theorem dX6_greatest_38 : decode cX6_greatest 38 = .ok (.ifCond .eq 5, 3) := dk_153 0 5 (dk_at dksX6_greatest_1 15 rfl rfl)
theorem dX6_greatest_41 : decode cX6_greatest 41 = .ok (.iconst 0, 1) := dk_3 (dk_at dksX6_greatest_1 18 rfl rfl)
theorem dX6_greatest_42 : decode cX6_greatest 42 = .ok (.ireturn, 1) := dk_172 (dk_at dksX6_greatest_1 19 rfl rfl)
theorem dX6_greatest_43 : decode cX6_greatest 43 = .ok (.iconst 0, 1) := dk_3 (dk_at dksX6_greatest_1 20 rfl rfl)
theorem dX6_greatest_44 : decode cX6_greatest 44 = .ok (.istore_n 2, 1) := dk_61 (dk_at dksX6_greatest_1 21 rfl rfl)
theorem dX6_greatest_45 : decode cX6_greatest 45 = .ok (.iload_n 1, 1) := dk_27 (dk_at dksX6_greatest_1 22 rfl rfl)
theorem dX6_greatest_46 : decode cX6_greatest 46 = .ok (.bipush 97, 2) := dk_16 97 (dk_at dksX6_greatest_2 0 rfl rfl)
theorem dX6_greatest_48 : decode cX6_greatest 48 = .ok (.isub, 1) := dk_100 (dk_at dksX6_greatest_2 2 rfl rfl)
theorem dX6_greatest_49 : decode cX6_greatest 49 = .ok (.invokestatic 205, 3) := dk_184 0 205 (dk_at dksX6_greatest_2 3 rfl rfl)
theorem dX6_greatest_52 : decode cX6_greatest 52 = .ok (.istore_n 3, 1) := dk_62 (dk_at dksX6_greatest_2 6 rfl rfl)
theorem dX6_greatest_53 : decode cX6_greatest 53 = .ok (.iload_n 3, 1) := dk_29 (dk_at dksX6_greatest_2 7 rfl rfl)
theorem dX6_greatest_54 : decode cX6_greatest 54 = .ok (.iload_n 1, 1) := dk_27 (dk_at dksX6_greatest_2 8 rfl rfl)
theorem dX6_greatest_55 : decode cX6_greatest 55 = .ok (.bipush 97, 2) := dk_16 97 (dk_at dksX6_greatest_2 9 rfl rfl)
theorem dX6_greatest_57 : decode cX6_greatest 57 = .ok (.isub, 1) := dk_100 (dk_at dksX6_greatest_2 11 rfl rfl)
theorem dX6_greatest_58 : decode cX6_greatest 58 = .ok (.invokestatic 208, 3) := dk_184 0 208 (dk_at dksX6_greatest_2 12 rfl rfl)
theorem dX6_greatest_61 : decode cX6_greatest 61 = .ok (.if_icmp .ge 35, 3) := dk_162 0 35 (dk_at dksX6_greatest_2 15 rfl rfl)
theorem dX6_greatest_64 : decode cX6_greatest 64 = .ok (.aload_n 0, 1) := dk_42 (dk_at dksX6_greatest_2 18 rfl rfl)
theorem dX6_greatest_65 : decode cX6_greatest 65 = .ok (.getfield 37, 3) := dk_180 0 37 (dk_at dksX6_greatest_2 19 rfl rfl)
theorem dX6_greatest_68 : decode cX6_greatest 68 = .ok (.iload_n 3, 1) := dk_29 (dk_at dksX6_greatest_2 22 rfl rfl)
theorem dX6_greatest_69 : decode cX6_greatest 69 = .ok (.baload, 1) := dk_51 (dk_at dksX6_greatest_2 23 rfl rfl)
theorem dX6_greatest_70 : decode cX6_greatest 70 = .ok (.ifCond .eq 18, 3) := dk_153 0 18 (dk_at dksX6_greatest_3 0 rfl rfl)
theorem dX6_greatest_73 : decode cX6_greatest 73 = .ok (.iload_n 3, 1) := dk_29 (dk_at dksX6_greatest_3 3 rfl rfl)
theorem dX6_greatest_74 : decode cX6_greatest 74 = .ok (.bipush 10, 2) := dk_16 10 (dk_at dksX6_greatest_3 4 rfl rfl)
theorem dX6_greatest_76 : decode cX6_greatest 76 = .ok (.irem, 1) := dk_112 (dk_at dksX6_greatest_3 6 rfl rfl)
theorem dX6_greatest_77 : decode cX6_greatest 77 = .ok (.iload_n 2, 1) := dk_28 (dk_at dksX6_greatest_3 7 rfl rfl)
theorem dX6_greatest_78 : decode cX6_greatest 78 = .ok (.if_icmp .le 10, 3) := dk_164 0 10 (dk_at dksX6_greatest_3 8 rfl rfl)
theorem dX6_greatest_81 : decode cX6_greatest 81 = .ok (.iload_n 3, 1) := dk_29 (dk_at dksX6_greatest_3 11 rfl rfl)
theorem dX6_greatest_82 : decode cX6_greatest 82 = .ok (.bipush 10, 2) := dk_16 10 (dk_at dksX6_greatest_3 12 rfl rfl)
theorem dX6_greatest_84 : decode cX6_greatest 84 = .ok (.irem, 1) := dk_112 (dk_at dksX6_greatest_3 14 rfl rfl)
theorem dX6_greatest_85 : decode cX6_greatest 85 = .ok (.goto 4, 3) := dk_167 0 4 (dk_at dksX6_greatest_3 15 rfl rfl)
theorem dX6_greatest_88 : decode cX6_greatest 88 = .ok (.iload_n 2, 1) := dk_28 (dk_at dksX6_greatest_3 18 rfl rfl)
theorem dX6_greatest_89 : decode cX6_greatest 89 = .ok (.istore_n 2, 1) := dk_61 (dk_at dksX6_greatest_3 19 rfl rfl)
theorem dX6_greatest_90 : decode cX6_greatest 90 = .ok (.iinc 3 1, 3) := dk_132 3 1 (dk_at dksX6_greatest_3 20 rfl rfl)
theorem dX6_greatest_93 : decode cX6_greatest 93 = .ok (.goto (-40), 3) := dk_167 255 216 (dk_at dksX6_greatest_4 0 rfl rfl)
theorem dX6_greatest_96 : decode cX6_greatest 96 = .ok (.iload_n 2, 1) := dk_28 (dk_at dksX6_greatest_4 3 rfl rfl)
theorem dX6_greatest_97 : decode cX6_greatest 97 = .ok (.ireturn, 1) := dk_172 (dk_at dksX6_greatest_4 4 rfl rfl)
abbrev cX6_height : ByteArray := prog_28_method_60_code
def yX6_height : MethodName := ⟨RX6, "height", "(CII)I"⟩
def dkwX6_height_1 : List UInt8 := [46, 172]
abbrev dktX6_height_1 : List UInt8 := dkwX6_height_1 ++ []
def dkwX6_height_0 : List UInt8 := [42, 27, 28, 29, 182, 0, 221, 153, 0, 7, 3, 167, 0, 14, 42, 180, 0, 22, 27, 28, 29, 184, 0, 168]
abbrev dktX6_height_0 : List UInt8 := dkwX6_height_0 ++ dktX6_height_1
theorem dksX6_height_0 : cX6_height.data.toList.drop 0 = dktX6_height_0 := by decide +kernel
theorem dksX6_height_1 : cX6_height.data.toList.drop 24 = dktX6_height_1 := dk_seg dksX6_height_0 24 rfl rfl
theorem dX6_height_0 : decode cX6_height 0 = .ok (.aload_n 0, 1) := dk_42 (dk_at dksX6_height_0 0 rfl rfl)
theorem dX6_height_1 : decode cX6_height 1 = .ok (.iload_n 1, 1) := dk_27 (dk_at dksX6_height_0 1 rfl rfl)
theorem dX6_height_2 : decode cX6_height 2 = .ok (.iload_n 2, 1) := dk_28 (dk_at dksX6_height_0 2 rfl rfl)
theorem dX6_height_3 : decode cX6_height 3 = .ok (.iload_n 3, 1) := dk_29 (dk_at dksX6_height_0 3 rfl rfl)
theorem dX6_height_4 : decode cX6_height 4 = .ok (.invokevirtual 221, 3) := dk_182 0 221 (dk_at dksX6_height_0 4 rfl rfl)
theorem dX6_height_7 : decode cX6_height 7 = .ok (.ifCond .eq 7, 3) := dk_153 0 7 (dk_at dksX6_height_0 7 rfl rfl)
theorem dX6_height_10 : decode cX6_height 10 = .ok (.iconst 0, 1) := dk_3 (dk_at dksX6_height_0 10 rfl rfl)
theorem dX6_height_11 : decode cX6_height 11 = .ok (.goto 14, 3) := dk_167 0 14 (dk_at dksX6_height_0 11 rfl rfl)
theorem dX6_height_14 : decode cX6_height 14 = .ok (.aload_n 0, 1) := dk_42 (dk_at dksX6_height_0 14 rfl rfl)
theorem dX6_height_15 : decode cX6_height 15 = .ok (.getfield 22, 3) := dk_180 0 22 (dk_at dksX6_height_0 15 rfl rfl)
theorem dX6_height_18 : decode cX6_height 18 = .ok (.iload_n 1, 1) := dk_27 (dk_at dksX6_height_0 18 rfl rfl)
theorem dX6_height_19 : decode cX6_height 19 = .ok (.iload_n 2, 1) := dk_28 (dk_at dksX6_height_0 19 rfl rfl)
theorem dX6_height_20 : decode cX6_height 20 = .ok (.iload_n 3, 1) := dk_29 (dk_at dksX6_height_0 20 rfl rfl)
theorem dX6_height_21 : decode cX6_height 21 = .ok (.invokestatic 168, 3) := dk_184 0 168 (dk_at dksX6_height_0 21 rfl rfl)
theorem dX6_height_24 : decode cX6_height 24 = .ok (.iaload, 1) := dk_46 (dk_at dksX6_height_1 0 rfl rfl)
theorem dX6_height_25 : decode cX6_height 25 = .ok (.ireturn, 1) := dk_172 (dk_at dksX6_height_1 1 rfl rfl)
abbrev cX6_isNotTrue : ByteArray := prog_28_method_59_code
def yX6_isNotTrue : MethodName := ⟨RX6, "isNotTrue", "(III)Z"⟩
def dkwX6_isNotTrue_2 : List UInt8 := [5, 182, 0, 164, 172]
abbrev dktX6_isNotTrue_2 : List UInt8 := dkwX6_isNotTrue_2 ++ []
def dkwX6_isNotTrue_1 : List UInt8 := [42, 182, 0, 158, 42, 42, 180, 0, 37, 27, 28, 29, 184, 0, 168, 51, 154, 0, 7, 4, 167, 0, 4, 3]
abbrev dktX6_isNotTrue_1 : List UInt8 := dkwX6_isNotTrue_1 ++ dktX6_isNotTrue_2
def dkwX6_isNotTrue_0 : List UInt8 := [42, 27, 28, 29, 184, 0, 161, 154, 0, 7, 4, 167, 0, 4, 3, 4, 182, 0, 164, 153, 0, 5, 4, 172]
abbrev dktX6_isNotTrue_0 : List UInt8 := dkwX6_isNotTrue_0 ++ dktX6_isNotTrue_1
theorem dksX6_isNotTrue_0 : cX6_isNotTrue.data.toList.drop 0 = dktX6_isNotTrue_0 := by decide +kernel
theorem dksX6_isNotTrue_1 : cX6_isNotTrue.data.toList.drop 24 = dktX6_isNotTrue_1 := dk_seg dksX6_isNotTrue_0 24 rfl rfl
theorem dksX6_isNotTrue_2 : cX6_isNotTrue.data.toList.drop 48 = dktX6_isNotTrue_2 := dk_seg dksX6_isNotTrue_1 24 rfl rfl
theorem dX6_isNotTrue_0 : decode cX6_isNotTrue 0 = .ok (.aload_n 0, 1) := dk_42 (dk_at dksX6_isNotTrue_0 0 rfl rfl)
theorem dX6_isNotTrue_1 : decode cX6_isNotTrue 1 = .ok (.iload_n 1, 1) := dk_27 (dk_at dksX6_isNotTrue_0 1 rfl rfl)
theorem dX6_isNotTrue_2 : decode cX6_isNotTrue 2 = .ok (.iload_n 2, 1) := dk_28 (dk_at dksX6_isNotTrue_0 2 rfl rfl)
theorem dX6_isNotTrue_3 : decode cX6_isNotTrue 3 = .ok (.iload_n 3, 1) := dk_29 (dk_at dksX6_isNotTrue_0 3 rfl rfl)
theorem dX6_isNotTrue_4 : decode cX6_isNotTrue 4 = .ok (.invokestatic 161, 3) := dk_184 0 161 (dk_at dksX6_isNotTrue_0 4 rfl rfl)
theorem dX6_isNotTrue_7 : decode cX6_isNotTrue 7 = .ok (.ifCond .ne 7, 3) := dk_154 0 7 (dk_at dksX6_isNotTrue_0 7 rfl rfl)
theorem dX6_isNotTrue_10 : decode cX6_isNotTrue 10 = .ok (.iconst 1, 1) := dk_4 (dk_at dksX6_isNotTrue_0 10 rfl rfl)
theorem dX6_isNotTrue_11 : decode cX6_isNotTrue 11 = .ok (.goto 4, 3) := dk_167 0 4 (dk_at dksX6_isNotTrue_0 11 rfl rfl)
theorem dX6_isNotTrue_14 : decode cX6_isNotTrue 14 = .ok (.iconst 0, 1) := dk_3 (dk_at dksX6_isNotTrue_0 14 rfl rfl)
theorem dX6_isNotTrue_15 : decode cX6_isNotTrue 15 = .ok (.iconst 1, 1) := dk_4 (dk_at dksX6_isNotTrue_0 15 rfl rfl)
theorem dX6_isNotTrue_16 : decode cX6_isNotTrue 16 = .ok (.invokevirtual 164, 3) := dk_182 0 164 (dk_at dksX6_isNotTrue_0 16 rfl rfl)
theorem dX6_isNotTrue_19 : decode cX6_isNotTrue 19 = .ok (.ifCond .eq 5, 3) := dk_153 0 5 (dk_at dksX6_isNotTrue_0 19 rfl rfl)
theorem dX6_isNotTrue_22 : decode cX6_isNotTrue 22 = .ok (.iconst 1, 1) := dk_4 (dk_at dksX6_isNotTrue_0 22 rfl rfl)
theorem dX6_isNotTrue_23 : decode cX6_isNotTrue 23 = .ok (.ireturn, 1) := dk_172 (dk_at dksX6_isNotTrue_0 23 rfl rfl)
theorem dX6_isNotTrue_24 : decode cX6_isNotTrue 24 = .ok (.aload_n 0, 1) := dk_42 (dk_at dksX6_isNotTrue_1 0 rfl rfl)
theorem dX6_isNotTrue_25 : decode cX6_isNotTrue 25 = .ok (.invokevirtual 158, 3) := dk_182 0 158 (dk_at dksX6_isNotTrue_1 1 rfl rfl)
theorem dX6_isNotTrue_28 : decode cX6_isNotTrue 28 = .ok (.aload_n 0, 1) := dk_42 (dk_at dksX6_isNotTrue_1 4 rfl rfl)
theorem dX6_isNotTrue_29 : decode cX6_isNotTrue 29 = .ok (.aload_n 0, 1) := dk_42 (dk_at dksX6_isNotTrue_1 5 rfl rfl)
theorem dX6_isNotTrue_30 : decode cX6_isNotTrue 30 = .ok (.getfield 37, 3) := dk_180 0 37 (dk_at dksX6_isNotTrue_1 6 rfl rfl)
theorem dX6_isNotTrue_33 : decode cX6_isNotTrue 33 = .ok (.iload_n 1, 1) := dk_27 (dk_at dksX6_isNotTrue_1 9 rfl rfl)
theorem dX6_isNotTrue_34 : decode cX6_isNotTrue 34 = .ok (.iload_n 2, 1) := dk_28 (dk_at dksX6_isNotTrue_1 10 rfl rfl)
theorem dX6_isNotTrue_35 : decode cX6_isNotTrue 35 = .ok (.iload_n 3, 1) := dk_29 (dk_at dksX6_isNotTrue_1 11 rfl rfl)
theorem dX6_isNotTrue_36 : decode cX6_isNotTrue 36 = .ok (.invokestatic 168, 3) := dk_184 0 168 (dk_at dksX6_isNotTrue_1 12 rfl rfl)
theorem dX6_isNotTrue_39 : decode cX6_isNotTrue 39 = .ok (.baload, 1) := dk_51 (dk_at dksX6_isNotTrue_1 15 rfl rfl)
theorem dX6_isNotTrue_40 : decode cX6_isNotTrue 40 = .ok (.ifCond .ne 7, 3) := dk_154 0 7 (dk_at dksX6_isNotTrue_1 16 rfl rfl)
theorem dX6_isNotTrue_43 : decode cX6_isNotTrue 43 = .ok (.iconst 1, 1) := dk_4 (dk_at dksX6_isNotTrue_1 19 rfl rfl)
theorem dX6_isNotTrue_44 : decode cX6_isNotTrue 44 = .ok (.goto 4, 3) := dk_167 0 4 (dk_at dksX6_isNotTrue_1 20 rfl rfl)
theorem dX6_isNotTrue_47 : decode cX6_isNotTrue 47 = .ok (.iconst 0, 1) := dk_3 (dk_at dksX6_isNotTrue_1 23 rfl rfl)
theorem dX6_isNotTrue_48 : decode cX6_isNotTrue 48 = .ok (.iconst 2, 1) := dk_5 (dk_at dksX6_isNotTrue_2 0 rfl rfl)
theorem dX6_isNotTrue_49 : decode cX6_isNotTrue 49 = .ok (.invokevirtual 164, 3) := dk_182 0 164 (dk_at dksX6_isNotTrue_2 1 rfl rfl)
theorem dX6_isNotTrue_52 : decode cX6_isNotTrue 52 = .ok (.ireturn, 1) := dk_172 (dk_at dksX6_isNotTrue_2 4 rfl rfl)
abbrev cX6_heightByLevels : ByteArray := prog_28_method_61_code
def yX6_heightByLevels : MethodName := ⟨RX6, "heightByLevels", "(CII)I"⟩
def dkwX6_heightByLevels_0 : List UInt8 := [42, 27, 28, 29, 182, 0, 224, 172]
abbrev dktX6_heightByLevels_0 : List UInt8 := dkwX6_heightByLevels_0 ++ []
theorem dksX6_heightByLevels_0 : cX6_heightByLevels.data.toList.drop 0 = dktX6_heightByLevels_0 := by decide +kernel
theorem dX6_heightByLevels_0 : decode cX6_heightByLevels 0 = .ok (.aload_n 0, 1) := dk_42 (dk_at dksX6_heightByLevels_0 0 rfl rfl)
theorem dX6_heightByLevels_1 : decode cX6_heightByLevels 1 = .ok (.iload_n 1, 1) := dk_27 (dk_at dksX6_heightByLevels_0 1 rfl rfl)
theorem dX6_heightByLevels_2 : decode cX6_heightByLevels 2 = .ok (.iload_n 2, 1) := dk_28 (dk_at dksX6_heightByLevels_0 2 rfl rfl)
theorem dX6_heightByLevels_3 : decode cX6_heightByLevels 3 = .ok (.iload_n 3, 1) := dk_29 (dk_at dksX6_heightByLevels_0 3 rfl rfl)
theorem dX6_heightByLevels_4 : decode cX6_heightByLevels 4 = .ok (.invokevirtual 224, 3) := dk_182 0 224 (dk_at dksX6_heightByLevels_0 4 rfl rfl)
theorem dX6_heightByLevels_7 : decode cX6_heightByLevels 7 = .ok (.ireturn, 1) := dk_172 (dk_at dksX6_heightByLevels_0 7 rfl rfl)
abbrev cX6_ruleOf : ByteArray := prog_28_method_62_code
def yX6_ruleOf : MethodName := ⟨RX6, "ruleOf", "(CII)I"⟩
def dkwX6_ruleOf_2 : List UInt8 := [167, 0, 14, 42, 180, 0, 25, 21, 4, 46, 17, 3, 232, 108, 172]
abbrev dktX6_ruleOf_2 : List UInt8 := dkwX6_ruleOf_2 ++ []
def dkwX6_ruleOf_1 : List UInt8 := [180, 0, 25, 21, 4, 46, 156, 0, 7, 4, 167, 0, 4, 3, 5, 182, 0, 164, 153, 0, 7, 3]
abbrev dktX6_ruleOf_1 : List UInt8 := dkwX6_ruleOf_1 ++ dktX6_ruleOf_2
def dkwX6_ruleOf_0 : List UInt8 := [42, 27, 28, 29, 182, 0, 221, 153, 0, 5, 3, 172, 27, 28, 29, 184, 0, 168, 54, 4, 42, 42]
abbrev dktX6_ruleOf_0 : List UInt8 := dkwX6_ruleOf_0 ++ dktX6_ruleOf_1
theorem dksX6_ruleOf_0 : cX6_ruleOf.data.toList.drop 0 = dktX6_ruleOf_0 := by decide +kernel
theorem dksX6_ruleOf_1 : cX6_ruleOf.data.toList.drop 22 = dktX6_ruleOf_1 := dk_seg dksX6_ruleOf_0 22 rfl rfl
theorem dksX6_ruleOf_2 : cX6_ruleOf.data.toList.drop 44 = dktX6_ruleOf_2 := dk_seg dksX6_ruleOf_1 22 rfl rfl
theorem dX6_ruleOf_0 : decode cX6_ruleOf 0 = .ok (.aload_n 0, 1) := dk_42 (dk_at dksX6_ruleOf_0 0 rfl rfl)
theorem dX6_ruleOf_1 : decode cX6_ruleOf 1 = .ok (.iload_n 1, 1) := dk_27 (dk_at dksX6_ruleOf_0 1 rfl rfl)
theorem dX6_ruleOf_2 : decode cX6_ruleOf 2 = .ok (.iload_n 2, 1) := dk_28 (dk_at dksX6_ruleOf_0 2 rfl rfl)
theorem dX6_ruleOf_3 : decode cX6_ruleOf 3 = .ok (.iload_n 3, 1) := dk_29 (dk_at dksX6_ruleOf_0 3 rfl rfl)
theorem dX6_ruleOf_4 : decode cX6_ruleOf 4 = .ok (.invokevirtual 221, 3) := dk_182 0 221 (dk_at dksX6_ruleOf_0 4 rfl rfl)
theorem dX6_ruleOf_7 : decode cX6_ruleOf 7 = .ok (.ifCond .eq 5, 3) := dk_153 0 5 (dk_at dksX6_ruleOf_0 7 rfl rfl)
theorem dX6_ruleOf_10 : decode cX6_ruleOf 10 = .ok (.iconst 0, 1) := dk_3 (dk_at dksX6_ruleOf_0 10 rfl rfl)
theorem dX6_ruleOf_11 : decode cX6_ruleOf 11 = .ok (.ireturn, 1) := dk_172 (dk_at dksX6_ruleOf_0 11 rfl rfl)
theorem dX6_ruleOf_12 : decode cX6_ruleOf 12 = .ok (.iload_n 1, 1) := dk_27 (dk_at dksX6_ruleOf_0 12 rfl rfl)
theorem dX6_ruleOf_13 : decode cX6_ruleOf 13 = .ok (.iload_n 2, 1) := dk_28 (dk_at dksX6_ruleOf_0 13 rfl rfl)
theorem dX6_ruleOf_14 : decode cX6_ruleOf 14 = .ok (.iload_n 3, 1) := dk_29 (dk_at dksX6_ruleOf_0 14 rfl rfl)
theorem dX6_ruleOf_15 : decode cX6_ruleOf 15 = .ok (.invokestatic 168, 3) := dk_184 0 168 (dk_at dksX6_ruleOf_0 15 rfl rfl)
theorem dX6_ruleOf_18 : decode cX6_ruleOf 18 = .ok (.istore 4, 2) := dk_54 4 (dk_at dksX6_ruleOf_0 18 rfl rfl)
theorem dX6_ruleOf_20 : decode cX6_ruleOf 20 = .ok (.aload_n 0, 1) := dk_42 (dk_at dksX6_ruleOf_0 20 rfl rfl)
theorem dX6_ruleOf_21 : decode cX6_ruleOf 21 = .ok (.aload_n 0, 1) := dk_42 (dk_at dksX6_ruleOf_0 21 rfl rfl)
theorem dX6_ruleOf_22 : decode cX6_ruleOf 22 = .ok (.getfield 25, 3) := dk_180 0 25 (dk_at dksX6_ruleOf_1 0 rfl rfl)
theorem dX6_ruleOf_25 : decode cX6_ruleOf 25 = .ok (.iload 4, 2) := dk_21 4 (dk_at dksX6_ruleOf_1 3 rfl rfl)
theorem dX6_ruleOf_27 : decode cX6_ruleOf 27 = .ok (.iaload, 1) := dk_46 (dk_at dksX6_ruleOf_1 5 rfl rfl)
theorem dX6_ruleOf_28 : decode cX6_ruleOf 28 = .ok (.ifCond .ge 7, 3) := dk_156 0 7 (dk_at dksX6_ruleOf_1 6 rfl rfl)
theorem dX6_ruleOf_31 : decode cX6_ruleOf 31 = .ok (.iconst 1, 1) := dk_4 (dk_at dksX6_ruleOf_1 9 rfl rfl)
theorem dX6_ruleOf_32 : decode cX6_ruleOf 32 = .ok (.goto 4, 3) := dk_167 0 4 (dk_at dksX6_ruleOf_1 10 rfl rfl)
theorem dX6_ruleOf_35 : decode cX6_ruleOf 35 = .ok (.iconst 0, 1) := dk_3 (dk_at dksX6_ruleOf_1 13 rfl rfl)
theorem dX6_ruleOf_36 : decode cX6_ruleOf 36 = .ok (.iconst 2, 1) := dk_5 (dk_at dksX6_ruleOf_1 14 rfl rfl)
theorem dX6_ruleOf_37 : decode cX6_ruleOf 37 = .ok (.invokevirtual 164, 3) := dk_182 0 164 (dk_at dksX6_ruleOf_1 15 rfl rfl)
theorem dX6_ruleOf_40 : decode cX6_ruleOf 40 = .ok (.ifCond .eq 7, 3) := dk_153 0 7 (dk_at dksX6_ruleOf_1 18 rfl rfl)
theorem dX6_ruleOf_43 : decode cX6_ruleOf 43 = .ok (.iconst 0, 1) := dk_3 (dk_at dksX6_ruleOf_1 21 rfl rfl)
theorem dX6_ruleOf_44 : decode cX6_ruleOf 44 = .ok (.goto 14, 3) := dk_167 0 14 (dk_at dksX6_ruleOf_2 0 rfl rfl)
theorem dX6_ruleOf_47 : decode cX6_ruleOf 47 = .ok (.aload_n 0, 1) := dk_42 (dk_at dksX6_ruleOf_2 3 rfl rfl)
theorem dX6_ruleOf_48 : decode cX6_ruleOf 48 = .ok (.getfield 25, 3) := dk_180 0 25 (dk_at dksX6_ruleOf_2 4 rfl rfl)
theorem dX6_ruleOf_51 : decode cX6_ruleOf 51 = .ok (.iload 4, 2) := dk_21 4 (dk_at dksX6_ruleOf_2 7 rfl rfl)
theorem dX6_ruleOf_53 : decode cX6_ruleOf 53 = .ok (.iaload, 1) := dk_46 (dk_at dksX6_ruleOf_2 9 rfl rfl)
theorem dX6_ruleOf_54 : decode cX6_ruleOf 54 = .ok (.sipush 1000, 3) := dk_17 3 232 (dk_at dksX6_ruleOf_2 10 rfl rfl)
theorem dX6_ruleOf_57 : decode cX6_ruleOf 57 = .ok (.idiv, 1) := dk_108 (dk_at dksX6_ruleOf_2 13 rfl rfl)
theorem dX6_ruleOf_58 : decode cX6_ruleOf 58 = .ok (.ireturn, 1) := dk_172 (dk_at dksX6_ruleOf_2 14 rfl rfl)
abbrev cX6_proofSize : ByteArray := prog_28_method_65_code
def yX6_proofSize : MethodName := ⟨RX6, "proofSize", "(CII)J"⟩
def dkwX6_proofSize_1 : List UInt8 := [184, 0, 168, 46, 133, 173]
abbrev dktX6_proofSize_1 : List UInt8 := dkwX6_proofSize_1 ++ []
def dkwX6_proofSize_0 : List UInt8 := [42, 27, 28, 29, 182, 0, 221, 153, 0, 5, 9, 173, 42, 182, 0, 233, 42, 180, 0, 28, 27, 28, 29]
abbrev dktX6_proofSize_0 : List UInt8 := dkwX6_proofSize_0 ++ dktX6_proofSize_1
theorem dksX6_proofSize_0 : cX6_proofSize.data.toList.drop 0 = dktX6_proofSize_0 := by decide +kernel
theorem dksX6_proofSize_1 : cX6_proofSize.data.toList.drop 23 = dktX6_proofSize_1 := dk_seg dksX6_proofSize_0 23 rfl rfl
theorem dX6_proofSize_0 : decode cX6_proofSize 0 = .ok (.aload_n 0, 1) := dk_42 (dk_at dksX6_proofSize_0 0 rfl rfl)
theorem dX6_proofSize_1 : decode cX6_proofSize 1 = .ok (.iload_n 1, 1) := dk_27 (dk_at dksX6_proofSize_0 1 rfl rfl)
theorem dX6_proofSize_2 : decode cX6_proofSize 2 = .ok (.iload_n 2, 1) := dk_28 (dk_at dksX6_proofSize_0 2 rfl rfl)
theorem dX6_proofSize_3 : decode cX6_proofSize 3 = .ok (.iload_n 3, 1) := dk_29 (dk_at dksX6_proofSize_0 3 rfl rfl)
theorem dX6_proofSize_4 : decode cX6_proofSize 4 = .ok (.invokevirtual 221, 3) := dk_182 0 221 (dk_at dksX6_proofSize_0 4 rfl rfl)
theorem dX6_proofSize_7 : decode cX6_proofSize 7 = .ok (.ifCond .eq 5, 3) := dk_153 0 5 (dk_at dksX6_proofSize_0 7 rfl rfl)
theorem dX6_proofSize_10 : decode cX6_proofSize 10 = .ok (.lconst 0, 1) := dk_9 (dk_at dksX6_proofSize_0 10 rfl rfl)
theorem dX6_proofSize_11 : decode cX6_proofSize 11 = .ok (.lreturn, 1) := dk_173 (dk_at dksX6_proofSize_0 11 rfl rfl)
theorem dX6_proofSize_12 : decode cX6_proofSize 12 = .ok (.aload_n 0, 1) := dk_42 (dk_at dksX6_proofSize_0 12 rfl rfl)
theorem dX6_proofSize_13 : decode cX6_proofSize 13 = .ok (.invokevirtual 233, 3) := dk_182 0 233 (dk_at dksX6_proofSize_0 13 rfl rfl)
theorem dX6_proofSize_16 : decode cX6_proofSize 16 = .ok (.aload_n 0, 1) := dk_42 (dk_at dksX6_proofSize_0 16 rfl rfl)
theorem dX6_proofSize_17 : decode cX6_proofSize 17 = .ok (.getfield 28, 3) := dk_180 0 28 (dk_at dksX6_proofSize_0 17 rfl rfl)
theorem dX6_proofSize_20 : decode cX6_proofSize 20 = .ok (.iload_n 1, 1) := dk_27 (dk_at dksX6_proofSize_0 20 rfl rfl)
theorem dX6_proofSize_21 : decode cX6_proofSize 21 = .ok (.iload_n 2, 1) := dk_28 (dk_at dksX6_proofSize_0 21 rfl rfl)
theorem dX6_proofSize_22 : decode cX6_proofSize 22 = .ok (.iload_n 3, 1) := dk_29 (dk_at dksX6_proofSize_0 22 rfl rfl)
theorem dX6_proofSize_23 : decode cX6_proofSize 23 = .ok (.invokestatic 168, 3) := dk_184 0 168 (dk_at dksX6_proofSize_1 0 rfl rfl)
theorem dX6_proofSize_26 : decode cX6_proofSize 26 = .ok (.iaload, 1) := dk_46 (dk_at dksX6_proofSize_1 3 rfl rfl)
theorem dX6_proofSize_27 : decode cX6_proofSize 27 = .ok (.i2l, 1) := dk_133 (dk_at dksX6_proofSize_1 4 rfl rfl)
theorem dX6_proofSize_28 : decode cX6_proofSize 28 = .ok (.lreturn, 1) := dk_173 (dk_at dksX6_proofSize_1 5 rfl rfl)
abbrev cX6_sizes : ByteArray := prog_28_method_63_code
def yX6_sizes : MethodName := ⟨RX6, "sizes", "()V"⟩
def dkwX6_sizes_3 : List UInt8 := [167, 255, 188, 177]
abbrev dktX6_sizes_3 : List UInt8 := dkwX6_sizes_3 ++ []
def dkwX6_sizes_2 : List UInt8 := [167, 0, 13, 42, 42, 180, 0, 25, 28, 46, 182, 0, 227, 79, 132, 2, 1, 167, 255, 203, 132, 1, 1]
abbrev dktX6_sizes_2 : List UInt8 := dkwX6_sizes_2 ++ dktX6_sizes_3
def dkwX6_sizes_1 : List UInt8 := [153, 0, 37, 42, 180, 0, 22, 28, 46, 27, 160, 0, 27, 42, 180, 0, 28, 28, 27, 154, 0, 7, 4]
abbrev dktX6_sizes_1 : List UInt8 := dkwX6_sizes_1 ++ dktX6_sizes_2
def dkwX6_sizes_0 : List UInt8 := [3, 60, 27, 17, 1, 185, 162, 0, 67, 3, 61, 28, 17, 1, 184, 162, 0, 52, 42, 180, 0, 37, 28, 51]
abbrev dktX6_sizes_0 : List UInt8 := dkwX6_sizes_0 ++ dktX6_sizes_1
theorem dksX6_sizes_0 : cX6_sizes.data.toList.drop 0 = dktX6_sizes_0 := by decide +kernel
theorem dksX6_sizes_1 : cX6_sizes.data.toList.drop 24 = dktX6_sizes_1 := dk_seg dksX6_sizes_0 24 rfl rfl
theorem dksX6_sizes_2 : cX6_sizes.data.toList.drop 47 = dktX6_sizes_2 := dk_seg dksX6_sizes_1 23 rfl rfl
theorem dksX6_sizes_3 : cX6_sizes.data.toList.drop 70 = dktX6_sizes_3 := dk_seg dksX6_sizes_2 23 rfl rfl
theorem dX6_sizes_0 : decode cX6_sizes 0 = .ok (.iconst 0, 1) := dk_3 (dk_at dksX6_sizes_0 0 rfl rfl)
theorem dX6_sizes_1 : decode cX6_sizes 1 = .ok (.istore_n 1, 1) := dk_60 (dk_at dksX6_sizes_0 1 rfl rfl)
theorem dX6_sizes_2 : decode cX6_sizes 2 = .ok (.iload_n 1, 1) := dk_27 (dk_at dksX6_sizes_0 2 rfl rfl)
theorem dX6_sizes_3 : decode cX6_sizes 3 = .ok (.sipush 441, 3) := dk_17 1 185 (dk_at dksX6_sizes_0 3 rfl rfl)
theorem dX6_sizes_6 : decode cX6_sizes 6 = .ok (.if_icmp .ge 67, 3) := dk_162 0 67 (dk_at dksX6_sizes_0 6 rfl rfl)
theorem dX6_sizes_9 : decode cX6_sizes 9 = .ok (.iconst 0, 1) := dk_3 (dk_at dksX6_sizes_0 9 rfl rfl)
theorem dX6_sizes_10 : decode cX6_sizes 10 = .ok (.istore_n 2, 1) := dk_61 (dk_at dksX6_sizes_0 10 rfl rfl)
theorem dX6_sizes_11 : decode cX6_sizes 11 = .ok (.iload_n 2, 1) := dk_28 (dk_at dksX6_sizes_0 11 rfl rfl)
theorem dX6_sizes_12 : decode cX6_sizes 12 = .ok (.sipush 440, 3) := dk_17 1 184 (dk_at dksX6_sizes_0 12 rfl rfl)
theorem dX6_sizes_15 : decode cX6_sizes 15 = .ok (.if_icmp .ge 52, 3) := dk_162 0 52 (dk_at dksX6_sizes_0 15 rfl rfl)
theorem dX6_sizes_18 : decode cX6_sizes 18 = .ok (.aload_n 0, 1) := dk_42 (dk_at dksX6_sizes_0 18 rfl rfl)
theorem dX6_sizes_19 : decode cX6_sizes 19 = .ok (.getfield 37, 3) := dk_180 0 37 (dk_at dksX6_sizes_0 19 rfl rfl)
theorem dX6_sizes_22 : decode cX6_sizes 22 = .ok (.iload_n 2, 1) := dk_28 (dk_at dksX6_sizes_0 22 rfl rfl)
theorem dX6_sizes_23 : decode cX6_sizes 23 = .ok (.baload, 1) := dk_51 (dk_at dksX6_sizes_0 23 rfl rfl)
theorem dX6_sizes_24 : decode cX6_sizes 24 = .ok (.ifCond .eq 37, 3) := dk_153 0 37 (dk_at dksX6_sizes_1 0 rfl rfl)
theorem dX6_sizes_27 : decode cX6_sizes 27 = .ok (.aload_n 0, 1) := dk_42 (dk_at dksX6_sizes_1 3 rfl rfl)
theorem dX6_sizes_28 : decode cX6_sizes 28 = .ok (.getfield 22, 3) := dk_180 0 22 (dk_at dksX6_sizes_1 4 rfl rfl)
theorem dX6_sizes_31 : decode cX6_sizes 31 = .ok (.iload_n 2, 1) := dk_28 (dk_at dksX6_sizes_1 7 rfl rfl)
theorem dX6_sizes_32 : decode cX6_sizes 32 = .ok (.iaload, 1) := dk_46 (dk_at dksX6_sizes_1 8 rfl rfl)
theorem dX6_sizes_33 : decode cX6_sizes 33 = .ok (.iload_n 1, 1) := dk_27 (dk_at dksX6_sizes_1 9 rfl rfl)
theorem dX6_sizes_34 : decode cX6_sizes 34 = .ok (.if_icmp .ne 27, 3) := dk_160 0 27 (dk_at dksX6_sizes_1 10 rfl rfl)
theorem dX6_sizes_37 : decode cX6_sizes 37 = .ok (.aload_n 0, 1) := dk_42 (dk_at dksX6_sizes_1 13 rfl rfl)
theorem dX6_sizes_38 : decode cX6_sizes 38 = .ok (.getfield 28, 3) := dk_180 0 28 (dk_at dksX6_sizes_1 14 rfl rfl)
theorem dX6_sizes_41 : decode cX6_sizes 41 = .ok (.iload_n 2, 1) := dk_28 (dk_at dksX6_sizes_1 17 rfl rfl)
theorem dX6_sizes_42 : decode cX6_sizes 42 = .ok (.iload_n 1, 1) := dk_27 (dk_at dksX6_sizes_1 18 rfl rfl)
theorem dX6_sizes_43 : decode cX6_sizes 43 = .ok (.ifCond .ne 7, 3) := dk_154 0 7 (dk_at dksX6_sizes_1 19 rfl rfl)
theorem dX6_sizes_46 : decode cX6_sizes 46 = .ok (.iconst 1, 1) := dk_4 (dk_at dksX6_sizes_1 22 rfl rfl)
theorem dX6_sizes_47 : decode cX6_sizes 47 = .ok (.goto 13, 3) := dk_167 0 13 (dk_at dksX6_sizes_2 0 rfl rfl)
theorem dX6_sizes_50 : decode cX6_sizes 50 = .ok (.aload_n 0, 1) := dk_42 (dk_at dksX6_sizes_2 3 rfl rfl)
theorem dX6_sizes_51 : decode cX6_sizes 51 = .ok (.aload_n 0, 1) := dk_42 (dk_at dksX6_sizes_2 4 rfl rfl)
theorem dX6_sizes_52 : decode cX6_sizes 52 = .ok (.getfield 25, 3) := dk_180 0 25 (dk_at dksX6_sizes_2 5 rfl rfl)
theorem dX6_sizes_55 : decode cX6_sizes 55 = .ok (.iload_n 2, 1) := dk_28 (dk_at dksX6_sizes_2 8 rfl rfl)
theorem dX6_sizes_56 : decode cX6_sizes 56 = .ok (.iaload, 1) := dk_46 (dk_at dksX6_sizes_2 9 rfl rfl)
theorem dX6_sizes_57 : decode cX6_sizes 57 = .ok (.invokevirtual 227, 3) := dk_182 0 227 (dk_at dksX6_sizes_2 10 rfl rfl)
theorem dX6_sizes_60 : decode cX6_sizes 60 = .ok (.iastore, 1) := dk_79 (dk_at dksX6_sizes_2 13 rfl rfl)
theorem dX6_sizes_61 : decode cX6_sizes 61 = .ok (.iinc 2 1, 3) := dk_132 2 1 (dk_at dksX6_sizes_2 14 rfl rfl)
theorem dX6_sizes_64 : decode cX6_sizes 64 = .ok (.goto (-53), 3) := dk_167 255 203 (dk_at dksX6_sizes_2 17 rfl rfl)
theorem dX6_sizes_67 : decode cX6_sizes 67 = .ok (.iinc 1 1, 3) := dk_132 1 1 (dk_at dksX6_sizes_2 20 rfl rfl)
theorem dX6_sizes_70 : decode cX6_sizes 70 = .ok (.goto (-68), 3) := dk_167 255 188 (dk_at dksX6_sizes_3 0 rfl rfl)
theorem dX6_sizes_73 : decode cX6_sizes 73 = .ok (.return_, 1) := dk_177 (dk_at dksX6_sizes_3 3 rfl rfl)
abbrev cX6_sizeBy : ByteArray := prog_28_method_64_code
def yX6_sizeBy : MethodName := ⟨RX6, "sizeBy", "(I)I"⟩
def dkwX6_sizeBy_3 : List UInt8 := [66, 132, 6, 1, 167, 255, 206, 33, 20, 0, 230, 148, 158, 0, 8, 18, 232, 167, 0, 5, 33, 136, 172]
abbrev dktX6_sizeBy_3 : List UInt8 := dkwX6_sizeBy_3 ++ []
def dkwX6_sizeBy_2 : List UInt8 := [182, 0, 96, 154, 0, 19, 42, 180, 0, 28, 42, 28, 21, 6, 182, 0, 114, 46, 133, 167, 0, 4, 9, 97]
abbrev dktX6_sizeBy_2 : List UInt8 := dkwX6_sizeBy_2 ++ dktX6_sizeBy_3
def dkwX6_sizeBy_1 : List UInt8 := [21, 6, 42, 28, 6, 182, 0, 92, 162, 0, 45, 21, 5, 153, 0, 40, 33, 42, 28, 21, 6, 3]
abbrev dktX6_sizeBy_1 : List UInt8 := dkwX6_sizeBy_1 ++ dktX6_sizeBy_2
def dkwX6_sizeBy_0 : List UInt8 := [27, 17, 3, 232, 108, 61, 10, 66, 42, 28, 27, 17, 3, 232, 112, 182, 0, 123, 54, 5, 3, 54, 6]
abbrev dktX6_sizeBy_0 : List UInt8 := dkwX6_sizeBy_0 ++ dktX6_sizeBy_1
theorem dksX6_sizeBy_0 : cX6_sizeBy.data.toList.drop 0 = dktX6_sizeBy_0 := by decide +kernel
theorem dksX6_sizeBy_1 : cX6_sizeBy.data.toList.drop 23 = dktX6_sizeBy_1 := dk_seg dksX6_sizeBy_0 23 rfl rfl
theorem dksX6_sizeBy_2 : cX6_sizeBy.data.toList.drop 45 = dktX6_sizeBy_2 := dk_seg dksX6_sizeBy_1 22 rfl rfl
theorem dksX6_sizeBy_3 : cX6_sizeBy.data.toList.drop 69 = dktX6_sizeBy_3 := dk_seg dksX6_sizeBy_2 24 rfl rfl
theorem dX6_sizeBy_0 : decode cX6_sizeBy 0 = .ok (.iload_n 1, 1) := dk_27 (dk_at dksX6_sizeBy_0 0 rfl rfl)
theorem dX6_sizeBy_1 : decode cX6_sizeBy 1 = .ok (.sipush 1000, 3) := dk_17 3 232 (dk_at dksX6_sizeBy_0 1 rfl rfl)
theorem dX6_sizeBy_4 : decode cX6_sizeBy 4 = .ok (.idiv, 1) := dk_108 (dk_at dksX6_sizeBy_0 4 rfl rfl)
theorem dX6_sizeBy_5 : decode cX6_sizeBy 5 = .ok (.istore_n 2, 1) := dk_61 (dk_at dksX6_sizeBy_0 5 rfl rfl)
theorem dX6_sizeBy_6 : decode cX6_sizeBy 6 = .ok (.lconst 1, 1) := dk_10 (dk_at dksX6_sizeBy_0 6 rfl rfl)
theorem dX6_sizeBy_7 : decode cX6_sizeBy 7 = .ok (.lstore_n 3, 1) := dk_66 (dk_at dksX6_sizeBy_0 7 rfl rfl)
theorem dX6_sizeBy_8 : decode cX6_sizeBy 8 = .ok (.aload_n 0, 1) := dk_42 (dk_at dksX6_sizeBy_0 8 rfl rfl)
theorem dX6_sizeBy_9 : decode cX6_sizeBy 9 = .ok (.iload_n 2, 1) := dk_28 (dk_at dksX6_sizeBy_0 9 rfl rfl)
theorem dX6_sizeBy_10 : decode cX6_sizeBy 10 = .ok (.iload_n 1, 1) := dk_27 (dk_at dksX6_sizeBy_0 10 rfl rfl)
theorem dX6_sizeBy_11 : decode cX6_sizeBy 11 = .ok (.sipush 1000, 3) := dk_17 3 232 (dk_at dksX6_sizeBy_0 11 rfl rfl)
theorem dX6_sizeBy_14 : decode cX6_sizeBy 14 = .ok (.irem, 1) := dk_112 (dk_at dksX6_sizeBy_0 14 rfl rfl)
theorem dX6_sizeBy_15 : decode cX6_sizeBy 15 = .ok (.invokevirtual 123, 3) := dk_182 0 123 (dk_at dksX6_sizeBy_0 15 rfl rfl)
theorem dX6_sizeBy_18 : decode cX6_sizeBy 18 = .ok (.istore 5, 2) := dk_54 5 (dk_at dksX6_sizeBy_0 18 rfl rfl)
theorem dX6_sizeBy_20 : decode cX6_sizeBy 20 = .ok (.iconst 0, 1) := dk_3 (dk_at dksX6_sizeBy_0 20 rfl rfl)
theorem dX6_sizeBy_21 : decode cX6_sizeBy 21 = .ok (.istore 6, 2) := dk_54 6 (dk_at dksX6_sizeBy_0 21 rfl rfl)
theorem dX6_sizeBy_23 : decode cX6_sizeBy 23 = .ok (.iload 6, 2) := dk_21 6 (dk_at dksX6_sizeBy_1 0 rfl rfl)
theorem dX6_sizeBy_25 : decode cX6_sizeBy 25 = .ok (.aload_n 0, 1) := dk_42 (dk_at dksX6_sizeBy_1 2 rfl rfl)
theorem dX6_sizeBy_26 : decode cX6_sizeBy 26 = .ok (.iload_n 2, 1) := dk_28 (dk_at dksX6_sizeBy_1 3 rfl rfl)
theorem dX6_sizeBy_27 : decode cX6_sizeBy 27 = .ok (.iconst 3, 1) := dk_6 (dk_at dksX6_sizeBy_1 4 rfl rfl)
theorem dX6_sizeBy_28 : decode cX6_sizeBy 28 = .ok (.invokevirtual 92, 3) := dk_182 0 92 (dk_at dksX6_sizeBy_1 5 rfl rfl)
theorem dX6_sizeBy_31 : decode cX6_sizeBy 31 = .ok (.if_icmp .ge 45, 3) := dk_162 0 45 (dk_at dksX6_sizeBy_1 8 rfl rfl)
theorem dX6_sizeBy_34 : decode cX6_sizeBy 34 = .ok (.iload 5, 2) := dk_21 5 (dk_at dksX6_sizeBy_1 11 rfl rfl)
theorem dX6_sizeBy_36 : decode cX6_sizeBy 36 = .ok (.ifCond .eq 40, 3) := dk_153 0 40 (dk_at dksX6_sizeBy_1 13 rfl rfl)
theorem dX6_sizeBy_39 : decode cX6_sizeBy 39 = .ok (.lload_n 3, 1) := dk_33 (dk_at dksX6_sizeBy_1 16 rfl rfl)
theorem dX6_sizeBy_40 : decode cX6_sizeBy 40 = .ok (.aload_n 0, 1) := dk_42 (dk_at dksX6_sizeBy_1 17 rfl rfl)
theorem dX6_sizeBy_41 : decode cX6_sizeBy 41 = .ok (.iload_n 2, 1) := dk_28 (dk_at dksX6_sizeBy_1 18 rfl rfl)
theorem dX6_sizeBy_42 : decode cX6_sizeBy 42 = .ok (.iload 6, 2) := dk_21 6 (dk_at dksX6_sizeBy_1 19 rfl rfl)
theorem dX6_sizeBy_44 : decode cX6_sizeBy 44 = .ok (.iconst 0, 1) := dk_3 (dk_at dksX6_sizeBy_1 21 rfl rfl)
theorem dX6_sizeBy_45 : decode cX6_sizeBy 45 = .ok (.invokevirtual 96, 3) := dk_182 0 96 (dk_at dksX6_sizeBy_2 0 rfl rfl)
theorem dX6_sizeBy_48 : decode cX6_sizeBy 48 = .ok (.ifCond .ne 19, 3) := dk_154 0 19 (dk_at dksX6_sizeBy_2 3 rfl rfl)
theorem dX6_sizeBy_51 : decode cX6_sizeBy 51 = .ok (.aload_n 0, 1) := dk_42 (dk_at dksX6_sizeBy_2 6 rfl rfl)
theorem dX6_sizeBy_52 : decode cX6_sizeBy 52 = .ok (.getfield 28, 3) := dk_180 0 28 (dk_at dksX6_sizeBy_2 7 rfl rfl)
theorem dX6_sizeBy_55 : decode cX6_sizeBy 55 = .ok (.aload_n 0, 1) := dk_42 (dk_at dksX6_sizeBy_2 10 rfl rfl)
theorem dX6_sizeBy_56 : decode cX6_sizeBy 56 = .ok (.iload_n 2, 1) := dk_28 (dk_at dksX6_sizeBy_2 11 rfl rfl)
theorem dX6_sizeBy_57 : decode cX6_sizeBy 57 = .ok (.iload 6, 2) := dk_21 6 (dk_at dksX6_sizeBy_2 12 rfl rfl)
theorem dX6_sizeBy_59 : decode cX6_sizeBy 59 = .ok (.invokevirtual 114, 3) := dk_182 0 114 (dk_at dksX6_sizeBy_2 14 rfl rfl)
theorem dX6_sizeBy_62 : decode cX6_sizeBy 62 = .ok (.iaload, 1) := dk_46 (dk_at dksX6_sizeBy_2 17 rfl rfl)
theorem dX6_sizeBy_63 : decode cX6_sizeBy 63 = .ok (.i2l, 1) := dk_133 (dk_at dksX6_sizeBy_2 18 rfl rfl)
theorem dX6_sizeBy_64 : decode cX6_sizeBy 64 = .ok (.goto 4, 3) := dk_167 0 4 (dk_at dksX6_sizeBy_2 19 rfl rfl)
theorem dX6_sizeBy_67 : decode cX6_sizeBy 67 = .ok (.lconst 0, 1) := dk_9 (dk_at dksX6_sizeBy_2 22 rfl rfl)
theorem dX6_sizeBy_68 : decode cX6_sizeBy 68 = .ok (.ladd, 1) := dk_97 (dk_at dksX6_sizeBy_2 23 rfl rfl)
theorem dX6_sizeBy_69 : decode cX6_sizeBy 69 = .ok (.lstore_n 3, 1) := dk_66 (dk_at dksX6_sizeBy_3 0 rfl rfl)
theorem dX6_sizeBy_70 : decode cX6_sizeBy 70 = .ok (.iinc 6 1, 3) := dk_132 6 1 (dk_at dksX6_sizeBy_3 1 rfl rfl)
theorem dX6_sizeBy_73 : decode cX6_sizeBy 73 = .ok (.goto (-50), 3) := dk_167 255 206 (dk_at dksX6_sizeBy_3 4 rfl rfl)
theorem dX6_sizeBy_76 : decode cX6_sizeBy 76 = .ok (.lload_n 3, 1) := dk_33 (dk_at dksX6_sizeBy_3 7 rfl rfl)
theorem dX6_sizeBy_77 : decode cX6_sizeBy 77 = .ok (.ldc2_w 230, 3) := dk_20 0 230 (dk_at dksX6_sizeBy_3 8 rfl rfl)
theorem dX6_sizeBy_80 : decode cX6_sizeBy 80 = .ok (.lcmp, 1) := dk_148 (dk_at dksX6_sizeBy_3 11 rfl rfl)
theorem dX6_sizeBy_81 : decode cX6_sizeBy 81 = .ok (.ifCond .le 8, 3) := dk_158 0 8 (dk_at dksX6_sizeBy_3 12 rfl rfl)
theorem dX6_sizeBy_84 : decode cX6_sizeBy 84 = .ok (.ldc 232, 2) := dk_18 232 (dk_at dksX6_sizeBy_3 15 rfl rfl)
theorem dX6_sizeBy_86 : decode cX6_sizeBy 86 = .ok (.goto 5, 3) := dk_167 0 5 (dk_at dksX6_sizeBy_3 17 rfl rfl)
theorem dX6_sizeBy_89 : decode cX6_sizeBy 89 = .ok (.lload_n 3, 1) := dk_33 (dk_at dksX6_sizeBy_3 20 rfl rfl)
theorem dX6_sizeBy_90 : decode cX6_sizeBy 90 = .ok (.l2i, 1) := dk_136 (dk_at dksX6_sizeBy_3 21 rfl rfl)
theorem dX6_sizeBy_91 : decode cX6_sizeBy 91 = .ok (.ireturn, 1) := dk_172 (dk_at dksX6_sizeBy_3 22 rfl rfl)
abbrev cX6_answers : ByteArray := prog_28_method_68_code
def yX6_answers : MethodName := ⟨RX6, "answers", "(CII)I"⟩
def dkwX6_answers_3 : List UInt8 := [172]
abbrev dktX6_answers_3 : List UInt8 := dkwX6_answers_3 ++ []
def dkwX6_answers_2 : List UInt8 := [28, 29, 182, 0, 242, 153, 0, 7, 4, 167, 0, 4, 3, 96, 54, 4, 132, 5, 1, 167, 255, 223, 21, 4]
abbrev dktX6_answers_2 : List UInt8 := dkwX6_answers_2 ++ dktX6_answers_3
def dkwX6_answers_1 : List UInt8 := [42, 182, 0, 158, 3, 54, 4, 3, 54, 5, 21, 5, 17, 1, 184, 162, 0, 31, 21, 4, 42, 21, 5, 27]
abbrev dktX6_answers_1 : List UInt8 := dkwX6_answers_1 ++ dktX6_answers_2
def dkwX6_answers_0 : List UInt8 := [42, 27, 28, 29, 184, 0, 239, 154, 0, 7, 4, 167, 0, 4, 3, 4, 182, 0, 164, 153, 0, 5, 3, 172]
abbrev dktX6_answers_0 : List UInt8 := dkwX6_answers_0 ++ dktX6_answers_1
theorem dksX6_answers_0 : cX6_answers.data.toList.drop 0 = dktX6_answers_0 := by decide +kernel
theorem dksX6_answers_1 : cX6_answers.data.toList.drop 24 = dktX6_answers_1 := dk_seg dksX6_answers_0 24 rfl rfl
theorem dksX6_answers_2 : cX6_answers.data.toList.drop 48 = dktX6_answers_2 := dk_seg dksX6_answers_1 24 rfl rfl
theorem dksX6_answers_3 : cX6_answers.data.toList.drop 72 = dktX6_answers_3 := dk_seg dksX6_answers_2 24 rfl rfl
theorem dX6_answers_0 : decode cX6_answers 0 = .ok (.aload_n 0, 1) := dk_42 (dk_at dksX6_answers_0 0 rfl rfl)
theorem dX6_answers_1 : decode cX6_answers 1 = .ok (.iload_n 1, 1) := dk_27 (dk_at dksX6_answers_0 1 rfl rfl)
theorem dX6_answers_2 : decode cX6_answers 2 = .ok (.iload_n 2, 1) := dk_28 (dk_at dksX6_answers_0 2 rfl rfl)
theorem dX6_answers_3 : decode cX6_answers 3 = .ok (.iload_n 3, 1) := dk_29 (dk_at dksX6_answers_0 3 rfl rfl)
theorem dX6_answers_4 : decode cX6_answers 4 = .ok (.invokestatic 239, 3) := dk_184 0 239 (dk_at dksX6_answers_0 4 rfl rfl)
theorem dX6_answers_7 : decode cX6_answers 7 = .ok (.ifCond .ne 7, 3) := dk_154 0 7 (dk_at dksX6_answers_0 7 rfl rfl)
theorem dX6_answers_10 : decode cX6_answers 10 = .ok (.iconst 1, 1) := dk_4 (dk_at dksX6_answers_0 10 rfl rfl)
theorem dX6_answers_11 : decode cX6_answers 11 = .ok (.goto 4, 3) := dk_167 0 4 (dk_at dksX6_answers_0 11 rfl rfl)
theorem dX6_answers_14 : decode cX6_answers 14 = .ok (.iconst 0, 1) := dk_3 (dk_at dksX6_answers_0 14 rfl rfl)
theorem dX6_answers_15 : decode cX6_answers 15 = .ok (.iconst 1, 1) := dk_4 (dk_at dksX6_answers_0 15 rfl rfl)
theorem dX6_answers_16 : decode cX6_answers 16 = .ok (.invokevirtual 164, 3) := dk_182 0 164 (dk_at dksX6_answers_0 16 rfl rfl)
theorem dX6_answers_19 : decode cX6_answers 19 = .ok (.ifCond .eq 5, 3) := dk_153 0 5 (dk_at dksX6_answers_0 19 rfl rfl)
theorem dX6_answers_22 : decode cX6_answers 22 = .ok (.iconst 0, 1) := dk_3 (dk_at dksX6_answers_0 22 rfl rfl)
theorem dX6_answers_23 : decode cX6_answers 23 = .ok (.ireturn, 1) := dk_172 (dk_at dksX6_answers_0 23 rfl rfl)
theorem dX6_answers_24 : decode cX6_answers 24 = .ok (.aload_n 0, 1) := dk_42 (dk_at dksX6_answers_1 0 rfl rfl)
theorem dX6_answers_25 : decode cX6_answers 25 = .ok (.invokevirtual 158, 3) := dk_182 0 158 (dk_at dksX6_answers_1 1 rfl rfl)
theorem dX6_answers_28 : decode cX6_answers 28 = .ok (.iconst 0, 1) := dk_3 (dk_at dksX6_answers_1 4 rfl rfl)
theorem dX6_answers_29 : decode cX6_answers 29 = .ok (.istore 4, 2) := dk_54 4 (dk_at dksX6_answers_1 5 rfl rfl)
theorem dX6_answers_31 : decode cX6_answers 31 = .ok (.iconst 0, 1) := dk_3 (dk_at dksX6_answers_1 7 rfl rfl)
theorem dX6_answers_32 : decode cX6_answers 32 = .ok (.istore 5, 2) := dk_54 5 (dk_at dksX6_answers_1 8 rfl rfl)
theorem dX6_answers_34 : decode cX6_answers 34 = .ok (.iload 5, 2) := dk_21 5 (dk_at dksX6_answers_1 10 rfl rfl)
theorem dX6_answers_36 : decode cX6_answers 36 = .ok (.sipush 440, 3) := dk_17 1 184 (dk_at dksX6_answers_1 12 rfl rfl)
theorem dX6_answers_39 : decode cX6_answers 39 = .ok (.if_icmp .ge 31, 3) := dk_162 0 31 (dk_at dksX6_answers_1 15 rfl rfl)
theorem dX6_answers_42 : decode cX6_answers 42 = .ok (.iload 4, 2) := dk_21 4 (dk_at dksX6_answers_1 18 rfl rfl)
theorem dX6_answers_44 : decode cX6_answers 44 = .ok (.aload_n 0, 1) := dk_42 (dk_at dksX6_answers_1 20 rfl rfl)
theorem dX6_answers_45 : decode cX6_answers 45 = .ok (.iload 5, 2) := dk_21 5 (dk_at dksX6_answers_1 21 rfl rfl)
theorem dX6_answers_47 : decode cX6_answers 47 = .ok (.iload_n 1, 1) := dk_27 (dk_at dksX6_answers_1 23 rfl rfl)
theorem dX6_answers_48 : decode cX6_answers 48 = .ok (.iload_n 2, 1) := dk_28 (dk_at dksX6_answers_2 0 rfl rfl)
theorem dX6_answers_49 : decode cX6_answers 49 = .ok (.iload_n 3, 1) := dk_29 (dk_at dksX6_answers_2 1 rfl rfl)
theorem dX6_answers_50 : decode cX6_answers 50 = .ok (.invokevirtual 242, 3) := dk_182 0 242 (dk_at dksX6_answers_2 2 rfl rfl)
theorem dX6_answers_53 : decode cX6_answers 53 = .ok (.ifCond .eq 7, 3) := dk_153 0 7 (dk_at dksX6_answers_2 5 rfl rfl)
theorem dX6_answers_56 : decode cX6_answers 56 = .ok (.iconst 1, 1) := dk_4 (dk_at dksX6_answers_2 8 rfl rfl)
theorem dX6_answers_57 : decode cX6_answers 57 = .ok (.goto 4, 3) := dk_167 0 4 (dk_at dksX6_answers_2 9 rfl rfl)
theorem dX6_answers_60 : decode cX6_answers 60 = .ok (.iconst 0, 1) := dk_3 (dk_at dksX6_answers_2 12 rfl rfl)
theorem dX6_answers_61 : decode cX6_answers 61 = .ok (.iadd, 1) := dk_96 (dk_at dksX6_answers_2 13 rfl rfl)
theorem dX6_answers_62 : decode cX6_answers 62 = .ok (.istore 4, 2) := dk_54 4 (dk_at dksX6_answers_2 14 rfl rfl)
theorem dX6_answers_64 : decode cX6_answers 64 = .ok (.iinc 5 1, 3) := dk_132 5 1 (dk_at dksX6_answers_2 16 rfl rfl)
theorem dX6_answers_67 : decode cX6_answers 67 = .ok (.goto (-33), 3) := dk_167 255 223 (dk_at dksX6_answers_2 19 rfl rfl)
theorem dX6_answers_70 : decode cX6_answers 70 = .ok (.iload 4, 2) := dk_21 4 (dk_at dksX6_answers_2 22 rfl rfl)
theorem dX6_answers_72 : decode cX6_answers 72 = .ok (.ireturn, 1) := dk_172 (dk_at dksX6_answers_3 0 rfl rfl)
abbrev cX6_isGoal : ByteArray := prog_28_method_66_code
def yX6_isGoal : MethodName := ⟨RX6, "isGoal", "(III)Z"⟩
def dkwX6_isGoal_2 : List UInt8 := [160, 0, 7, 4, 167, 0, 4, 3, 172]
abbrev dktX6_isGoal_2 : List UInt8 := dkwX6_isGoal_2 ++ []
def dkwX6_isGoal_1 : List UInt8 := [153, 0, 31, 26, 16, 101, 162, 0, 16, 28, 2, 16, 9, 184, 0, 77, 153, 0, 15, 167, 0, 8, 28, 2]
abbrev dktX6_isGoal_1 : List UInt8 := dkwX6_isGoal_1 ++ dktX6_isGoal_2
def dkwX6_isGoal_0 : List UInt8 := [26, 184, 0, 81, 153, 0, 17, 27, 2, 16, 9, 184, 0, 77, 153, 0, 7, 4, 167, 0, 4, 3, 62, 29]
abbrev dktX6_isGoal_0 : List UInt8 := dkwX6_isGoal_0 ++ dktX6_isGoal_1
theorem dksX6_isGoal_0 : cX6_isGoal.data.toList.drop 0 = dktX6_isGoal_0 := by decide +kernel
theorem dksX6_isGoal_1 : cX6_isGoal.data.toList.drop 24 = dktX6_isGoal_1 := dk_seg dksX6_isGoal_0 24 rfl rfl
theorem dksX6_isGoal_2 : cX6_isGoal.data.toList.drop 48 = dktX6_isGoal_2 := dk_seg dksX6_isGoal_1 24 rfl rfl
theorem dX6_isGoal_0 : decode cX6_isGoal 0 = .ok (.iload_n 0, 1) := dk_26 (dk_at dksX6_isGoal_0 0 rfl rfl)
theorem dX6_isGoal_1 : decode cX6_isGoal 1 = .ok (.invokestatic 81, 3) := dk_184 0 81 (dk_at dksX6_isGoal_0 1 rfl rfl)
theorem dX6_isGoal_4 : decode cX6_isGoal 4 = .ok (.ifCond .eq 17, 3) := dk_153 0 17 (dk_at dksX6_isGoal_0 4 rfl rfl)
theorem dX6_isGoal_7 : decode cX6_isGoal 7 = .ok (.iload_n 1, 1) := dk_27 (dk_at dksX6_isGoal_0 7 rfl rfl)
theorem dX6_isGoal_8 : decode cX6_isGoal 8 = .ok (.iconst (-1), 1) := dk_2 (dk_at dksX6_isGoal_0 8 rfl rfl)
theorem dX6_isGoal_9 : decode cX6_isGoal 9 = .ok (.bipush 9, 2) := dk_16 9 (dk_at dksX6_isGoal_0 9 rfl rfl)
theorem dX6_isGoal_11 : decode cX6_isGoal 11 = .ok (.invokestatic 77, 3) := dk_184 0 77 (dk_at dksX6_isGoal_0 11 rfl rfl)
theorem dX6_isGoal_14 : decode cX6_isGoal 14 = .ok (.ifCond .eq 7, 3) := dk_153 0 7 (dk_at dksX6_isGoal_0 14 rfl rfl)
theorem dX6_isGoal_17 : decode cX6_isGoal 17 = .ok (.iconst 1, 1) := dk_4 (dk_at dksX6_isGoal_0 17 rfl rfl)
theorem dX6_isGoal_18 : decode cX6_isGoal 18 = .ok (.goto 4, 3) := dk_167 0 4 (dk_at dksX6_isGoal_0 18 rfl rfl)
theorem dX6_isGoal_21 : decode cX6_isGoal 21 = .ok (.iconst 0, 1) := dk_3 (dk_at dksX6_isGoal_0 21 rfl rfl)
theorem dX6_isGoal_22 : decode cX6_isGoal 22 = .ok (.istore_n 3, 1) := dk_62 (dk_at dksX6_isGoal_0 22 rfl rfl)
theorem dX6_isGoal_23 : decode cX6_isGoal 23 = .ok (.iload_n 3, 1) := dk_29 (dk_at dksX6_isGoal_0 23 rfl rfl)
theorem dX6_isGoal_24 : decode cX6_isGoal 24 = .ok (.ifCond .eq 31, 3) := dk_153 0 31 (dk_at dksX6_isGoal_1 0 rfl rfl)
theorem dX6_isGoal_27 : decode cX6_isGoal 27 = .ok (.iload_n 0, 1) := dk_26 (dk_at dksX6_isGoal_1 3 rfl rfl)
theorem dX6_isGoal_28 : decode cX6_isGoal 28 = .ok (.bipush 101, 2) := dk_16 101 (dk_at dksX6_isGoal_1 4 rfl rfl)
theorem dX6_isGoal_30 : decode cX6_isGoal 30 = .ok (.if_icmp .ge 16, 3) := dk_162 0 16 (dk_at dksX6_isGoal_1 6 rfl rfl)
theorem dX6_isGoal_33 : decode cX6_isGoal 33 = .ok (.iload_n 2, 1) := dk_28 (dk_at dksX6_isGoal_1 9 rfl rfl)
theorem dX6_isGoal_34 : decode cX6_isGoal 34 = .ok (.iconst (-1), 1) := dk_2 (dk_at dksX6_isGoal_1 10 rfl rfl)
theorem dX6_isGoal_35 : decode cX6_isGoal 35 = .ok (.bipush 9, 2) := dk_16 9 (dk_at dksX6_isGoal_1 11 rfl rfl)
theorem dX6_isGoal_37 : decode cX6_isGoal 37 = .ok (.invokestatic 77, 3) := dk_184 0 77 (dk_at dksX6_isGoal_1 13 rfl rfl)
theorem dX6_isGoal_40 : decode cX6_isGoal 40 = .ok (.ifCond .eq 15, 3) := dk_153 0 15 (dk_at dksX6_isGoal_1 16 rfl rfl)
theorem dX6_isGoal_43 : decode cX6_isGoal 43 = .ok (.goto 8, 3) := dk_167 0 8 (dk_at dksX6_isGoal_1 19 rfl rfl)
theorem dX6_isGoal_46 : decode cX6_isGoal 46 = .ok (.iload_n 2, 1) := dk_28 (dk_at dksX6_isGoal_1 22 rfl rfl)
theorem dX6_isGoal_47 : decode cX6_isGoal 47 = .ok (.iconst (-1), 1) := dk_2 (dk_at dksX6_isGoal_1 23 rfl rfl)
theorem dX6_isGoal_48 : decode cX6_isGoal 48 = .ok (.if_icmp .ne 7, 3) := dk_160 0 7 (dk_at dksX6_isGoal_2 0 rfl rfl)
theorem dX6_isGoal_51 : decode cX6_isGoal 51 = .ok (.iconst 1, 1) := dk_4 (dk_at dksX6_isGoal_2 3 rfl rfl)
theorem dX6_isGoal_52 : decode cX6_isGoal 52 = .ok (.goto 4, 3) := dk_167 0 4 (dk_at dksX6_isGoal_2 4 rfl rfl)
theorem dX6_isGoal_55 : decode cX6_isGoal 55 = .ok (.iconst 0, 1) := dk_3 (dk_at dksX6_isGoal_2 7 rfl rfl)
theorem dX6_isGoal_56 : decode cX6_isGoal 56 = .ok (.ireturn, 1) := dk_172 (dk_at dksX6_isGoal_2 8 rfl rfl)
abbrev cX6_isAnswer : ByteArray := prog_28_method_67_code
def yX6_isAnswer : MethodName := ⟨RX6, "isAnswer", "(IIII)Z"⟩
def dkwX6_isAnswer_3 : List UInt8 := [21, 4, 160, 0, 7, 4, 167, 0, 4, 3, 172]
abbrev dktX6_isAnswer_3 : List UInt8 := dkwX6_isAnswer_3 ++ []
def dkwX6_isAnswer_2 : List UInt8 := [155, 0, 14, 27, 16, 10, 108, 16, 10, 112, 29, 160, 0, 21, 21, 4, 155, 0, 12, 27, 16, 10, 112]
abbrev dktX6_isAnswer_2 : List UInt8 := dkwX6_isAnswer_2 ++ dktX6_isAnswer_3
def dkwX6_isAnswer_1 : List UInt8 := [16, 101, 161, 0, 21, 29, 155, 0, 11, 27, 16, 10, 112, 29, 160, 0, 7, 4, 167, 0, 4, 3, 172, 29]
abbrev dktX6_isAnswer_1 : List UInt8 := dkwX6_isAnswer_1 ++ dktX6_isAnswer_2
def dkwX6_isAnswer_0 : List UInt8 := [42, 180, 0, 37, 27, 51, 153, 0, 14, 27, 184, 0, 236, 28, 16, 97, 100, 159, 0, 5, 3, 172, 28]
abbrev dktX6_isAnswer_0 : List UInt8 := dkwX6_isAnswer_0 ++ dktX6_isAnswer_1
theorem dksX6_isAnswer_0 : cX6_isAnswer.data.toList.drop 0 = dktX6_isAnswer_0 := by decide +kernel
theorem dksX6_isAnswer_1 : cX6_isAnswer.data.toList.drop 23 = dktX6_isAnswer_1 := dk_seg dksX6_isAnswer_0 23 rfl rfl
theorem dksX6_isAnswer_2 : cX6_isAnswer.data.toList.drop 47 = dktX6_isAnswer_2 := dk_seg dksX6_isAnswer_1 24 rfl rfl
theorem dksX6_isAnswer_3 : cX6_isAnswer.data.toList.drop 70 = dktX6_isAnswer_3 := dk_seg dksX6_isAnswer_2 23 rfl rfl
theorem dX6_isAnswer_0 : decode cX6_isAnswer 0 = .ok (.aload_n 0, 1) := dk_42 (dk_at dksX6_isAnswer_0 0 rfl rfl)
theorem dX6_isAnswer_1 : decode cX6_isAnswer 1 = .ok (.getfield 37, 3) := dk_180 0 37 (dk_at dksX6_isAnswer_0 1 rfl rfl)
theorem dX6_isAnswer_4 : decode cX6_isAnswer 4 = .ok (.iload_n 1, 1) := dk_27 (dk_at dksX6_isAnswer_0 4 rfl rfl)
theorem dX6_isAnswer_5 : decode cX6_isAnswer 5 = .ok (.baload, 1) := dk_51 (dk_at dksX6_isAnswer_0 5 rfl rfl)
theorem dX6_isAnswer_6 : decode cX6_isAnswer 6 = .ok (.ifCond .eq 14, 3) := dk_153 0 14 (dk_at dksX6_isAnswer_0 6 rfl rfl)
theorem dX6_isAnswer_9 : decode cX6_isAnswer 9 = .ok (.iload_n 1, 1) := dk_27 (dk_at dksX6_isAnswer_0 9 rfl rfl)
theorem dX6_isAnswer_10 : decode cX6_isAnswer 10 = .ok (.invokestatic 236, 3) := dk_184 0 236 (dk_at dksX6_isAnswer_0 10 rfl rfl)
theorem dX6_isAnswer_13 : decode cX6_isAnswer 13 = .ok (.iload_n 2, 1) := dk_28 (dk_at dksX6_isAnswer_0 13 rfl rfl)
theorem dX6_isAnswer_14 : decode cX6_isAnswer 14 = .ok (.bipush 97, 2) := dk_16 97 (dk_at dksX6_isAnswer_0 14 rfl rfl)
theorem dX6_isAnswer_16 : decode cX6_isAnswer 16 = .ok (.isub, 1) := dk_100 (dk_at dksX6_isAnswer_0 16 rfl rfl)
theorem dX6_isAnswer_17 : decode cX6_isAnswer 17 = .ok (.if_icmp .eq 5, 3) := dk_159 0 5 (dk_at dksX6_isAnswer_0 17 rfl rfl)
theorem dX6_isAnswer_20 : decode cX6_isAnswer 20 = .ok (.iconst 0, 1) := dk_3 (dk_at dksX6_isAnswer_0 20 rfl rfl)
theorem dX6_isAnswer_21 : decode cX6_isAnswer 21 = .ok (.ireturn, 1) := dk_172 (dk_at dksX6_isAnswer_0 21 rfl rfl)
theorem dX6_isAnswer_22 : decode cX6_isAnswer 22 = .ok (.iload_n 2, 1) := dk_28 (dk_at dksX6_isAnswer_0 22 rfl rfl)
theorem dX6_isAnswer_23 : decode cX6_isAnswer 23 = .ok (.bipush 101, 2) := dk_16 101 (dk_at dksX6_isAnswer_1 0 rfl rfl)
theorem dX6_isAnswer_25 : decode cX6_isAnswer 25 = .ok (.if_icmp .lt 21, 3) := dk_161 0 21 (dk_at dksX6_isAnswer_1 2 rfl rfl)
theorem dX6_isAnswer_28 : decode cX6_isAnswer 28 = .ok (.iload_n 3, 1) := dk_29 (dk_at dksX6_isAnswer_1 5 rfl rfl)
theorem dX6_isAnswer_29 : decode cX6_isAnswer 29 = .ok (.ifCond .lt 11, 3) := dk_155 0 11 (dk_at dksX6_isAnswer_1 6 rfl rfl)
theorem dX6_isAnswer_32 : decode cX6_isAnswer 32 = .ok (.iload_n 1, 1) := dk_27 (dk_at dksX6_isAnswer_1 9 rfl rfl)
theorem dX6_isAnswer_33 : decode cX6_isAnswer 33 = .ok (.bipush 10, 2) := dk_16 10 (dk_at dksX6_isAnswer_1 10 rfl rfl)
theorem dX6_isAnswer_35 : decode cX6_isAnswer 35 = .ok (.irem, 1) := dk_112 (dk_at dksX6_isAnswer_1 12 rfl rfl)
theorem dX6_isAnswer_36 : decode cX6_isAnswer 36 = .ok (.iload_n 3, 1) := dk_29 (dk_at dksX6_isAnswer_1 13 rfl rfl)
theorem dX6_isAnswer_37 : decode cX6_isAnswer 37 = .ok (.if_icmp .ne 7, 3) := dk_160 0 7 (dk_at dksX6_isAnswer_1 14 rfl rfl)
theorem dX6_isAnswer_40 : decode cX6_isAnswer 40 = .ok (.iconst 1, 1) := dk_4 (dk_at dksX6_isAnswer_1 17 rfl rfl)
theorem dX6_isAnswer_41 : decode cX6_isAnswer 41 = .ok (.goto 4, 3) := dk_167 0 4 (dk_at dksX6_isAnswer_1 18 rfl rfl)
theorem dX6_isAnswer_44 : decode cX6_isAnswer 44 = .ok (.iconst 0, 1) := dk_3 (dk_at dksX6_isAnswer_1 21 rfl rfl)
theorem dX6_isAnswer_45 : decode cX6_isAnswer 45 = .ok (.ireturn, 1) := dk_172 (dk_at dksX6_isAnswer_1 22 rfl rfl)
theorem dX6_isAnswer_46 : decode cX6_isAnswer 46 = .ok (.iload_n 3, 1) := dk_29 (dk_at dksX6_isAnswer_1 23 rfl rfl)
theorem dX6_isAnswer_47 : decode cX6_isAnswer 47 = .ok (.ifCond .lt 14, 3) := dk_155 0 14 (dk_at dksX6_isAnswer_2 0 rfl rfl)
theorem dX6_isAnswer_50 : decode cX6_isAnswer 50 = .ok (.iload_n 1, 1) := dk_27 (dk_at dksX6_isAnswer_2 3 rfl rfl)
theorem dX6_isAnswer_51 : decode cX6_isAnswer 51 = .ok (.bipush 10, 2) := dk_16 10 (dk_at dksX6_isAnswer_2 4 rfl rfl)
theorem dX6_isAnswer_53 : decode cX6_isAnswer 53 = .ok (.idiv, 1) := dk_108 (dk_at dksX6_isAnswer_2 6 rfl rfl)
theorem dX6_isAnswer_54 : decode cX6_isAnswer 54 = .ok (.bipush 10, 2) := dk_16 10 (dk_at dksX6_isAnswer_2 7 rfl rfl)
theorem dX6_isAnswer_56 : decode cX6_isAnswer 56 = .ok (.irem, 1) := dk_112 (dk_at dksX6_isAnswer_2 9 rfl rfl)
theorem dX6_isAnswer_57 : decode cX6_isAnswer 57 = .ok (.iload_n 3, 1) := dk_29 (dk_at dksX6_isAnswer_2 10 rfl rfl)
theorem dX6_isAnswer_58 : decode cX6_isAnswer 58 = .ok (.if_icmp .ne 21, 3) := dk_160 0 21 (dk_at dksX6_isAnswer_2 11 rfl rfl)
theorem dX6_isAnswer_61 : decode cX6_isAnswer 61 = .ok (.iload 4, 2) := dk_21 4 (dk_at dksX6_isAnswer_2 14 rfl rfl)
theorem dX6_isAnswer_63 : decode cX6_isAnswer 63 = .ok (.ifCond .lt 12, 3) := dk_155 0 12 (dk_at dksX6_isAnswer_2 16 rfl rfl)
theorem dX6_isAnswer_66 : decode cX6_isAnswer 66 = .ok (.iload_n 1, 1) := dk_27 (dk_at dksX6_isAnswer_2 19 rfl rfl)
theorem dX6_isAnswer_67 : decode cX6_isAnswer 67 = .ok (.bipush 10, 2) := dk_16 10 (dk_at dksX6_isAnswer_2 20 rfl rfl)
theorem dX6_isAnswer_69 : decode cX6_isAnswer 69 = .ok (.irem, 1) := dk_112 (dk_at dksX6_isAnswer_2 22 rfl rfl)
theorem dX6_isAnswer_70 : decode cX6_isAnswer 70 = .ok (.iload 4, 2) := dk_21 4 (dk_at dksX6_isAnswer_3 0 rfl rfl)
theorem dX6_isAnswer_72 : decode cX6_isAnswer 72 = .ok (.if_icmp .ne 7, 3) := dk_160 0 7 (dk_at dksX6_isAnswer_3 2 rfl rfl)
theorem dX6_isAnswer_75 : decode cX6_isAnswer 75 = .ok (.iconst 1, 1) := dk_4 (dk_at dksX6_isAnswer_3 5 rfl rfl)
theorem dX6_isAnswer_76 : decode cX6_isAnswer 76 = .ok (.goto 4, 3) := dk_167 0 4 (dk_at dksX6_isAnswer_3 6 rfl rfl)
theorem dX6_isAnswer_79 : decode cX6_isAnswer 79 = .ok (.iconst 0, 1) := dk_3 (dk_at dksX6_isAnswer_3 9 rfl rfl)
theorem dX6_isAnswer_80 : decode cX6_isAnswer 80 = .ok (.ireturn, 1) := dk_172 (dk_at dksX6_isAnswer_3 10 rfl rfl)
abbrev cX6_predicate : ByteArray := prog_28_method_13_code
def yX6_predicate : MethodName := ⟨RX6, "predicate", "(I)I"⟩
def dkwX6_predicate_1 : List UInt8 := [172]
abbrev dktX6_predicate_1 : List UInt8 := dkwX6_predicate_1 ++ []
def dkwX6_predicate_0 : List UInt8 := [26, 17, 1, 144, 162, 0, 10, 26, 16, 100, 108, 167, 0, 13, 7, 26, 17, 1, 144, 100, 16, 10, 108, 96]
abbrev dktX6_predicate_0 : List UInt8 := dkwX6_predicate_0 ++ dktX6_predicate_1
theorem dksX6_predicate_0 : cX6_predicate.data.toList.drop 0 = dktX6_predicate_0 := by decide +kernel
theorem dksX6_predicate_1 : cX6_predicate.data.toList.drop 24 = dktX6_predicate_1 := dk_seg dksX6_predicate_0 24 rfl rfl
theorem dX6_predicate_0 : decode cX6_predicate 0 = .ok (.iload_n 0, 1) := dk_26 (dk_at dksX6_predicate_0 0 rfl rfl)
theorem dX6_predicate_1 : decode cX6_predicate 1 = .ok (.sipush 400, 3) := dk_17 1 144 (dk_at dksX6_predicate_0 1 rfl rfl)
theorem dX6_predicate_4 : decode cX6_predicate 4 = .ok (.if_icmp .ge 10, 3) := dk_162 0 10 (dk_at dksX6_predicate_0 4 rfl rfl)
theorem dX6_predicate_7 : decode cX6_predicate 7 = .ok (.iload_n 0, 1) := dk_26 (dk_at dksX6_predicate_0 7 rfl rfl)
theorem dX6_predicate_8 : decode cX6_predicate 8 = .ok (.bipush 100, 2) := dk_16 100 (dk_at dksX6_predicate_0 8 rfl rfl)
theorem dX6_predicate_10 : decode cX6_predicate 10 = .ok (.idiv, 1) := dk_108 (dk_at dksX6_predicate_0 10 rfl rfl)
theorem dX6_predicate_11 : decode cX6_predicate 11 = .ok (.goto 13, 3) := dk_167 0 13 (dk_at dksX6_predicate_0 11 rfl rfl)
theorem dX6_predicate_14 : decode cX6_predicate 14 = .ok (.iconst 4, 1) := dk_7 (dk_at dksX6_predicate_0 14 rfl rfl)
theorem dX6_predicate_15 : decode cX6_predicate 15 = .ok (.iload_n 0, 1) := dk_26 (dk_at dksX6_predicate_0 15 rfl rfl)
theorem dX6_predicate_16 : decode cX6_predicate 16 = .ok (.sipush 400, 3) := dk_17 1 144 (dk_at dksX6_predicate_0 16 rfl rfl)
theorem dX6_predicate_19 : decode cX6_predicate 19 = .ok (.isub, 1) := dk_100 (dk_at dksX6_predicate_0 19 rfl rfl)
theorem dX6_predicate_20 : decode cX6_predicate 20 = .ok (.bipush 10, 2) := dk_16 10 (dk_at dksX6_predicate_0 20 rfl rfl)
theorem dX6_predicate_22 : decode cX6_predicate 22 = .ok (.idiv, 1) := dk_108 (dk_at dksX6_predicate_0 22 rfl rfl)
theorem dX6_predicate_23 : decode cX6_predicate 23 = .ok (.iadd, 1) := dk_96 (dk_at dksX6_predicate_0 23 rfl rfl)
theorem dX6_predicate_24 : decode cX6_predicate 24 = .ok (.ireturn, 1) := dk_172 (dk_at dksX6_predicate_1 0 rfl rfl)
abbrev cX6_answersByGoals : ByteArray := prog_28_method_69_code
def yX6_answersByGoals : MethodName := ⟨RX6, "answersByGoals", "(CII)I"⟩
def dkwX6_answersByGoals_0 : List UInt8 := [42, 27, 28, 29, 182, 0, 246, 172]
abbrev dktX6_answersByGoals_0 : List UInt8 := dkwX6_answersByGoals_0 ++ []
theorem dksX6_answersByGoals_0 : cX6_answersByGoals.data.toList.drop 0 = dktX6_answersByGoals_0 := by decide +kernel
theorem dX6_answersByGoals_0 : decode cX6_answersByGoals 0 = .ok (.aload_n 0, 1) := dk_42 (dk_at dksX6_answersByGoals_0 0 rfl rfl)
theorem dX6_answersByGoals_1 : decode cX6_answersByGoals 1 = .ok (.iload_n 1, 1) := dk_27 (dk_at dksX6_answersByGoals_0 1 rfl rfl)
theorem dX6_answersByGoals_2 : decode cX6_answersByGoals 2 = .ok (.iload_n 2, 1) := dk_28 (dk_at dksX6_answersByGoals_0 2 rfl rfl)
theorem dX6_answersByGoals_3 : decode cX6_answersByGoals 3 = .ok (.iload_n 3, 1) := dk_29 (dk_at dksX6_answersByGoals_0 3 rfl rfl)
theorem dX6_answersByGoals_4 : decode cX6_answersByGoals 4 = .ok (.invokevirtual 246, 3) := dk_182 0 246 (dk_at dksX6_answersByGoals_0 4 rfl rfl)
theorem dX6_answersByGoals_7 : decode cX6_answersByGoals 7 = .ok (.ireturn, 1) := dk_172 (dk_at dksX6_answersByGoals_0 7 rfl rfl)
abbrev cX6_answerAt : ByteArray := prog_28_method_70_code
def yX6_answerAt : MethodName := ⟨RX6, "answerAt", "(CIII)I"⟩
def dkwX6_answerAt_4 : List UInt8 := [172]
abbrev dktX6_answerAt_4 : List UInt8 := dkwX6_answerAt_4 ++ []
def dkwX6_answerAt_3 : List UInt8 := [167, 0, 8, 21, 6, 16, 10, 112, 172, 132, 5, 1, 132, 6, 1, 167, 255, 203, 42, 5, 181, 0, 63, 3]
abbrev dktX6_answerAt_3 : List UInt8 := dkwX6_answerAt_3 ++ dktX6_answerAt_4
def dkwX6_answerAt_2 : List UInt8 := [182, 0, 242, 153, 0, 33, 21, 5, 21, 4, 160, 0, 23, 27, 16, 101, 162, 0, 11, 21, 6, 16, 100, 112]
abbrev dktX6_answerAt_2 : List UInt8 := dkwX6_answerAt_2 ++ dktX6_answerAt_3
def dkwX6_answerAt_1 : List UInt8 := [42, 182, 0, 158, 3, 54, 5, 3, 54, 6, 21, 6, 17, 1, 184, 162, 0, 51, 42, 21, 6, 27, 28, 29]
abbrev dktX6_answerAt_1 : List UInt8 := dkwX6_answerAt_1 ++ dktX6_answerAt_2
def dkwX6_answerAt_0 : List UInt8 := [42, 27, 28, 29, 184, 0, 239, 154, 0, 7, 4, 167, 0, 4, 3, 4, 182, 0, 164, 153, 0, 5, 3, 172]
abbrev dktX6_answerAt_0 : List UInt8 := dkwX6_answerAt_0 ++ dktX6_answerAt_1
theorem dksX6_answerAt_0 : cX6_answerAt.data.toList.drop 0 = dktX6_answerAt_0 := by decide +kernel
theorem dksX6_answerAt_1 : cX6_answerAt.data.toList.drop 24 = dktX6_answerAt_1 := dk_seg dksX6_answerAt_0 24 rfl rfl
theorem dksX6_answerAt_2 : cX6_answerAt.data.toList.drop 48 = dktX6_answerAt_2 := dk_seg dksX6_answerAt_1 24 rfl rfl
theorem dksX6_answerAt_3 : cX6_answerAt.data.toList.drop 72 = dktX6_answerAt_3 := dk_seg dksX6_answerAt_2 24 rfl rfl
theorem dksX6_answerAt_4 : cX6_answerAt.data.toList.drop 96 = dktX6_answerAt_4 := dk_seg dksX6_answerAt_3 24 rfl rfl
theorem dX6_answerAt_0 : decode cX6_answerAt 0 = .ok (.aload_n 0, 1) := dk_42 (dk_at dksX6_answerAt_0 0 rfl rfl)
theorem dX6_answerAt_1 : decode cX6_answerAt 1 = .ok (.iload_n 1, 1) := dk_27 (dk_at dksX6_answerAt_0 1 rfl rfl)
theorem dX6_answerAt_2 : decode cX6_answerAt 2 = .ok (.iload_n 2, 1) := dk_28 (dk_at dksX6_answerAt_0 2 rfl rfl)
theorem dX6_answerAt_3 : decode cX6_answerAt 3 = .ok (.iload_n 3, 1) := dk_29 (dk_at dksX6_answerAt_0 3 rfl rfl)
theorem dX6_answerAt_4 : decode cX6_answerAt 4 = .ok (.invokestatic 239, 3) := dk_184 0 239 (dk_at dksX6_answerAt_0 4 rfl rfl)
theorem dX6_answerAt_7 : decode cX6_answerAt 7 = .ok (.ifCond .ne 7, 3) := dk_154 0 7 (dk_at dksX6_answerAt_0 7 rfl rfl)
theorem dX6_answerAt_10 : decode cX6_answerAt 10 = .ok (.iconst 1, 1) := dk_4 (dk_at dksX6_answerAt_0 10 rfl rfl)
theorem dX6_answerAt_11 : decode cX6_answerAt 11 = .ok (.goto 4, 3) := dk_167 0 4 (dk_at dksX6_answerAt_0 11 rfl rfl)
theorem dX6_answerAt_14 : decode cX6_answerAt 14 = .ok (.iconst 0, 1) := dk_3 (dk_at dksX6_answerAt_0 14 rfl rfl)
theorem dX6_answerAt_15 : decode cX6_answerAt 15 = .ok (.iconst 1, 1) := dk_4 (dk_at dksX6_answerAt_0 15 rfl rfl)
theorem dX6_answerAt_16 : decode cX6_answerAt 16 = .ok (.invokevirtual 164, 3) := dk_182 0 164 (dk_at dksX6_answerAt_0 16 rfl rfl)
theorem dX6_answerAt_19 : decode cX6_answerAt 19 = .ok (.ifCond .eq 5, 3) := dk_153 0 5 (dk_at dksX6_answerAt_0 19 rfl rfl)
theorem dX6_answerAt_22 : decode cX6_answerAt 22 = .ok (.iconst 0, 1) := dk_3 (dk_at dksX6_answerAt_0 22 rfl rfl)
theorem dX6_answerAt_23 : decode cX6_answerAt 23 = .ok (.ireturn, 1) := dk_172 (dk_at dksX6_answerAt_0 23 rfl rfl)
theorem dX6_answerAt_24 : decode cX6_answerAt 24 = .ok (.aload_n 0, 1) := dk_42 (dk_at dksX6_answerAt_1 0 rfl rfl)
theorem dX6_answerAt_25 : decode cX6_answerAt 25 = .ok (.invokevirtual 158, 3) := dk_182 0 158 (dk_at dksX6_answerAt_1 1 rfl rfl)
theorem dX6_answerAt_28 : decode cX6_answerAt 28 = .ok (.iconst 0, 1) := dk_3 (dk_at dksX6_answerAt_1 4 rfl rfl)
theorem dX6_answerAt_29 : decode cX6_answerAt 29 = .ok (.istore 5, 2) := dk_54 5 (dk_at dksX6_answerAt_1 5 rfl rfl)
theorem dX6_answerAt_31 : decode cX6_answerAt 31 = .ok (.iconst 0, 1) := dk_3 (dk_at dksX6_answerAt_1 7 rfl rfl)
theorem dX6_answerAt_32 : decode cX6_answerAt 32 = .ok (.istore 6, 2) := dk_54 6 (dk_at dksX6_answerAt_1 8 rfl rfl)
theorem dX6_answerAt_34 : decode cX6_answerAt 34 = .ok (.iload 6, 2) := dk_21 6 (dk_at dksX6_answerAt_1 10 rfl rfl)
theorem dX6_answerAt_36 : decode cX6_answerAt 36 = .ok (.sipush 440, 3) := dk_17 1 184 (dk_at dksX6_answerAt_1 12 rfl rfl)
theorem dX6_answerAt_39 : decode cX6_answerAt 39 = .ok (.if_icmp .ge 51, 3) := dk_162 0 51 (dk_at dksX6_answerAt_1 15 rfl rfl)
theorem dX6_answerAt_42 : decode cX6_answerAt 42 = .ok (.aload_n 0, 1) := dk_42 (dk_at dksX6_answerAt_1 18 rfl rfl)
theorem dX6_answerAt_43 : decode cX6_answerAt 43 = .ok (.iload 6, 2) := dk_21 6 (dk_at dksX6_answerAt_1 19 rfl rfl)
theorem dX6_answerAt_45 : decode cX6_answerAt 45 = .ok (.iload_n 1, 1) := dk_27 (dk_at dksX6_answerAt_1 21 rfl rfl)
theorem dX6_answerAt_46 : decode cX6_answerAt 46 = .ok (.iload_n 2, 1) := dk_28 (dk_at dksX6_answerAt_1 22 rfl rfl)
theorem dX6_answerAt_47 : decode cX6_answerAt 47 = .ok (.iload_n 3, 1) := dk_29 (dk_at dksX6_answerAt_1 23 rfl rfl)
theorem dX6_answerAt_48 : decode cX6_answerAt 48 = .ok (.invokevirtual 242, 3) := dk_182 0 242 (dk_at dksX6_answerAt_2 0 rfl rfl)
theorem dX6_answerAt_51 : decode cX6_answerAt 51 = .ok (.ifCond .eq 33, 3) := dk_153 0 33 (dk_at dksX6_answerAt_2 3 rfl rfl)
theorem dX6_answerAt_54 : decode cX6_answerAt 54 = .ok (.iload 5, 2) := dk_21 5 (dk_at dksX6_answerAt_2 6 rfl rfl)
theorem dX6_answerAt_56 : decode cX6_answerAt 56 = .ok (.iload 4, 2) := dk_21 4 (dk_at dksX6_answerAt_2 8 rfl rfl)
theorem dX6_answerAt_58 : decode cX6_answerAt 58 = .ok (.if_icmp .ne 23, 3) := dk_160 0 23 (dk_at dksX6_answerAt_2 10 rfl rfl)
theorem dX6_answerAt_61 : decode cX6_answerAt 61 = .ok (.iload_n 1, 1) := dk_27 (dk_at dksX6_answerAt_2 13 rfl rfl)
theorem dX6_answerAt_62 : decode cX6_answerAt 62 = .ok (.bipush 101, 2) := dk_16 101 (dk_at dksX6_answerAt_2 14 rfl rfl)
theorem dX6_answerAt_64 : decode cX6_answerAt 64 = .ok (.if_icmp .ge 11, 3) := dk_162 0 11 (dk_at dksX6_answerAt_2 16 rfl rfl)
theorem dX6_answerAt_67 : decode cX6_answerAt 67 = .ok (.iload 6, 2) := dk_21 6 (dk_at dksX6_answerAt_2 19 rfl rfl)
theorem dX6_answerAt_69 : decode cX6_answerAt 69 = .ok (.bipush 100, 2) := dk_16 100 (dk_at dksX6_answerAt_2 21 rfl rfl)
theorem dX6_answerAt_71 : decode cX6_answerAt 71 = .ok (.irem, 1) := dk_112 (dk_at dksX6_answerAt_2 23 rfl rfl)
theorem dX6_answerAt_72 : decode cX6_answerAt 72 = .ok (.goto 8, 3) := dk_167 0 8 (dk_at dksX6_answerAt_3 0 rfl rfl)
theorem dX6_answerAt_75 : decode cX6_answerAt 75 = .ok (.iload 6, 2) := dk_21 6 (dk_at dksX6_answerAt_3 3 rfl rfl)
theorem dX6_answerAt_77 : decode cX6_answerAt 77 = .ok (.bipush 10, 2) := dk_16 10 (dk_at dksX6_answerAt_3 5 rfl rfl)
theorem dX6_answerAt_79 : decode cX6_answerAt 79 = .ok (.irem, 1) := dk_112 (dk_at dksX6_answerAt_3 7 rfl rfl)
theorem dX6_answerAt_80 : decode cX6_answerAt 80 = .ok (.ireturn, 1) := dk_172 (dk_at dksX6_answerAt_3 8 rfl rfl)
theorem dX6_answerAt_81 : decode cX6_answerAt 81 = .ok (.iinc 5 1, 3) := dk_132 5 1 (dk_at dksX6_answerAt_3 9 rfl rfl)
theorem dX6_answerAt_84 : decode cX6_answerAt 84 = .ok (.iinc 6 1, 3) := dk_132 6 1 (dk_at dksX6_answerAt_3 12 rfl rfl)
theorem dX6_answerAt_87 : decode cX6_answerAt 87 = .ok (.goto (-53), 3) := dk_167 255 203 (dk_at dksX6_answerAt_3 15 rfl rfl)
theorem dX6_answerAt_90 : decode cX6_answerAt 90 = .ok (.aload_n 0, 1) := dk_42 (dk_at dksX6_answerAt_3 18 rfl rfl)
theorem dX6_answerAt_91 : decode cX6_answerAt 91 = .ok (.iconst 2, 1) := dk_5 (dk_at dksX6_answerAt_3 19 rfl rfl)
theorem dX6_answerAt_92 : decode cX6_answerAt 92 = .ok (.putfield 63, 3) := dk_181 0 63 (dk_at dksX6_answerAt_3 20 rfl rfl)
theorem dX6_answerAt_95 : decode cX6_answerAt 95 = .ok (.iconst 0, 1) := dk_3 (dk_at dksX6_answerAt_3 23 rfl rfl)
theorem dX6_answerAt_96 : decode cX6_answerAt 96 = .ok (.ireturn, 1) := dk_172 (dk_at dksX6_answerAt_4 0 rfl rfl)
abbrev cX6_ruleCount : ByteArray := prog_28_method_71_code
def yX6_ruleCount : MethodName := ⟨RX6, "ruleCount", "()I"⟩
def dkwX6_ruleCount_0 : List UInt8 := [42, 3, 181, 0, 63, 42, 180, 0, 9, 6, 46, 172]
abbrev dktX6_ruleCount_0 : List UInt8 := dkwX6_ruleCount_0 ++ []
theorem dksX6_ruleCount_0 : cX6_ruleCount.data.toList.drop 0 = dktX6_ruleCount_0 := by decide +kernel
theorem dX6_ruleCount_0 : decode cX6_ruleCount 0 = .ok (.aload_n 0, 1) := dk_42 (dk_at dksX6_ruleCount_0 0 rfl rfl)
theorem dX6_ruleCount_1 : decode cX6_ruleCount 1 = .ok (.iconst 0, 1) := dk_3 (dk_at dksX6_ruleCount_0 1 rfl rfl)
theorem dX6_ruleCount_2 : decode cX6_ruleCount 2 = .ok (.putfield 63, 3) := dk_181 0 63 (dk_at dksX6_ruleCount_0 2 rfl rfl)
theorem dX6_ruleCount_5 : decode cX6_ruleCount 5 = .ok (.aload_n 0, 1) := dk_42 (dk_at dksX6_ruleCount_0 5 rfl rfl)
theorem dX6_ruleCount_6 : decode cX6_ruleCount 6 = .ok (.getfield 9, 3) := dk_180 0 9 (dk_at dksX6_ruleCount_0 6 rfl rfl)
theorem dX6_ruleCount_9 : decode cX6_ruleCount 9 = .ok (.iconst 3, 1) := dk_6 (dk_at dksX6_ruleCount_0 9 rfl rfl)
theorem dX6_ruleCount_10 : decode cX6_ruleCount 10 = .ok (.iaload, 1) := dk_46 (dk_at dksX6_ruleCount_0 10 rfl rfl)
theorem dX6_ruleCount_11 : decode cX6_ruleCount 11 = .ok (.ireturn, 1) := dk_172 (dk_at dksX6_ruleCount_0 11 rfl rfl)
abbrev cX6_variables : ByteArray := prog_28_method_72_code
def yX6_variables : MethodName := ⟨RX6, "variables", "(I)I"⟩
def dkwX6_variables_2 : List UInt8 := [3, 96, 61, 132, 3, 1, 167, 255, 230, 28, 172]
abbrev dktX6_variables_2 : List UInt8 := dkwX6_variables_2 ++ []
def dkwX6_variables_1 : List UInt8 := [61, 16, 10, 62, 29, 16, 13, 162, 0, 26, 28, 42, 27, 29, 182, 0, 99, 153, 0, 7, 4, 167, 0, 4]
abbrev dktX6_variables_1 : List UInt8 := dkwX6_variables_1 ++ dktX6_variables_2
def dkwX6_variables_0 : List UInt8 := [42, 42, 27, 182, 0, 196, 154, 0, 7, 4, 167, 0, 4, 3, 4, 182, 0, 164, 153, 0, 5, 3, 172, 3]
abbrev dktX6_variables_0 : List UInt8 := dkwX6_variables_0 ++ dktX6_variables_1
theorem dksX6_variables_0 : cX6_variables.data.toList.drop 0 = dktX6_variables_0 := by decide +kernel
theorem dksX6_variables_1 : cX6_variables.data.toList.drop 24 = dktX6_variables_1 := dk_seg dksX6_variables_0 24 rfl rfl
theorem dksX6_variables_2 : cX6_variables.data.toList.drop 48 = dktX6_variables_2 := dk_seg dksX6_variables_1 24 rfl rfl
theorem dX6_variables_0 : decode cX6_variables 0 = .ok (.aload_n 0, 1) := dk_42 (dk_at dksX6_variables_0 0 rfl rfl)
theorem dX6_variables_1 : decode cX6_variables 1 = .ok (.aload_n 0, 1) := dk_42 (dk_at dksX6_variables_0 1 rfl rfl)
theorem dX6_variables_2 : decode cX6_variables 2 = .ok (.iload_n 1, 1) := dk_27 (dk_at dksX6_variables_0 2 rfl rfl)
theorem dX6_variables_3 : decode cX6_variables 3 = .ok (.invokevirtual 196, 3) := dk_182 0 196 (dk_at dksX6_variables_0 3 rfl rfl)
theorem dX6_variables_6 : decode cX6_variables 6 = .ok (.ifCond .ne 7, 3) := dk_154 0 7 (dk_at dksX6_variables_0 6 rfl rfl)
theorem dX6_variables_9 : decode cX6_variables 9 = .ok (.iconst 1, 1) := dk_4 (dk_at dksX6_variables_0 9 rfl rfl)
theorem dX6_variables_10 : decode cX6_variables 10 = .ok (.goto 4, 3) := dk_167 0 4 (dk_at dksX6_variables_0 10 rfl rfl)
theorem dX6_variables_13 : decode cX6_variables 13 = .ok (.iconst 0, 1) := dk_3 (dk_at dksX6_variables_0 13 rfl rfl)
theorem dX6_variables_14 : decode cX6_variables 14 = .ok (.iconst 1, 1) := dk_4 (dk_at dksX6_variables_0 14 rfl rfl)
theorem dX6_variables_15 : decode cX6_variables 15 = .ok (.invokevirtual 164, 3) := dk_182 0 164 (dk_at dksX6_variables_0 15 rfl rfl)
theorem dX6_variables_18 : decode cX6_variables 18 = .ok (.ifCond .eq 5, 3) := dk_153 0 5 (dk_at dksX6_variables_0 18 rfl rfl)
theorem dX6_variables_21 : decode cX6_variables 21 = .ok (.iconst 0, 1) := dk_3 (dk_at dksX6_variables_0 21 rfl rfl)
theorem dX6_variables_22 : decode cX6_variables 22 = .ok (.ireturn, 1) := dk_172 (dk_at dksX6_variables_0 22 rfl rfl)
theorem dX6_variables_23 : decode cX6_variables 23 = .ok (.iconst 0, 1) := dk_3 (dk_at dksX6_variables_0 23 rfl rfl)
theorem dX6_variables_24 : decode cX6_variables 24 = .ok (.istore_n 2, 1) := dk_61 (dk_at dksX6_variables_1 0 rfl rfl)
theorem dX6_variables_25 : decode cX6_variables 25 = .ok (.bipush 10, 2) := dk_16 10 (dk_at dksX6_variables_1 1 rfl rfl)
theorem dX6_variables_27 : decode cX6_variables 27 = .ok (.istore_n 3, 1) := dk_62 (dk_at dksX6_variables_1 3 rfl rfl)
theorem dX6_variables_28 : decode cX6_variables 28 = .ok (.iload_n 3, 1) := dk_29 (dk_at dksX6_variables_1 4 rfl rfl)
theorem dX6_variables_29 : decode cX6_variables 29 = .ok (.bipush 13, 2) := dk_16 13 (dk_at dksX6_variables_1 5 rfl rfl)
theorem dX6_variables_31 : decode cX6_variables 31 = .ok (.if_icmp .ge 26, 3) := dk_162 0 26 (dk_at dksX6_variables_1 7 rfl rfl)
theorem dX6_variables_34 : decode cX6_variables 34 = .ok (.iload_n 2, 1) := dk_28 (dk_at dksX6_variables_1 10 rfl rfl)
theorem dX6_variables_35 : decode cX6_variables 35 = .ok (.aload_n 0, 1) := dk_42 (dk_at dksX6_variables_1 11 rfl rfl)
theorem dX6_variables_36 : decode cX6_variables 36 = .ok (.iload_n 1, 1) := dk_27 (dk_at dksX6_variables_1 12 rfl rfl)
theorem dX6_variables_37 : decode cX6_variables 37 = .ok (.iload_n 3, 1) := dk_29 (dk_at dksX6_variables_1 13 rfl rfl)
theorem dX6_variables_38 : decode cX6_variables 38 = .ok (.invokevirtual 99, 3) := dk_182 0 99 (dk_at dksX6_variables_1 14 rfl rfl)
theorem dX6_variables_41 : decode cX6_variables 41 = .ok (.ifCond .eq 7, 3) := dk_153 0 7 (dk_at dksX6_variables_1 17 rfl rfl)
theorem dX6_variables_44 : decode cX6_variables 44 = .ok (.iconst 1, 1) := dk_4 (dk_at dksX6_variables_1 20 rfl rfl)
theorem dX6_variables_45 : decode cX6_variables 45 = .ok (.goto 4, 3) := dk_167 0 4 (dk_at dksX6_variables_1 21 rfl rfl)
theorem dX6_variables_48 : decode cX6_variables 48 = .ok (.iconst 0, 1) := dk_3 (dk_at dksX6_variables_2 0 rfl rfl)
theorem dX6_variables_49 : decode cX6_variables 49 = .ok (.iadd, 1) := dk_96 (dk_at dksX6_variables_2 1 rfl rfl)
theorem dX6_variables_50 : decode cX6_variables 50 = .ok (.istore_n 2, 1) := dk_61 (dk_at dksX6_variables_2 2 rfl rfl)
theorem dX6_variables_51 : decode cX6_variables 51 = .ok (.iinc 3 1, 3) := dk_132 3 1 (dk_at dksX6_variables_2 3 rfl rfl)
theorem dX6_variables_54 : decode cX6_variables 54 = .ok (.goto (-26), 3) := dk_167 255 230 (dk_at dksX6_variables_2 6 rfl rfl)
theorem dX6_variables_57 : decode cX6_variables 57 = .ok (.iload_n 2, 1) := dk_28 (dk_at dksX6_variables_2 9 rfl rfl)
theorem dX6_variables_58 : decode cX6_variables 58 = .ok (.ireturn, 1) := dk_172 (dk_at dksX6_variables_2 10 rfl rfl)
abbrev cX6_isRecursive : ByteArray := prog_28_method_73_code
def yX6_isRecursive : MethodName := ⟨RX6, "isRecursive", "(I)Z"⟩
def dkwX6_isRecursive_3 : List UInt8 := [104, 28, 96, 51, 153, 0, 7, 4, 167, 0, 4, 3, 128, 62, 132, 4, 1, 167, 255, 206, 29, 172]
abbrev dktX6_isRecursive_3 : List UInt8 := dkwX6_isRecursive_3 ++ []
def dkwX6_isRecursive_2 : List UInt8 := [27, 21, 4, 3, 182, 0, 103, 153, 0, 28, 21, 4, 28, 159, 0, 18, 42, 180, 0, 44, 16, 8, 21, 4]
abbrev dktX6_isRecursive_2 : List UInt8 := dkwX6_isRecursive_2 ++ dktX6_isRecursive_3
def dkwX6_isRecursive_1 : List UInt8 := [182, 0, 107, 42, 27, 3, 182, 0, 92, 61, 3, 62, 3, 54, 4, 21, 4, 16, 8, 162, 0, 49, 29, 42]
abbrev dktX6_isRecursive_1 : List UInt8 := dkwX6_isRecursive_1 ++ dktX6_isRecursive_2
def dkwX6_isRecursive_0 : List UInt8 := [42, 42, 27, 182, 0, 196, 154, 0, 7, 4, 167, 0, 4, 3, 4, 182, 0, 164, 153, 0, 5, 3, 172, 42]
abbrev dktX6_isRecursive_0 : List UInt8 := dkwX6_isRecursive_0 ++ dktX6_isRecursive_1
theorem dksX6_isRecursive_0 : cX6_isRecursive.data.toList.drop 0 = dktX6_isRecursive_0 := by decide +kernel
theorem dksX6_isRecursive_1 : cX6_isRecursive.data.toList.drop 24 = dktX6_isRecursive_1 := dk_seg dksX6_isRecursive_0 24 rfl rfl
theorem dksX6_isRecursive_2 : cX6_isRecursive.data.toList.drop 48 = dktX6_isRecursive_2 := dk_seg dksX6_isRecursive_1 24 rfl rfl
theorem dksX6_isRecursive_3 : cX6_isRecursive.data.toList.drop 72 = dktX6_isRecursive_3 := dk_seg dksX6_isRecursive_2 24 rfl rfl
theorem dX6_isRecursive_0 : decode cX6_isRecursive 0 = .ok (.aload_n 0, 1) := dk_42 (dk_at dksX6_isRecursive_0 0 rfl rfl)
theorem dX6_isRecursive_1 : decode cX6_isRecursive 1 = .ok (.aload_n 0, 1) := dk_42 (dk_at dksX6_isRecursive_0 1 rfl rfl)
theorem dX6_isRecursive_2 : decode cX6_isRecursive 2 = .ok (.iload_n 1, 1) := dk_27 (dk_at dksX6_isRecursive_0 2 rfl rfl)
theorem dX6_isRecursive_3 : decode cX6_isRecursive 3 = .ok (.invokevirtual 196, 3) := dk_182 0 196 (dk_at dksX6_isRecursive_0 3 rfl rfl)
theorem dX6_isRecursive_6 : decode cX6_isRecursive 6 = .ok (.ifCond .ne 7, 3) := dk_154 0 7 (dk_at dksX6_isRecursive_0 6 rfl rfl)
theorem dX6_isRecursive_9 : decode cX6_isRecursive 9 = .ok (.iconst 1, 1) := dk_4 (dk_at dksX6_isRecursive_0 9 rfl rfl)
theorem dX6_isRecursive_10 : decode cX6_isRecursive 10 = .ok (.goto 4, 3) := dk_167 0 4 (dk_at dksX6_isRecursive_0 10 rfl rfl)
theorem dX6_isRecursive_13 : decode cX6_isRecursive 13 = .ok (.iconst 0, 1) := dk_3 (dk_at dksX6_isRecursive_0 13 rfl rfl)
theorem dX6_isRecursive_14 : decode cX6_isRecursive 14 = .ok (.iconst 1, 1) := dk_4 (dk_at dksX6_isRecursive_0 14 rfl rfl)
theorem dX6_isRecursive_15 : decode cX6_isRecursive 15 = .ok (.invokevirtual 164, 3) := dk_182 0 164 (dk_at dksX6_isRecursive_0 15 rfl rfl)
theorem dX6_isRecursive_18 : decode cX6_isRecursive 18 = .ok (.ifCond .eq 5, 3) := dk_153 0 5 (dk_at dksX6_isRecursive_0 18 rfl rfl)
theorem dX6_isRecursive_21 : decode cX6_isRecursive 21 = .ok (.iconst 0, 1) := dk_3 (dk_at dksX6_isRecursive_0 21 rfl rfl)
theorem dX6_isRecursive_22 : decode cX6_isRecursive 22 = .ok (.ireturn, 1) := dk_172 (dk_at dksX6_isRecursive_0 22 rfl rfl)
theorem dX6_isRecursive_23 : decode cX6_isRecursive 23 = .ok (.aload_n 0, 1) := dk_42 (dk_at dksX6_isRecursive_0 23 rfl rfl)
theorem dX6_isRecursive_24 : decode cX6_isRecursive 24 = .ok (.invokevirtual 107, 3) := dk_182 0 107 (dk_at dksX6_isRecursive_1 0 rfl rfl)
theorem dX6_isRecursive_27 : decode cX6_isRecursive 27 = .ok (.aload_n 0, 1) := dk_42 (dk_at dksX6_isRecursive_1 3 rfl rfl)
theorem dX6_isRecursive_28 : decode cX6_isRecursive 28 = .ok (.iload_n 1, 1) := dk_27 (dk_at dksX6_isRecursive_1 4 rfl rfl)
theorem dX6_isRecursive_29 : decode cX6_isRecursive 29 = .ok (.iconst 0, 1) := dk_3 (dk_at dksX6_isRecursive_1 5 rfl rfl)
theorem dX6_isRecursive_30 : decode cX6_isRecursive 30 = .ok (.invokevirtual 92, 3) := dk_182 0 92 (dk_at dksX6_isRecursive_1 6 rfl rfl)
theorem dX6_isRecursive_33 : decode cX6_isRecursive 33 = .ok (.istore_n 2, 1) := dk_61 (dk_at dksX6_isRecursive_1 9 rfl rfl)
theorem dX6_isRecursive_34 : decode cX6_isRecursive 34 = .ok (.iconst 0, 1) := dk_3 (dk_at dksX6_isRecursive_1 10 rfl rfl)
theorem dX6_isRecursive_35 : decode cX6_isRecursive 35 = .ok (.istore_n 3, 1) := dk_62 (dk_at dksX6_isRecursive_1 11 rfl rfl)
theorem dX6_isRecursive_36 : decode cX6_isRecursive 36 = .ok (.iconst 0, 1) := dk_3 (dk_at dksX6_isRecursive_1 12 rfl rfl)
theorem dX6_isRecursive_37 : decode cX6_isRecursive 37 = .ok (.istore 4, 2) := dk_54 4 (dk_at dksX6_isRecursive_1 13 rfl rfl)
theorem dX6_isRecursive_39 : decode cX6_isRecursive 39 = .ok (.iload 4, 2) := dk_21 4 (dk_at dksX6_isRecursive_1 15 rfl rfl)
theorem dX6_isRecursive_41 : decode cX6_isRecursive 41 = .ok (.bipush 8, 2) := dk_16 8 (dk_at dksX6_isRecursive_1 17 rfl rfl)
theorem dX6_isRecursive_43 : decode cX6_isRecursive 43 = .ok (.if_icmp .ge 49, 3) := dk_162 0 49 (dk_at dksX6_isRecursive_1 19 rfl rfl)
theorem dX6_isRecursive_46 : decode cX6_isRecursive 46 = .ok (.iload_n 3, 1) := dk_29 (dk_at dksX6_isRecursive_1 22 rfl rfl)
theorem dX6_isRecursive_47 : decode cX6_isRecursive 47 = .ok (.aload_n 0, 1) := dk_42 (dk_at dksX6_isRecursive_1 23 rfl rfl)
theorem dX6_isRecursive_48 : decode cX6_isRecursive 48 = .ok (.iload_n 1, 1) := dk_27 (dk_at dksX6_isRecursive_2 0 rfl rfl)
theorem dX6_isRecursive_49 : decode cX6_isRecursive 49 = .ok (.iload 4, 2) := dk_21 4 (dk_at dksX6_isRecursive_2 1 rfl rfl)
theorem dX6_isRecursive_51 : decode cX6_isRecursive 51 = .ok (.iconst 0, 1) := dk_3 (dk_at dksX6_isRecursive_2 3 rfl rfl)
theorem dX6_isRecursive_52 : decode cX6_isRecursive 52 = .ok (.invokevirtual 103, 3) := dk_182 0 103 (dk_at dksX6_isRecursive_2 4 rfl rfl)
theorem dX6_isRecursive_55 : decode cX6_isRecursive 55 = .ok (.ifCond .eq 28, 3) := dk_153 0 28 (dk_at dksX6_isRecursive_2 7 rfl rfl)
theorem dX6_isRecursive_58 : decode cX6_isRecursive 58 = .ok (.iload 4, 2) := dk_21 4 (dk_at dksX6_isRecursive_2 10 rfl rfl)
theorem dX6_isRecursive_60 : decode cX6_isRecursive 60 = .ok (.iload_n 2, 1) := dk_28 (dk_at dksX6_isRecursive_2 12 rfl rfl)
theorem dX6_isRecursive_61 : decode cX6_isRecursive 61 = .ok (.if_icmp .eq 18, 3) := dk_159 0 18 (dk_at dksX6_isRecursive_2 13 rfl rfl)
theorem dX6_isRecursive_64 : decode cX6_isRecursive 64 = .ok (.aload_n 0, 1) := dk_42 (dk_at dksX6_isRecursive_2 16 rfl rfl)
theorem dX6_isRecursive_65 : decode cX6_isRecursive 65 = .ok (.getfield 44, 3) := dk_180 0 44 (dk_at dksX6_isRecursive_2 17 rfl rfl)
theorem dX6_isRecursive_68 : decode cX6_isRecursive 68 = .ok (.bipush 8, 2) := dk_16 8 (dk_at dksX6_isRecursive_2 20 rfl rfl)
theorem dX6_isRecursive_70 : decode cX6_isRecursive 70 = .ok (.iload 4, 2) := dk_21 4 (dk_at dksX6_isRecursive_2 22 rfl rfl)
theorem dX6_isRecursive_72 : decode cX6_isRecursive 72 = .ok (.imul, 1) := dk_104 (dk_at dksX6_isRecursive_3 0 rfl rfl)
theorem dX6_isRecursive_73 : decode cX6_isRecursive 73 = .ok (.iload_n 2, 1) := dk_28 (dk_at dksX6_isRecursive_3 1 rfl rfl)
theorem dX6_isRecursive_74 : decode cX6_isRecursive 74 = .ok (.iadd, 1) := dk_96 (dk_at dksX6_isRecursive_3 2 rfl rfl)
theorem dX6_isRecursive_75 : decode cX6_isRecursive 75 = .ok (.baload, 1) := dk_51 (dk_at dksX6_isRecursive_3 3 rfl rfl)
theorem dX6_isRecursive_76 : decode cX6_isRecursive 76 = .ok (.ifCond .eq 7, 3) := dk_153 0 7 (dk_at dksX6_isRecursive_3 4 rfl rfl)
theorem dX6_isRecursive_79 : decode cX6_isRecursive 79 = .ok (.iconst 1, 1) := dk_4 (dk_at dksX6_isRecursive_3 7 rfl rfl)
theorem dX6_isRecursive_80 : decode cX6_isRecursive 80 = .ok (.goto 4, 3) := dk_167 0 4 (dk_at dksX6_isRecursive_3 8 rfl rfl)
theorem dX6_isRecursive_83 : decode cX6_isRecursive 83 = .ok (.iconst 0, 1) := dk_3 (dk_at dksX6_isRecursive_3 11 rfl rfl)
theorem dX6_isRecursive_84 : decode cX6_isRecursive 84 = .ok (.ior, 1) := dk_128 (dk_at dksX6_isRecursive_3 12 rfl rfl)
theorem dX6_isRecursive_85 : decode cX6_isRecursive 85 = .ok (.istore_n 3, 1) := dk_62 (dk_at dksX6_isRecursive_3 13 rfl rfl)
theorem dX6_isRecursive_86 : decode cX6_isRecursive 86 = .ok (.iinc 4 1, 3) := dk_132 4 1 (dk_at dksX6_isRecursive_3 14 rfl rfl)
theorem dX6_isRecursive_89 : decode cX6_isRecursive 89 = .ok (.goto (-50), 3) := dk_167 255 206 (dk_at dksX6_isRecursive_3 17 rfl rfl)
theorem dX6_isRecursive_92 : decode cX6_isRecursive 92 = .ok (.iload_n 3, 1) := dk_29 (dk_at dksX6_isRecursive_3 20 rfl rfl)
theorem dX6_isRecursive_93 : decode cX6_isRecursive 93 = .ok (.ireturn, 1) := dk_172 (dk_at dksX6_isRecursive_3 21 rfl rfl)
abbrev cX6_depends : ByteArray := prog_28_method_23_code
def yX6_depends : MethodName := ⟨RX6, "depends", "()V"⟩
def dkwX6_depends_6 : List UInt8 := [3, 128, 84, 132, 2, 1, 167, 255, 199, 132, 1, 1, 167, 255, 185, 177]
abbrev dktX6_depends_6 : List UInt8 := dkwX6_depends_6 ++ []
def dkwX6_depends_5 : List UInt8 := [153, 0, 24, 42, 180, 0, 44, 16, 8, 27, 104, 28, 16, 8, 112, 96, 51, 153, 0, 7, 4, 167, 0, 4]
abbrev dktX6_depends_5 : List UInt8 := dkwX6_depends_5 ++ dktX6_depends_6
def dkwX6_depends_4 : List UInt8 := [162, 0, 57, 42, 180, 0, 44, 28, 92, 51, 42, 180, 0, 44, 16, 8, 28, 16, 8, 108, 104, 27, 96, 51]
abbrev dktX6_depends_4 : List UInt8 := dkwX6_depends_4 ++ dktX6_depends_5
def dkwX6_depends_3 : List UInt8 := [167, 255, 221, 132, 1, 1, 167, 255, 203, 3, 60, 27, 16, 8, 162, 0, 71, 3, 61, 28, 16, 64]
abbrev dktX6_depends_3 : List UInt8 := dkwX6_depends_3 ++ dktX6_depends_4
def dkwX6_depends_2 : List UInt8 := [27, 3, 182, 0, 92, 104, 28, 96, 92, 51, 42, 27, 28, 3, 182, 0, 103, 128, 84, 132, 2, 1]
abbrev dktX6_depends_2 : List UInt8 := dkwX6_depends_2 ++ dktX6_depends_3
def dkwX6_depends_1 : List UInt8 := [42, 180, 0, 9, 6, 46, 162, 0, 49, 3, 61, 28, 16, 8, 162, 0, 35, 42, 180, 0, 44, 16, 8, 42]
abbrev dktX6_depends_1 : List UInt8 := dkwX6_depends_1 ++ dktX6_depends_2
def dkwX6_depends_0 : List UInt8 := [3, 60, 27, 16, 64, 162, 0, 16, 42, 180, 0, 44, 27, 3, 84, 132, 1, 1, 167, 255, 240, 3, 60, 27]
abbrev dktX6_depends_0 : List UInt8 := dkwX6_depends_0 ++ dktX6_depends_1
theorem dksX6_depends_0 : cX6_depends.data.toList.drop 0 = dktX6_depends_0 := by decide +kernel
theorem dksX6_depends_1 : cX6_depends.data.toList.drop 24 = dktX6_depends_1 := dk_seg dksX6_depends_0 24 rfl rfl
theorem dksX6_depends_2 : cX6_depends.data.toList.drop 48 = dktX6_depends_2 := dk_seg dksX6_depends_1 24 rfl rfl
theorem dksX6_depends_3 : cX6_depends.data.toList.drop 70 = dktX6_depends_3 := dk_seg dksX6_depends_2 22 rfl rfl
theorem dksX6_depends_4 : cX6_depends.data.toList.drop 92 = dktX6_depends_4 := dk_seg dksX6_depends_3 22 rfl rfl
theorem dksX6_depends_5 : cX6_depends.data.toList.drop 116 = dktX6_depends_5 := dk_seg dksX6_depends_4 24 rfl rfl
theorem dksX6_depends_6 : cX6_depends.data.toList.drop 140 = dktX6_depends_6 := dk_seg dksX6_depends_5 24 rfl rfl
theorem dX6_depends_0 : decode cX6_depends 0 = .ok (.iconst 0, 1) := dk_3 (dk_at dksX6_depends_0 0 rfl rfl)
theorem dX6_depends_1 : decode cX6_depends 1 = .ok (.istore_n 1, 1) := dk_60 (dk_at dksX6_depends_0 1 rfl rfl)
theorem dX6_depends_2 : decode cX6_depends 2 = .ok (.iload_n 1, 1) := dk_27 (dk_at dksX6_depends_0 2 rfl rfl)
theorem dX6_depends_3 : decode cX6_depends 3 = .ok (.bipush 64, 2) := dk_16 64 (dk_at dksX6_depends_0 3 rfl rfl)
theorem dX6_depends_5 : decode cX6_depends 5 = .ok (.if_icmp .ge 16, 3) := dk_162 0 16 (dk_at dksX6_depends_0 5 rfl rfl)
theorem dX6_depends_8 : decode cX6_depends 8 = .ok (.aload_n 0, 1) := dk_42 (dk_at dksX6_depends_0 8 rfl rfl)
theorem dX6_depends_9 : decode cX6_depends 9 = .ok (.getfield 44, 3) := dk_180 0 44 (dk_at dksX6_depends_0 9 rfl rfl)
theorem dX6_depends_12 : decode cX6_depends 12 = .ok (.iload_n 1, 1) := dk_27 (dk_at dksX6_depends_0 12 rfl rfl)
theorem dX6_depends_13 : decode cX6_depends 13 = .ok (.iconst 0, 1) := dk_3 (dk_at dksX6_depends_0 13 rfl rfl)
theorem dX6_depends_14 : decode cX6_depends 14 = .ok (.bastore, 1) := dk_84 (dk_at dksX6_depends_0 14 rfl rfl)
theorem dX6_depends_15 : decode cX6_depends 15 = .ok (.iinc 1 1, 3) := dk_132 1 1 (dk_at dksX6_depends_0 15 rfl rfl)
theorem dX6_depends_18 : decode cX6_depends 18 = .ok (.goto (-16), 3) := dk_167 255 240 (dk_at dksX6_depends_0 18 rfl rfl)
theorem dX6_depends_21 : decode cX6_depends 21 = .ok (.iconst 0, 1) := dk_3 (dk_at dksX6_depends_0 21 rfl rfl)
theorem dX6_depends_22 : decode cX6_depends 22 = .ok (.istore_n 1, 1) := dk_60 (dk_at dksX6_depends_0 22 rfl rfl)
theorem dX6_depends_23 : decode cX6_depends 23 = .ok (.iload_n 1, 1) := dk_27 (dk_at dksX6_depends_0 23 rfl rfl)
theorem dX6_depends_24 : decode cX6_depends 24 = .ok (.aload_n 0, 1) := dk_42 (dk_at dksX6_depends_1 0 rfl rfl)
theorem dX6_depends_25 : decode cX6_depends 25 = .ok (.getfield 9, 3) := dk_180 0 9 (dk_at dksX6_depends_1 1 rfl rfl)
theorem dX6_depends_28 : decode cX6_depends 28 = .ok (.iconst 3, 1) := dk_6 (dk_at dksX6_depends_1 4 rfl rfl)
theorem dX6_depends_29 : decode cX6_depends 29 = .ok (.iaload, 1) := dk_46 (dk_at dksX6_depends_1 5 rfl rfl)
theorem dX6_depends_30 : decode cX6_depends 30 = .ok (.if_icmp .ge 49, 3) := dk_162 0 49 (dk_at dksX6_depends_1 6 rfl rfl)
theorem dX6_depends_33 : decode cX6_depends 33 = .ok (.iconst 0, 1) := dk_3 (dk_at dksX6_depends_1 9 rfl rfl)
theorem dX6_depends_34 : decode cX6_depends 34 = .ok (.istore_n 2, 1) := dk_61 (dk_at dksX6_depends_1 10 rfl rfl)
theorem dX6_depends_35 : decode cX6_depends 35 = .ok (.iload_n 2, 1) := dk_28 (dk_at dksX6_depends_1 11 rfl rfl)
theorem dX6_depends_36 : decode cX6_depends 36 = .ok (.bipush 8, 2) := dk_16 8 (dk_at dksX6_depends_1 12 rfl rfl)
theorem dX6_depends_38 : decode cX6_depends 38 = .ok (.if_icmp .ge 35, 3) := dk_162 0 35 (dk_at dksX6_depends_1 14 rfl rfl)
theorem dX6_depends_41 : decode cX6_depends 41 = .ok (.aload_n 0, 1) := dk_42 (dk_at dksX6_depends_1 17 rfl rfl)
theorem dX6_depends_42 : decode cX6_depends 42 = .ok (.getfield 44, 3) := dk_180 0 44 (dk_at dksX6_depends_1 18 rfl rfl)
theorem dX6_depends_45 : decode cX6_depends 45 = .ok (.bipush 8, 2) := dk_16 8 (dk_at dksX6_depends_1 21 rfl rfl)
theorem dX6_depends_47 : decode cX6_depends 47 = .ok (.aload_n 0, 1) := dk_42 (dk_at dksX6_depends_1 23 rfl rfl)
theorem dX6_depends_48 : decode cX6_depends 48 = .ok (.iload_n 1, 1) := dk_27 (dk_at dksX6_depends_2 0 rfl rfl)
theorem dX6_depends_49 : decode cX6_depends 49 = .ok (.iconst 0, 1) := dk_3 (dk_at dksX6_depends_2 1 rfl rfl)
theorem dX6_depends_50 : decode cX6_depends 50 = .ok (.invokevirtual 92, 3) := dk_182 0 92 (dk_at dksX6_depends_2 2 rfl rfl)
theorem dX6_depends_53 : decode cX6_depends 53 = .ok (.imul, 1) := dk_104 (dk_at dksX6_depends_2 5 rfl rfl)
theorem dX6_depends_54 : decode cX6_depends 54 = .ok (.iload_n 2, 1) := dk_28 (dk_at dksX6_depends_2 6 rfl rfl)
theorem dX6_depends_55 : decode cX6_depends 55 = .ok (.iadd, 1) := dk_96 (dk_at dksX6_depends_2 7 rfl rfl)
theorem dX6_depends_56 : decode cX6_depends 56 = .ok (.dup2, 1) := dk_92 (dk_at dksX6_depends_2 8 rfl rfl)
theorem dX6_depends_57 : decode cX6_depends 57 = .ok (.baload, 1) := dk_51 (dk_at dksX6_depends_2 9 rfl rfl)
theorem dX6_depends_58 : decode cX6_depends 58 = .ok (.aload_n 0, 1) := dk_42 (dk_at dksX6_depends_2 10 rfl rfl)
theorem dX6_depends_59 : decode cX6_depends 59 = .ok (.iload_n 1, 1) := dk_27 (dk_at dksX6_depends_2 11 rfl rfl)
theorem dX6_depends_60 : decode cX6_depends 60 = .ok (.iload_n 2, 1) := dk_28 (dk_at dksX6_depends_2 12 rfl rfl)
theorem dX6_depends_61 : decode cX6_depends 61 = .ok (.iconst 0, 1) := dk_3 (dk_at dksX6_depends_2 13 rfl rfl)
theorem dX6_depends_62 : decode cX6_depends 62 = .ok (.invokevirtual 103, 3) := dk_182 0 103 (dk_at dksX6_depends_2 14 rfl rfl)
theorem dX6_depends_65 : decode cX6_depends 65 = .ok (.ior, 1) := dk_128 (dk_at dksX6_depends_2 17 rfl rfl)
theorem dX6_depends_66 : decode cX6_depends 66 = .ok (.bastore, 1) := dk_84 (dk_at dksX6_depends_2 18 rfl rfl)
theorem dX6_depends_67 : decode cX6_depends 67 = .ok (.iinc 2 1, 3) := dk_132 2 1 (dk_at dksX6_depends_2 19 rfl rfl)
theorem dX6_depends_70 : decode cX6_depends 70 = .ok (.goto (-35), 3) := dk_167 255 221 (dk_at dksX6_depends_3 0 rfl rfl)
theorem dX6_depends_73 : decode cX6_depends 73 = .ok (.iinc 1 1, 3) := dk_132 1 1 (dk_at dksX6_depends_3 3 rfl rfl)
theorem dX6_depends_76 : decode cX6_depends 76 = .ok (.goto (-53), 3) := dk_167 255 203 (dk_at dksX6_depends_3 6 rfl rfl)
theorem dX6_depends_79 : decode cX6_depends 79 = .ok (.iconst 0, 1) := dk_3 (dk_at dksX6_depends_3 9 rfl rfl)
theorem dX6_depends_80 : decode cX6_depends 80 = .ok (.istore_n 1, 1) := dk_60 (dk_at dksX6_depends_3 10 rfl rfl)
theorem dX6_depends_81 : decode cX6_depends 81 = .ok (.iload_n 1, 1) := dk_27 (dk_at dksX6_depends_3 11 rfl rfl)
theorem dX6_depends_82 : decode cX6_depends 82 = .ok (.bipush 8, 2) := dk_16 8 (dk_at dksX6_depends_3 12 rfl rfl)
theorem dX6_depends_84 : decode cX6_depends 84 = .ok (.if_icmp .ge 71, 3) := dk_162 0 71 (dk_at dksX6_depends_3 14 rfl rfl)
theorem dX6_depends_87 : decode cX6_depends 87 = .ok (.iconst 0, 1) := dk_3 (dk_at dksX6_depends_3 17 rfl rfl)
theorem dX6_depends_88 : decode cX6_depends 88 = .ok (.istore_n 2, 1) := dk_61 (dk_at dksX6_depends_3 18 rfl rfl)
theorem dX6_depends_89 : decode cX6_depends 89 = .ok (.iload_n 2, 1) := dk_28 (dk_at dksX6_depends_3 19 rfl rfl)
theorem dX6_depends_90 : decode cX6_depends 90 = .ok (.bipush 64, 2) := dk_16 64 (dk_at dksX6_depends_3 20 rfl rfl)
theorem dX6_depends_92 : decode cX6_depends 92 = .ok (.if_icmp .ge 57, 3) := dk_162 0 57 (dk_at dksX6_depends_4 0 rfl rfl)
theorem dX6_depends_95 : decode cX6_depends 95 = .ok (.aload_n 0, 1) := dk_42 (dk_at dksX6_depends_4 3 rfl rfl)
theorem dX6_depends_96 : decode cX6_depends 96 = .ok (.getfield 44, 3) := dk_180 0 44 (dk_at dksX6_depends_4 4 rfl rfl)
theorem dX6_depends_99 : decode cX6_depends 99 = .ok (.iload_n 2, 1) := dk_28 (dk_at dksX6_depends_4 7 rfl rfl)
theorem dX6_depends_100 : decode cX6_depends 100 = .ok (.dup2, 1) := dk_92 (dk_at dksX6_depends_4 8 rfl rfl)
theorem dX6_depends_101 : decode cX6_depends 101 = .ok (.baload, 1) := dk_51 (dk_at dksX6_depends_4 9 rfl rfl)
theorem dX6_depends_102 : decode cX6_depends 102 = .ok (.aload_n 0, 1) := dk_42 (dk_at dksX6_depends_4 10 rfl rfl)
theorem dX6_depends_103 : decode cX6_depends 103 = .ok (.getfield 44, 3) := dk_180 0 44 (dk_at dksX6_depends_4 11 rfl rfl)
theorem dX6_depends_106 : decode cX6_depends 106 = .ok (.bipush 8, 2) := dk_16 8 (dk_at dksX6_depends_4 14 rfl rfl)
theorem dX6_depends_108 : decode cX6_depends 108 = .ok (.iload_n 2, 1) := dk_28 (dk_at dksX6_depends_4 16 rfl rfl)
theorem dX6_depends_109 : decode cX6_depends 109 = .ok (.bipush 8, 2) := dk_16 8 (dk_at dksX6_depends_4 17 rfl rfl)
theorem dX6_depends_111 : decode cX6_depends 111 = .ok (.idiv, 1) := dk_108 (dk_at dksX6_depends_4 19 rfl rfl)
theorem dX6_depends_112 : decode cX6_depends 112 = .ok (.imul, 1) := dk_104 (dk_at dksX6_depends_4 20 rfl rfl)
theorem dX6_depends_113 : decode cX6_depends 113 = .ok (.iload_n 1, 1) := dk_27 (dk_at dksX6_depends_4 21 rfl rfl)
theorem dX6_depends_114 : decode cX6_depends 114 = .ok (.iadd, 1) := dk_96 (dk_at dksX6_depends_4 22 rfl rfl)
theorem dX6_depends_115 : decode cX6_depends 115 = .ok (.baload, 1) := dk_51 (dk_at dksX6_depends_4 23 rfl rfl)
theorem dX6_depends_116 : decode cX6_depends 116 = .ok (.ifCond .eq 24, 3) := dk_153 0 24 (dk_at dksX6_depends_5 0 rfl rfl)
theorem dX6_depends_119 : decode cX6_depends 119 = .ok (.aload_n 0, 1) := dk_42 (dk_at dksX6_depends_5 3 rfl rfl)
theorem dX6_depends_120 : decode cX6_depends 120 = .ok (.getfield 44, 3) := dk_180 0 44 (dk_at dksX6_depends_5 4 rfl rfl)
theorem dX6_depends_123 : decode cX6_depends 123 = .ok (.bipush 8, 2) := dk_16 8 (dk_at dksX6_depends_5 7 rfl rfl)
theorem dX6_depends_125 : decode cX6_depends 125 = .ok (.iload_n 1, 1) := dk_27 (dk_at dksX6_depends_5 9 rfl rfl)
theorem dX6_depends_126 : decode cX6_depends 126 = .ok (.imul, 1) := dk_104 (dk_at dksX6_depends_5 10 rfl rfl)
theorem dX6_depends_127 : decode cX6_depends 127 = .ok (.iload_n 2, 1) := dk_28 (dk_at dksX6_depends_5 11 rfl rfl)
theorem dX6_depends_128 : decode cX6_depends 128 = .ok (.bipush 8, 2) := dk_16 8 (dk_at dksX6_depends_5 12 rfl rfl)
theorem dX6_depends_130 : decode cX6_depends 130 = .ok (.irem, 1) := dk_112 (dk_at dksX6_depends_5 14 rfl rfl)
theorem dX6_depends_131 : decode cX6_depends 131 = .ok (.iadd, 1) := dk_96 (dk_at dksX6_depends_5 15 rfl rfl)
theorem dX6_depends_132 : decode cX6_depends 132 = .ok (.baload, 1) := dk_51 (dk_at dksX6_depends_5 16 rfl rfl)
theorem dX6_depends_133 : decode cX6_depends 133 = .ok (.ifCond .eq 7, 3) := dk_153 0 7 (dk_at dksX6_depends_5 17 rfl rfl)
theorem dX6_depends_136 : decode cX6_depends 136 = .ok (.iconst 1, 1) := dk_4 (dk_at dksX6_depends_5 20 rfl rfl)
theorem dX6_depends_137 : decode cX6_depends 137 = .ok (.goto 4, 3) := dk_167 0 4 (dk_at dksX6_depends_5 21 rfl rfl)
theorem dX6_depends_140 : decode cX6_depends 140 = .ok (.iconst 0, 1) := dk_3 (dk_at dksX6_depends_6 0 rfl rfl)
theorem dX6_depends_141 : decode cX6_depends 141 = .ok (.ior, 1) := dk_128 (dk_at dksX6_depends_6 1 rfl rfl)
theorem dX6_depends_142 : decode cX6_depends 142 = .ok (.bastore, 1) := dk_84 (dk_at dksX6_depends_6 2 rfl rfl)
theorem dX6_depends_143 : decode cX6_depends 143 = .ok (.iinc 2 1, 3) := dk_132 2 1 (dk_at dksX6_depends_6 3 rfl rfl)
theorem dX6_depends_146 : decode cX6_depends 146 = .ok (.goto (-57), 3) := dk_167 255 199 (dk_at dksX6_depends_6 6 rfl rfl)
theorem dX6_depends_149 : decode cX6_depends 149 = .ok (.iinc 1 1, 3) := dk_132 1 1 (dk_at dksX6_depends_6 9 rfl rfl)
theorem dX6_depends_152 : decode cX6_depends 152 = .ok (.goto (-71), 3) := dk_167 255 185 (dk_at dksX6_depends_6 12 rfl rfl)
theorem dX6_depends_155 : decode cX6_depends 155 = .ok (.return_, 1) := dk_177 (dk_at dksX6_depends_6 15 rfl rfl)
abbrev cX6_stepsOf : ByteArray := prog_28_method_74_code
def yX6_stepsOf : MethodName := ⟨RX6, "stepsOf", "(I)I"⟩
def dkwX6_stepsOf_3 : List UInt8 := [167, 255, 217, 28, 172]
abbrev dktX6_stepsOf_3 : List UInt8 := dkwX6_stepsOf_3 ++ []
def dkwX6_stepsOf_2 : List UInt8 := [42, 27, 182, 0, 126, 153, 0, 7, 4, 167, 0, 4, 3, 96, 61, 42, 27, 29, 182, 0, 132, 62]
abbrev dktX6_stepsOf_2 : List UInt8 := dkwX6_stepsOf_2 ++ dktX6_stepsOf_3
def dkwX6_stepsOf_1 : List UInt8 := [182, 0, 158, 3, 61, 3, 62, 29, 17, 3, 232, 162, 0, 38, 28, 42, 27, 29, 182, 0, 123, 153, 0, 15]
abbrev dktX6_stepsOf_1 : List UInt8 := dkwX6_stepsOf_1 ++ dktX6_stepsOf_2
def dkwX6_stepsOf_0 : List UInt8 := [42, 42, 27, 182, 0, 196, 154, 0, 7, 4, 167, 0, 4, 3, 4, 182, 0, 164, 153, 0, 5, 3, 172, 42]
abbrev dktX6_stepsOf_0 : List UInt8 := dkwX6_stepsOf_0 ++ dktX6_stepsOf_1
theorem dksX6_stepsOf_0 : cX6_stepsOf.data.toList.drop 0 = dktX6_stepsOf_0 := by decide +kernel
theorem dksX6_stepsOf_1 : cX6_stepsOf.data.toList.drop 24 = dktX6_stepsOf_1 := dk_seg dksX6_stepsOf_0 24 rfl rfl
theorem dksX6_stepsOf_2 : cX6_stepsOf.data.toList.drop 48 = dktX6_stepsOf_2 := dk_seg dksX6_stepsOf_1 24 rfl rfl
theorem dksX6_stepsOf_3 : cX6_stepsOf.data.toList.drop 70 = dktX6_stepsOf_3 := dk_seg dksX6_stepsOf_2 22 rfl rfl
theorem dX6_stepsOf_0 : decode cX6_stepsOf 0 = .ok (.aload_n 0, 1) := dk_42 (dk_at dksX6_stepsOf_0 0 rfl rfl)
theorem dX6_stepsOf_1 : decode cX6_stepsOf 1 = .ok (.aload_n 0, 1) := dk_42 (dk_at dksX6_stepsOf_0 1 rfl rfl)
theorem dX6_stepsOf_2 : decode cX6_stepsOf 2 = .ok (.iload_n 1, 1) := dk_27 (dk_at dksX6_stepsOf_0 2 rfl rfl)
theorem dX6_stepsOf_3 : decode cX6_stepsOf 3 = .ok (.invokevirtual 196, 3) := dk_182 0 196 (dk_at dksX6_stepsOf_0 3 rfl rfl)
theorem dX6_stepsOf_6 : decode cX6_stepsOf 6 = .ok (.ifCond .ne 7, 3) := dk_154 0 7 (dk_at dksX6_stepsOf_0 6 rfl rfl)
theorem dX6_stepsOf_9 : decode cX6_stepsOf 9 = .ok (.iconst 1, 1) := dk_4 (dk_at dksX6_stepsOf_0 9 rfl rfl)
theorem dX6_stepsOf_10 : decode cX6_stepsOf 10 = .ok (.goto 4, 3) := dk_167 0 4 (dk_at dksX6_stepsOf_0 10 rfl rfl)
theorem dX6_stepsOf_13 : decode cX6_stepsOf 13 = .ok (.iconst 0, 1) := dk_3 (dk_at dksX6_stepsOf_0 13 rfl rfl)
theorem dX6_stepsOf_14 : decode cX6_stepsOf 14 = .ok (.iconst 1, 1) := dk_4 (dk_at dksX6_stepsOf_0 14 rfl rfl)
theorem dX6_stepsOf_15 : decode cX6_stepsOf 15 = .ok (.invokevirtual 164, 3) := dk_182 0 164 (dk_at dksX6_stepsOf_0 15 rfl rfl)
theorem dX6_stepsOf_18 : decode cX6_stepsOf 18 = .ok (.ifCond .eq 5, 3) := dk_153 0 5 (dk_at dksX6_stepsOf_0 18 rfl rfl)
theorem dX6_stepsOf_21 : decode cX6_stepsOf 21 = .ok (.iconst 0, 1) := dk_3 (dk_at dksX6_stepsOf_0 21 rfl rfl)
theorem dX6_stepsOf_22 : decode cX6_stepsOf 22 = .ok (.ireturn, 1) := dk_172 (dk_at dksX6_stepsOf_0 22 rfl rfl)
theorem dX6_stepsOf_23 : decode cX6_stepsOf 23 = .ok (.aload_n 0, 1) := dk_42 (dk_at dksX6_stepsOf_0 23 rfl rfl)
theorem dX6_stepsOf_24 : decode cX6_stepsOf 24 = .ok (.invokevirtual 158, 3) := dk_182 0 158 (dk_at dksX6_stepsOf_1 0 rfl rfl)
theorem dX6_stepsOf_27 : decode cX6_stepsOf 27 = .ok (.iconst 0, 1) := dk_3 (dk_at dksX6_stepsOf_1 3 rfl rfl)
theorem dX6_stepsOf_28 : decode cX6_stepsOf 28 = .ok (.istore_n 2, 1) := dk_61 (dk_at dksX6_stepsOf_1 4 rfl rfl)
theorem dX6_stepsOf_29 : decode cX6_stepsOf 29 = .ok (.iconst 0, 1) := dk_3 (dk_at dksX6_stepsOf_1 5 rfl rfl)
theorem dX6_stepsOf_30 : decode cX6_stepsOf 30 = .ok (.istore_n 3, 1) := dk_62 (dk_at dksX6_stepsOf_1 6 rfl rfl)
theorem dX6_stepsOf_31 : decode cX6_stepsOf 31 = .ok (.iload_n 3, 1) := dk_29 (dk_at dksX6_stepsOf_1 7 rfl rfl)
theorem dX6_stepsOf_32 : decode cX6_stepsOf 32 = .ok (.sipush 1000, 3) := dk_17 3 232 (dk_at dksX6_stepsOf_1 8 rfl rfl)
theorem dX6_stepsOf_35 : decode cX6_stepsOf 35 = .ok (.if_icmp .ge 38, 3) := dk_162 0 38 (dk_at dksX6_stepsOf_1 11 rfl rfl)
theorem dX6_stepsOf_38 : decode cX6_stepsOf 38 = .ok (.iload_n 2, 1) := dk_28 (dk_at dksX6_stepsOf_1 14 rfl rfl)
theorem dX6_stepsOf_39 : decode cX6_stepsOf 39 = .ok (.aload_n 0, 1) := dk_42 (dk_at dksX6_stepsOf_1 15 rfl rfl)
theorem dX6_stepsOf_40 : decode cX6_stepsOf 40 = .ok (.iload_n 1, 1) := dk_27 (dk_at dksX6_stepsOf_1 16 rfl rfl)
theorem dX6_stepsOf_41 : decode cX6_stepsOf 41 = .ok (.iload_n 3, 1) := dk_29 (dk_at dksX6_stepsOf_1 17 rfl rfl)
theorem dX6_stepsOf_42 : decode cX6_stepsOf 42 = .ok (.invokevirtual 123, 3) := dk_182 0 123 (dk_at dksX6_stepsOf_1 18 rfl rfl)
theorem dX6_stepsOf_45 : decode cX6_stepsOf 45 = .ok (.ifCond .eq 15, 3) := dk_153 0 15 (dk_at dksX6_stepsOf_1 21 rfl rfl)
theorem dX6_stepsOf_48 : decode cX6_stepsOf 48 = .ok (.aload_n 0, 1) := dk_42 (dk_at dksX6_stepsOf_2 0 rfl rfl)
theorem dX6_stepsOf_49 : decode cX6_stepsOf 49 = .ok (.iload_n 1, 1) := dk_27 (dk_at dksX6_stepsOf_2 1 rfl rfl)
theorem dX6_stepsOf_50 : decode cX6_stepsOf 50 = .ok (.invokevirtual 126, 3) := dk_182 0 126 (dk_at dksX6_stepsOf_2 2 rfl rfl)
theorem dX6_stepsOf_53 : decode cX6_stepsOf 53 = .ok (.ifCond .eq 7, 3) := dk_153 0 7 (dk_at dksX6_stepsOf_2 5 rfl rfl)
theorem dX6_stepsOf_56 : decode cX6_stepsOf 56 = .ok (.iconst 1, 1) := dk_4 (dk_at dksX6_stepsOf_2 8 rfl rfl)
theorem dX6_stepsOf_57 : decode cX6_stepsOf 57 = .ok (.goto 4, 3) := dk_167 0 4 (dk_at dksX6_stepsOf_2 9 rfl rfl)
theorem dX6_stepsOf_60 : decode cX6_stepsOf 60 = .ok (.iconst 0, 1) := dk_3 (dk_at dksX6_stepsOf_2 12 rfl rfl)
theorem dX6_stepsOf_61 : decode cX6_stepsOf 61 = .ok (.iadd, 1) := dk_96 (dk_at dksX6_stepsOf_2 13 rfl rfl)
theorem dX6_stepsOf_62 : decode cX6_stepsOf 62 = .ok (.istore_n 2, 1) := dk_61 (dk_at dksX6_stepsOf_2 14 rfl rfl)
theorem dX6_stepsOf_63 : decode cX6_stepsOf 63 = .ok (.aload_n 0, 1) := dk_42 (dk_at dksX6_stepsOf_2 15 rfl rfl)
theorem dX6_stepsOf_64 : decode cX6_stepsOf 64 = .ok (.iload_n 1, 1) := dk_27 (dk_at dksX6_stepsOf_2 16 rfl rfl)
theorem dX6_stepsOf_65 : decode cX6_stepsOf 65 = .ok (.iload_n 3, 1) := dk_29 (dk_at dksX6_stepsOf_2 17 rfl rfl)
theorem dX6_stepsOf_66 : decode cX6_stepsOf 66 = .ok (.invokevirtual 132, 3) := dk_182 0 132 (dk_at dksX6_stepsOf_2 18 rfl rfl)
theorem dX6_stepsOf_69 : decode cX6_stepsOf 69 = .ok (.istore_n 3, 1) := dk_62 (dk_at dksX6_stepsOf_2 21 rfl rfl)
theorem dX6_stepsOf_70 : decode cX6_stepsOf 70 = .ok (.goto (-39), 3) := dk_167 255 217 (dk_at dksX6_stepsOf_3 0 rfl rfl)
theorem dX6_stepsOf_73 : decode cX6_stepsOf 73 = .ok (.iload_n 2, 1) := dk_28 (dk_at dksX6_stepsOf_3 3 rfl rfl)
theorem dX6_stepsOf_74 : decode cX6_stepsOf 74 = .ok (.ireturn, 1) := dk_172 (dk_at dksX6_stepsOf_3 4 rfl rfl)
abbrev cX6_layerOf : ByteArray := prog_28_method_75_code
def yX6_layerOf : MethodName := ⟨RX6, "layerOf", "(C)I"⟩
def dkwX6_layerOf_1 : List UInt8 := [182, 0, 135, 42, 180, 0, 31, 27, 16, 97, 100, 46, 172]
abbrev dktX6_layerOf_1 : List UInt8 := dkwX6_layerOf_1 ++ []
def dkwX6_layerOf_0 : List UInt8 := [42, 27, 184, 0, 81, 154, 0, 7, 4, 167, 0, 4, 3, 4, 182, 0, 164, 153, 0, 5, 3, 172, 42]
abbrev dktX6_layerOf_0 : List UInt8 := dkwX6_layerOf_0 ++ dktX6_layerOf_1
theorem dksX6_layerOf_0 : cX6_layerOf.data.toList.drop 0 = dktX6_layerOf_0 := by decide +kernel
theorem dksX6_layerOf_1 : cX6_layerOf.data.toList.drop 23 = dktX6_layerOf_1 := dk_seg dksX6_layerOf_0 23 rfl rfl
theorem dX6_layerOf_0 : decode cX6_layerOf 0 = .ok (.aload_n 0, 1) := dk_42 (dk_at dksX6_layerOf_0 0 rfl rfl)
theorem dX6_layerOf_1 : decode cX6_layerOf 1 = .ok (.iload_n 1, 1) := dk_27 (dk_at dksX6_layerOf_0 1 rfl rfl)
theorem dX6_layerOf_2 : decode cX6_layerOf 2 = .ok (.invokestatic 81, 3) := dk_184 0 81 (dk_at dksX6_layerOf_0 2 rfl rfl)
theorem dX6_layerOf_5 : decode cX6_layerOf 5 = .ok (.ifCond .ne 7, 3) := dk_154 0 7 (dk_at dksX6_layerOf_0 5 rfl rfl)
theorem dX6_layerOf_8 : decode cX6_layerOf 8 = .ok (.iconst 1, 1) := dk_4 (dk_at dksX6_layerOf_0 8 rfl rfl)
theorem dX6_layerOf_9 : decode cX6_layerOf 9 = .ok (.goto 4, 3) := dk_167 0 4 (dk_at dksX6_layerOf_0 9 rfl rfl)
theorem dX6_layerOf_12 : decode cX6_layerOf 12 = .ok (.iconst 0, 1) := dk_3 (dk_at dksX6_layerOf_0 12 rfl rfl)
theorem dX6_layerOf_13 : decode cX6_layerOf 13 = .ok (.iconst 1, 1) := dk_4 (dk_at dksX6_layerOf_0 13 rfl rfl)
theorem dX6_layerOf_14 : decode cX6_layerOf 14 = .ok (.invokevirtual 164, 3) := dk_182 0 164 (dk_at dksX6_layerOf_0 14 rfl rfl)
theorem dX6_layerOf_17 : decode cX6_layerOf 17 = .ok (.ifCond .eq 5, 3) := dk_153 0 5 (dk_at dksX6_layerOf_0 17 rfl rfl)
theorem dX6_layerOf_20 : decode cX6_layerOf 20 = .ok (.iconst 0, 1) := dk_3 (dk_at dksX6_layerOf_0 20 rfl rfl)
theorem dX6_layerOf_21 : decode cX6_layerOf 21 = .ok (.ireturn, 1) := dk_172 (dk_at dksX6_layerOf_0 21 rfl rfl)
theorem dX6_layerOf_22 : decode cX6_layerOf 22 = .ok (.aload_n 0, 1) := dk_42 (dk_at dksX6_layerOf_0 22 rfl rfl)
theorem dX6_layerOf_23 : decode cX6_layerOf 23 = .ok (.invokevirtual 135, 3) := dk_182 0 135 (dk_at dksX6_layerOf_1 0 rfl rfl)
theorem dX6_layerOf_26 : decode cX6_layerOf 26 = .ok (.aload_n 0, 1) := dk_42 (dk_at dksX6_layerOf_1 3 rfl rfl)
theorem dX6_layerOf_27 : decode cX6_layerOf 27 = .ok (.getfield 31, 3) := dk_180 0 31 (dk_at dksX6_layerOf_1 4 rfl rfl)
theorem dX6_layerOf_30 : decode cX6_layerOf 30 = .ok (.iload_n 1, 1) := dk_27 (dk_at dksX6_layerOf_1 7 rfl rfl)
theorem dX6_layerOf_31 : decode cX6_layerOf 31 = .ok (.bipush 97, 2) := dk_16 97 (dk_at dksX6_layerOf_1 8 rfl rfl)
theorem dX6_layerOf_33 : decode cX6_layerOf 33 = .ok (.isub, 1) := dk_100 (dk_at dksX6_layerOf_1 10 rfl rfl)
theorem dX6_layerOf_34 : decode cX6_layerOf 34 = .ok (.iaload, 1) := dk_46 (dk_at dksX6_layerOf_1 11 rfl rfl)
theorem dX6_layerOf_35 : decode cX6_layerOf 35 = .ok (.ireturn, 1) := dk_172 (dk_at dksX6_layerOf_1 12 rfl rfl)
abbrev cX6_layerByChains : ByteArray := prog_28_method_76_code
def yX6_layerByChains : MethodName := ⟨RX6, "layerByChains", "(C)I"⟩
def dkwX6_layerByChains_0 : List UInt8 := [42, 27, 182, 0, 249, 172]
abbrev dktX6_layerByChains_0 : List UInt8 := dkwX6_layerByChains_0 ++ []
theorem dksX6_layerByChains_0 : cX6_layerByChains.data.toList.drop 0 = dktX6_layerByChains_0 := by decide +kernel
theorem dX6_layerByChains_0 : decode cX6_layerByChains 0 = .ok (.aload_n 0, 1) := dk_42 (dk_at dksX6_layerByChains_0 0 rfl rfl)
theorem dX6_layerByChains_1 : decode cX6_layerByChains 1 = .ok (.iload_n 1, 1) := dk_27 (dk_at dksX6_layerByChains_0 1 rfl rfl)
theorem dX6_layerByChains_2 : decode cX6_layerByChains 2 = .ok (.invokevirtual 249, 3) := dk_182 0 249 (dk_at dksX6_layerByChains_0 2 rfl rfl)
theorem dX6_layerByChains_5 : decode cX6_layerByChains 5 = .ok (.ireturn, 1) := dk_172 (dk_at dksX6_layerByChains_0 5 rfl rfl)
abbrev cX6_dependsOn : ByteArray := prog_28_method_77_code
def yX6_dependsOn : MethodName := ⟨RX6, "dependsOn", "(CC)Z"⟩
def dkwX6_dependsOn_2 : List UInt8 := [100, 51, 172]
abbrev dktX6_dependsOn_2 : List UInt8 := dkwX6_dependsOn_2 ++ []
def dkwX6_dependsOn_1 : List UInt8 := [153, 0, 5, 3, 172, 42, 182, 0, 107, 42, 180, 0, 44, 16, 8, 27, 16, 97, 100, 104, 28, 96, 16, 97]
abbrev dktX6_dependsOn_1 : List UInt8 := dkwX6_dependsOn_1 ++ dktX6_dependsOn_2
def dkwX6_dependsOn_0 : List UInt8 := [42, 27, 184, 0, 81, 153, 0, 10, 28, 184, 0, 81, 154, 0, 7, 4, 167, 0, 4, 3, 4, 182, 0, 164]
abbrev dktX6_dependsOn_0 : List UInt8 := dkwX6_dependsOn_0 ++ dktX6_dependsOn_1
theorem dksX6_dependsOn_0 : cX6_dependsOn.data.toList.drop 0 = dktX6_dependsOn_0 := by decide +kernel
theorem dksX6_dependsOn_1 : cX6_dependsOn.data.toList.drop 24 = dktX6_dependsOn_1 := dk_seg dksX6_dependsOn_0 24 rfl rfl
theorem dksX6_dependsOn_2 : cX6_dependsOn.data.toList.drop 48 = dktX6_dependsOn_2 := dk_seg dksX6_dependsOn_1 24 rfl rfl
theorem dX6_dependsOn_0 : decode cX6_dependsOn 0 = .ok (.aload_n 0, 1) := dk_42 (dk_at dksX6_dependsOn_0 0 rfl rfl)
theorem dX6_dependsOn_1 : decode cX6_dependsOn 1 = .ok (.iload_n 1, 1) := dk_27 (dk_at dksX6_dependsOn_0 1 rfl rfl)
theorem dX6_dependsOn_2 : decode cX6_dependsOn 2 = .ok (.invokestatic 81, 3) := dk_184 0 81 (dk_at dksX6_dependsOn_0 2 rfl rfl)
theorem dX6_dependsOn_5 : decode cX6_dependsOn 5 = .ok (.ifCond .eq 10, 3) := dk_153 0 10 (dk_at dksX6_dependsOn_0 5 rfl rfl)
theorem dX6_dependsOn_8 : decode cX6_dependsOn 8 = .ok (.iload_n 2, 1) := dk_28 (dk_at dksX6_dependsOn_0 8 rfl rfl)
theorem dX6_dependsOn_9 : decode cX6_dependsOn 9 = .ok (.invokestatic 81, 3) := dk_184 0 81 (dk_at dksX6_dependsOn_0 9 rfl rfl)
theorem dX6_dependsOn_12 : decode cX6_dependsOn 12 = .ok (.ifCond .ne 7, 3) := dk_154 0 7 (dk_at dksX6_dependsOn_0 12 rfl rfl)
theorem dX6_dependsOn_15 : decode cX6_dependsOn 15 = .ok (.iconst 1, 1) := dk_4 (dk_at dksX6_dependsOn_0 15 rfl rfl)
theorem dX6_dependsOn_16 : decode cX6_dependsOn 16 = .ok (.goto 4, 3) := dk_167 0 4 (dk_at dksX6_dependsOn_0 16 rfl rfl)
theorem dX6_dependsOn_19 : decode cX6_dependsOn 19 = .ok (.iconst 0, 1) := dk_3 (dk_at dksX6_dependsOn_0 19 rfl rfl)
theorem dX6_dependsOn_20 : decode cX6_dependsOn 20 = .ok (.iconst 1, 1) := dk_4 (dk_at dksX6_dependsOn_0 20 rfl rfl)
theorem dX6_dependsOn_21 : decode cX6_dependsOn 21 = .ok (.invokevirtual 164, 3) := dk_182 0 164 (dk_at dksX6_dependsOn_0 21 rfl rfl)
theorem dX6_dependsOn_24 : decode cX6_dependsOn 24 = .ok (.ifCond .eq 5, 3) := dk_153 0 5 (dk_at dksX6_dependsOn_1 0 rfl rfl)
theorem dX6_dependsOn_27 : decode cX6_dependsOn 27 = .ok (.iconst 0, 1) := dk_3 (dk_at dksX6_dependsOn_1 3 rfl rfl)
theorem dX6_dependsOn_28 : decode cX6_dependsOn 28 = .ok (.ireturn, 1) := dk_172 (dk_at dksX6_dependsOn_1 4 rfl rfl)
theorem dX6_dependsOn_29 : decode cX6_dependsOn 29 = .ok (.aload_n 0, 1) := dk_42 (dk_at dksX6_dependsOn_1 5 rfl rfl)
theorem dX6_dependsOn_30 : decode cX6_dependsOn 30 = .ok (.invokevirtual 107, 3) := dk_182 0 107 (dk_at dksX6_dependsOn_1 6 rfl rfl)
theorem dX6_dependsOn_33 : decode cX6_dependsOn 33 = .ok (.aload_n 0, 1) := dk_42 (dk_at dksX6_dependsOn_1 9 rfl rfl)
theorem dX6_dependsOn_34 : decode cX6_dependsOn 34 = .ok (.getfield 44, 3) := dk_180 0 44 (dk_at dksX6_dependsOn_1 10 rfl rfl)
theorem dX6_dependsOn_37 : decode cX6_dependsOn 37 = .ok (.bipush 8, 2) := dk_16 8 (dk_at dksX6_dependsOn_1 13 rfl rfl)
theorem dX6_dependsOn_39 : decode cX6_dependsOn 39 = .ok (.iload_n 1, 1) := dk_27 (dk_at dksX6_dependsOn_1 15 rfl rfl)
theorem dX6_dependsOn_40 : decode cX6_dependsOn 40 = .ok (.bipush 97, 2) := dk_16 97 (dk_at dksX6_dependsOn_1 16 rfl rfl)
theorem dX6_dependsOn_42 : decode cX6_dependsOn 42 = .ok (.isub, 1) := dk_100 (dk_at dksX6_dependsOn_1 18 rfl rfl)
theorem dX6_dependsOn_43 : decode cX6_dependsOn 43 = .ok (.imul, 1) := dk_104 (dk_at dksX6_dependsOn_1 19 rfl rfl)
theorem dX6_dependsOn_44 : decode cX6_dependsOn 44 = .ok (.iload_n 2, 1) := dk_28 (dk_at dksX6_dependsOn_1 20 rfl rfl)
theorem dX6_dependsOn_45 : decode cX6_dependsOn 45 = .ok (.iadd, 1) := dk_96 (dk_at dksX6_dependsOn_1 21 rfl rfl)
theorem dX6_dependsOn_46 : decode cX6_dependsOn 46 = .ok (.bipush 97, 2) := dk_16 97 (dk_at dksX6_dependsOn_1 22 rfl rfl)
theorem dX6_dependsOn_48 : decode cX6_dependsOn 48 = .ok (.isub, 1) := dk_100 (dk_at dksX6_dependsOn_2 0 rfl rfl)
theorem dX6_dependsOn_49 : decode cX6_dependsOn 49 = .ok (.baload, 1) := dk_51 (dk_at dksX6_dependsOn_2 1 rfl rfl)
theorem dX6_dependsOn_50 : decode cX6_dependsOn 50 = .ok (.ireturn, 1) := dk_172 (dk_at dksX6_dependsOn_2 2 rfl rfl)
abbrev cX6_givenByAccounts : ByteArray := prog_28_method_78_code
def yX6_givenByAccounts : MethodName := ⟨RX6, "givenByAccounts", "()I"⟩
def dkwX6_givenByAccounts_0 : List UInt8 := [42, 3, 181, 0, 63, 42, 180, 0, 9, 4, 46, 42, 180, 0, 9, 5, 46, 100, 172]
abbrev dktX6_givenByAccounts_0 : List UInt8 := dkwX6_givenByAccounts_0 ++ []
theorem dksX6_givenByAccounts_0 : cX6_givenByAccounts.data.toList.drop 0 = dktX6_givenByAccounts_0 := by decide +kernel
theorem dX6_givenByAccounts_0 : decode cX6_givenByAccounts 0 = .ok (.aload_n 0, 1) := dk_42 (dk_at dksX6_givenByAccounts_0 0 rfl rfl)
theorem dX6_givenByAccounts_1 : decode cX6_givenByAccounts 1 = .ok (.iconst 0, 1) := dk_3 (dk_at dksX6_givenByAccounts_0 1 rfl rfl)
theorem dX6_givenByAccounts_2 : decode cX6_givenByAccounts 2 = .ok (.putfield 63, 3) := dk_181 0 63 (dk_at dksX6_givenByAccounts_0 2 rfl rfl)
theorem dX6_givenByAccounts_5 : decode cX6_givenByAccounts 5 = .ok (.aload_n 0, 1) := dk_42 (dk_at dksX6_givenByAccounts_0 5 rfl rfl)
theorem dX6_givenByAccounts_6 : decode cX6_givenByAccounts 6 = .ok (.getfield 9, 3) := dk_180 0 9 (dk_at dksX6_givenByAccounts_0 6 rfl rfl)
theorem dX6_givenByAccounts_9 : decode cX6_givenByAccounts 9 = .ok (.iconst 1, 1) := dk_4 (dk_at dksX6_givenByAccounts_0 9 rfl rfl)
theorem dX6_givenByAccounts_10 : decode cX6_givenByAccounts 10 = .ok (.iaload, 1) := dk_46 (dk_at dksX6_givenByAccounts_0 10 rfl rfl)
theorem dX6_givenByAccounts_11 : decode cX6_givenByAccounts 11 = .ok (.aload_n 0, 1) := dk_42 (dk_at dksX6_givenByAccounts_0 11 rfl rfl)
theorem dX6_givenByAccounts_12 : decode cX6_givenByAccounts 12 = .ok (.getfield 9, 3) := dk_180 0 9 (dk_at dksX6_givenByAccounts_0 12 rfl rfl)
theorem dX6_givenByAccounts_15 : decode cX6_givenByAccounts 15 = .ok (.iconst 2, 1) := dk_5 (dk_at dksX6_givenByAccounts_0 15 rfl rfl)
theorem dX6_givenByAccounts_16 : decode cX6_givenByAccounts 16 = .ok (.iaload, 1) := dk_46 (dk_at dksX6_givenByAccounts_0 16 rfl rfl)
theorem dX6_givenByAccounts_17 : decode cX6_givenByAccounts 17 = .ok (.isub, 1) := dk_100 (dk_at dksX6_givenByAccounts_0 17 rfl rfl)
theorem dX6_givenByAccounts_18 : decode cX6_givenByAccounts 18 = .ok (.ireturn, 1) := dk_172 (dk_at dksX6_givenByAccounts_0 18 rfl rfl)
abbrev cX6_reason : ByteArray := prog_28_method_79_code
def yX6_reason : MethodName := ⟨RX6, "reason", "()I"⟩
def dkwX6_reason_1 : List UInt8 := [42, 180, 0, 252, 172]
abbrev dktX6_reason_1 : List UInt8 := dkwX6_reason_1 ++ []
def dkwX6_reason_0 : List UInt8 := [42, 42, 180, 0, 252, 154, 0, 7, 4, 167, 0, 4, 3, 4, 182, 0, 164, 153, 0, 7, 3, 167, 0, 7]
abbrev dktX6_reason_0 : List UInt8 := dkwX6_reason_0 ++ dktX6_reason_1
theorem dksX6_reason_0 : cX6_reason.data.toList.drop 0 = dktX6_reason_0 := by decide +kernel
theorem dksX6_reason_1 : cX6_reason.data.toList.drop 24 = dktX6_reason_1 := dk_seg dksX6_reason_0 24 rfl rfl
theorem dX6_reason_0 : decode cX6_reason 0 = .ok (.aload_n 0, 1) := dk_42 (dk_at dksX6_reason_0 0 rfl rfl)
theorem dX6_reason_1 : decode cX6_reason 1 = .ok (.aload_n 0, 1) := dk_42 (dk_at dksX6_reason_0 1 rfl rfl)
theorem dX6_reason_2 : decode cX6_reason 2 = .ok (.getfield 252, 3) := dk_180 0 252 (dk_at dksX6_reason_0 2 rfl rfl)
theorem dX6_reason_5 : decode cX6_reason 5 = .ok (.ifCond .ne 7, 3) := dk_154 0 7 (dk_at dksX6_reason_0 5 rfl rfl)
theorem dX6_reason_8 : decode cX6_reason 8 = .ok (.iconst 1, 1) := dk_4 (dk_at dksX6_reason_0 8 rfl rfl)
theorem dX6_reason_9 : decode cX6_reason 9 = .ok (.goto 4, 3) := dk_167 0 4 (dk_at dksX6_reason_0 9 rfl rfl)
theorem dX6_reason_12 : decode cX6_reason 12 = .ok (.iconst 0, 1) := dk_3 (dk_at dksX6_reason_0 12 rfl rfl)
theorem dX6_reason_13 : decode cX6_reason 13 = .ok (.iconst 1, 1) := dk_4 (dk_at dksX6_reason_0 13 rfl rfl)
theorem dX6_reason_14 : decode cX6_reason 14 = .ok (.invokevirtual 164, 3) := dk_182 0 164 (dk_at dksX6_reason_0 14 rfl rfl)
theorem dX6_reason_17 : decode cX6_reason 17 = .ok (.ifCond .eq 7, 3) := dk_153 0 7 (dk_at dksX6_reason_0 17 rfl rfl)
theorem dX6_reason_20 : decode cX6_reason 20 = .ok (.iconst 0, 1) := dk_3 (dk_at dksX6_reason_0 20 rfl rfl)
theorem dX6_reason_21 : decode cX6_reason 21 = .ok (.goto 7, 3) := dk_167 0 7 (dk_at dksX6_reason_0 21 rfl rfl)
theorem dX6_reason_24 : decode cX6_reason 24 = .ok (.aload_n 0, 1) := dk_42 (dk_at dksX6_reason_1 0 rfl rfl)
theorem dX6_reason_25 : decode cX6_reason 25 = .ok (.getfield 252, 3) := dk_180 0 252 (dk_at dksX6_reason_1 1 rfl rfl)
theorem dX6_reason_28 : decode cX6_reason 28 = .ok (.ireturn, 1) := dk_172 (dk_at dksX6_reason_1 4 rfl rfl)
abbrev cX6_detail : ByteArray := prog_28_method_80_code
def yX6_detail : MethodName := ⟨RX6, "detail", "()I"⟩
def dkwX6_detail_1 : List UInt8 := [42, 180, 0, 255, 172]
abbrev dktX6_detail_1 : List UInt8 := dkwX6_detail_1 ++ []
def dkwX6_detail_0 : List UInt8 := [42, 42, 180, 0, 252, 154, 0, 7, 4, 167, 0, 4, 3, 4, 182, 0, 164, 153, 0, 7, 3, 167, 0, 7]
abbrev dktX6_detail_0 : List UInt8 := dkwX6_detail_0 ++ dktX6_detail_1
theorem dksX6_detail_0 : cX6_detail.data.toList.drop 0 = dktX6_detail_0 := by decide +kernel
theorem dksX6_detail_1 : cX6_detail.data.toList.drop 24 = dktX6_detail_1 := dk_seg dksX6_detail_0 24 rfl rfl
theorem dX6_detail_0 : decode cX6_detail 0 = .ok (.aload_n 0, 1) := dk_42 (dk_at dksX6_detail_0 0 rfl rfl)
theorem dX6_detail_1 : decode cX6_detail 1 = .ok (.aload_n 0, 1) := dk_42 (dk_at dksX6_detail_0 1 rfl rfl)
theorem dX6_detail_2 : decode cX6_detail 2 = .ok (.getfield 252, 3) := dk_180 0 252 (dk_at dksX6_detail_0 2 rfl rfl)
theorem dX6_detail_5 : decode cX6_detail 5 = .ok (.ifCond .ne 7, 3) := dk_154 0 7 (dk_at dksX6_detail_0 5 rfl rfl)
theorem dX6_detail_8 : decode cX6_detail 8 = .ok (.iconst 1, 1) := dk_4 (dk_at dksX6_detail_0 8 rfl rfl)
theorem dX6_detail_9 : decode cX6_detail 9 = .ok (.goto 4, 3) := dk_167 0 4 (dk_at dksX6_detail_0 9 rfl rfl)
theorem dX6_detail_12 : decode cX6_detail 12 = .ok (.iconst 0, 1) := dk_3 (dk_at dksX6_detail_0 12 rfl rfl)
theorem dX6_detail_13 : decode cX6_detail 13 = .ok (.iconst 1, 1) := dk_4 (dk_at dksX6_detail_0 13 rfl rfl)
theorem dX6_detail_14 : decode cX6_detail 14 = .ok (.invokevirtual 164, 3) := dk_182 0 164 (dk_at dksX6_detail_0 14 rfl rfl)
theorem dX6_detail_17 : decode cX6_detail 17 = .ok (.ifCond .eq 7, 3) := dk_153 0 7 (dk_at dksX6_detail_0 17 rfl rfl)
theorem dX6_detail_20 : decode cX6_detail 20 = .ok (.iconst 0, 1) := dk_3 (dk_at dksX6_detail_0 20 rfl rfl)
theorem dX6_detail_21 : decode cX6_detail 21 = .ok (.goto 7, 3) := dk_167 0 7 (dk_at dksX6_detail_0 21 rfl rfl)
theorem dX6_detail_24 : decode cX6_detail 24 = .ok (.aload_n 0, 1) := dk_42 (dk_at dksX6_detail_1 0 rfl rfl)
theorem dX6_detail_25 : decode cX6_detail 25 = .ok (.getfield 255, 3) := dk_180 0 255 (dk_at dksX6_detail_1 1 rfl rfl)
theorem dX6_detail_28 : decode cX6_detail 28 = .ok (.ireturn, 1) := dk_172 (dk_at dksX6_detail_1 4 rfl rfl)
abbrev cX6_meanHeight : ByteArray := prog_28_method_81_code
def yX6_meanHeight : MethodName := ⟨RX6, "meanHeight", "()D"⟩
def dkwX6_meanHeight_3 : List UInt8 := [28, 135, 27, 135, 111, 175]
abbrev dktX6_meanHeight_3 : List UInt8 := dkwX6_meanHeight_3 ++ []
def dkwX6_meanHeight_2 : List UInt8 := [167, 255, 224, 42, 27, 154, 0, 7, 4, 167, 0, 4, 3, 4, 182, 0, 164, 153, 0, 7, 14, 167, 0, 8]
abbrev dktX6_meanHeight_2 : List UInt8 := dkwX6_meanHeight_2 ++ dktX6_meanHeight_3
def dkwX6_meanHeight_1 : List UInt8 := [180, 0, 37, 29, 51, 153, 0, 12, 42, 180, 0, 22, 29, 46, 167, 0, 4, 3, 96, 61, 132, 3, 1]
abbrev dktX6_meanHeight_1 : List UInt8 := dkwX6_meanHeight_1 ++ dktX6_meanHeight_2
def dkwX6_meanHeight_0 : List UInt8 := [42, 3, 17, 1, 184, 182, 0, 211, 60, 3, 61, 3, 62, 29, 17, 1, 184, 162, 0, 31, 28, 42]
abbrev dktX6_meanHeight_0 : List UInt8 := dkwX6_meanHeight_0 ++ dktX6_meanHeight_1
theorem dksX6_meanHeight_0 : cX6_meanHeight.data.toList.drop 0 = dktX6_meanHeight_0 := by decide +kernel
theorem dksX6_meanHeight_1 : cX6_meanHeight.data.toList.drop 22 = dktX6_meanHeight_1 := dk_seg dksX6_meanHeight_0 22 rfl rfl
theorem dksX6_meanHeight_2 : cX6_meanHeight.data.toList.drop 45 = dktX6_meanHeight_2 := dk_seg dksX6_meanHeight_1 23 rfl rfl
theorem dksX6_meanHeight_3 : cX6_meanHeight.data.toList.drop 69 = dktX6_meanHeight_3 := dk_seg dksX6_meanHeight_2 24 rfl rfl
theorem dX6_meanHeight_0 : decode cX6_meanHeight 0 = .ok (.aload_n 0, 1) := dk_42 (dk_at dksX6_meanHeight_0 0 rfl rfl)
theorem dX6_meanHeight_1 : decode cX6_meanHeight 1 = .ok (.iconst 0, 1) := dk_3 (dk_at dksX6_meanHeight_0 1 rfl rfl)
theorem dX6_meanHeight_2 : decode cX6_meanHeight 2 = .ok (.sipush 440, 3) := dk_17 1 184 (dk_at dksX6_meanHeight_0 2 rfl rfl)
theorem dX6_meanHeight_5 : decode cX6_meanHeight 5 = .ok (.invokevirtual 211, 3) := dk_182 0 211 (dk_at dksX6_meanHeight_0 5 rfl rfl)
theorem dX6_meanHeight_8 : decode cX6_meanHeight 8 = .ok (.istore_n 1, 1) := dk_60 (dk_at dksX6_meanHeight_0 8 rfl rfl)
theorem dX6_meanHeight_9 : decode cX6_meanHeight 9 = .ok (.iconst 0, 1) := dk_3 (dk_at dksX6_meanHeight_0 9 rfl rfl)
theorem dX6_meanHeight_10 : decode cX6_meanHeight 10 = .ok (.istore_n 2, 1) := dk_61 (dk_at dksX6_meanHeight_0 10 rfl rfl)
theorem dX6_meanHeight_11 : decode cX6_meanHeight 11 = .ok (.iconst 0, 1) := dk_3 (dk_at dksX6_meanHeight_0 11 rfl rfl)
theorem dX6_meanHeight_12 : decode cX6_meanHeight 12 = .ok (.istore_n 3, 1) := dk_62 (dk_at dksX6_meanHeight_0 12 rfl rfl)
theorem dX6_meanHeight_13 : decode cX6_meanHeight 13 = .ok (.iload_n 3, 1) := dk_29 (dk_at dksX6_meanHeight_0 13 rfl rfl)
theorem dX6_meanHeight_14 : decode cX6_meanHeight 14 = .ok (.sipush 440, 3) := dk_17 1 184 (dk_at dksX6_meanHeight_0 14 rfl rfl)
theorem dX6_meanHeight_17 : decode cX6_meanHeight 17 = .ok (.if_icmp .ge 31, 3) := dk_162 0 31 (dk_at dksX6_meanHeight_0 17 rfl rfl)
theorem dX6_meanHeight_20 : decode cX6_meanHeight 20 = .ok (.iload_n 2, 1) := dk_28 (dk_at dksX6_meanHeight_0 20 rfl rfl)
theorem dX6_meanHeight_21 : decode cX6_meanHeight 21 = .ok (.aload_n 0, 1) := dk_42 (dk_at dksX6_meanHeight_0 21 rfl rfl)
theorem dX6_meanHeight_22 : decode cX6_meanHeight 22 = .ok (.getfield 37, 3) := dk_180 0 37 (dk_at dksX6_meanHeight_1 0 rfl rfl)
theorem dX6_meanHeight_25 : decode cX6_meanHeight 25 = .ok (.iload_n 3, 1) := dk_29 (dk_at dksX6_meanHeight_1 3 rfl rfl)
theorem dX6_meanHeight_26 : decode cX6_meanHeight 26 = .ok (.baload, 1) := dk_51 (dk_at dksX6_meanHeight_1 4 rfl rfl)
theorem dX6_meanHeight_27 : decode cX6_meanHeight 27 = .ok (.ifCond .eq 12, 3) := dk_153 0 12 (dk_at dksX6_meanHeight_1 5 rfl rfl)
theorem dX6_meanHeight_30 : decode cX6_meanHeight 30 = .ok (.aload_n 0, 1) := dk_42 (dk_at dksX6_meanHeight_1 8 rfl rfl)
theorem dX6_meanHeight_31 : decode cX6_meanHeight 31 = .ok (.getfield 22, 3) := dk_180 0 22 (dk_at dksX6_meanHeight_1 9 rfl rfl)
theorem dX6_meanHeight_34 : decode cX6_meanHeight 34 = .ok (.iload_n 3, 1) := dk_29 (dk_at dksX6_meanHeight_1 12 rfl rfl)
theorem dX6_meanHeight_35 : decode cX6_meanHeight 35 = .ok (.iaload, 1) := dk_46 (dk_at dksX6_meanHeight_1 13 rfl rfl)
theorem dX6_meanHeight_36 : decode cX6_meanHeight 36 = .ok (.goto 4, 3) := dk_167 0 4 (dk_at dksX6_meanHeight_1 14 rfl rfl)
theorem dX6_meanHeight_39 : decode cX6_meanHeight 39 = .ok (.iconst 0, 1) := dk_3 (dk_at dksX6_meanHeight_1 17 rfl rfl)
theorem dX6_meanHeight_40 : decode cX6_meanHeight 40 = .ok (.iadd, 1) := dk_96 (dk_at dksX6_meanHeight_1 18 rfl rfl)
theorem dX6_meanHeight_41 : decode cX6_meanHeight 41 = .ok (.istore_n 2, 1) := dk_61 (dk_at dksX6_meanHeight_1 19 rfl rfl)
theorem dX6_meanHeight_42 : decode cX6_meanHeight 42 = .ok (.iinc 3 1, 3) := dk_132 3 1 (dk_at dksX6_meanHeight_1 20 rfl rfl)
theorem dX6_meanHeight_45 : decode cX6_meanHeight 45 = .ok (.goto (-32), 3) := dk_167 255 224 (dk_at dksX6_meanHeight_2 0 rfl rfl)
theorem dX6_meanHeight_48 : decode cX6_meanHeight 48 = .ok (.aload_n 0, 1) := dk_42 (dk_at dksX6_meanHeight_2 3 rfl rfl)
theorem dX6_meanHeight_49 : decode cX6_meanHeight 49 = .ok (.iload_n 1, 1) := dk_27 (dk_at dksX6_meanHeight_2 4 rfl rfl)
theorem dX6_meanHeight_50 : decode cX6_meanHeight 50 = .ok (.ifCond .ne 7, 3) := dk_154 0 7 (dk_at dksX6_meanHeight_2 5 rfl rfl)
theorem dX6_meanHeight_53 : decode cX6_meanHeight 53 = .ok (.iconst 1, 1) := dk_4 (dk_at dksX6_meanHeight_2 8 rfl rfl)
theorem dX6_meanHeight_54 : decode cX6_meanHeight 54 = .ok (.goto 4, 3) := dk_167 0 4 (dk_at dksX6_meanHeight_2 9 rfl rfl)
theorem dX6_meanHeight_57 : decode cX6_meanHeight 57 = .ok (.iconst 0, 1) := dk_3 (dk_at dksX6_meanHeight_2 12 rfl rfl)
theorem dX6_meanHeight_58 : decode cX6_meanHeight 58 = .ok (.iconst 1, 1) := dk_4 (dk_at dksX6_meanHeight_2 13 rfl rfl)
theorem dX6_meanHeight_59 : decode cX6_meanHeight 59 = .ok (.invokevirtual 164, 3) := dk_182 0 164 (dk_at dksX6_meanHeight_2 14 rfl rfl)
theorem dX6_meanHeight_62 : decode cX6_meanHeight 62 = .ok (.ifCond .eq 7, 3) := dk_153 0 7 (dk_at dksX6_meanHeight_2 17 rfl rfl)
theorem dX6_meanHeight_65 : decode cX6_meanHeight 65 = .ok (.dconst 0, 1) := dk_14 (dk_at dksX6_meanHeight_2 20 rfl rfl)
theorem dX6_meanHeight_66 : decode cX6_meanHeight 66 = .ok (.goto 8, 3) := dk_167 0 8 (dk_at dksX6_meanHeight_2 21 rfl rfl)
theorem dX6_meanHeight_69 : decode cX6_meanHeight 69 = .ok (.iload_n 2, 1) := dk_28 (dk_at dksX6_meanHeight_3 0 rfl rfl)
theorem dX6_meanHeight_70 : decode cX6_meanHeight 70 = .ok (.i2d, 1) := dk_135 (dk_at dksX6_meanHeight_3 1 rfl rfl)
theorem dX6_meanHeight_71 : decode cX6_meanHeight 71 = .ok (.iload_n 1, 1) := dk_27 (dk_at dksX6_meanHeight_3 2 rfl rfl)
theorem dX6_meanHeight_72 : decode cX6_meanHeight 72 = .ok (.i2d, 1) := dk_135 (dk_at dksX6_meanHeight_3 3 rfl rfl)
theorem dX6_meanHeight_73 : decode cX6_meanHeight 73 = .ok (.ddiv, 1) := dk_111 (dk_at dksX6_meanHeight_3 4 rfl rfl)
theorem dX6_meanHeight_74 : decode cX6_meanHeight 74 = .ok (.dreturn, 1) := dk_175 (dk_at dksX6_meanHeight_3 5 rfl rfl)
abbrev cX6_derivedShare : ByteArray := prog_28_method_82_code
def yX6_derivedShare : MethodName := ⟨RX6, "derivedShare", "()F"⟩
def dkwX6_derivedShare_1 : List UInt8 := [153, 0, 7, 11, 167, 0, 15, 27, 42, 180, 0, 9, 3, 46, 100, 134, 27, 134, 110, 174]
abbrev dktX6_derivedShare_1 : List UInt8 := dkwX6_derivedShare_1 ++ []
def dkwX6_derivedShare_0 : List UInt8 := [42, 3, 17, 1, 184, 182, 0, 211, 60, 42, 27, 154, 0, 7, 4, 167, 0, 4, 3, 4, 182, 0, 164]
abbrev dktX6_derivedShare_0 : List UInt8 := dkwX6_derivedShare_0 ++ dktX6_derivedShare_1
theorem dksX6_derivedShare_0 : cX6_derivedShare.data.toList.drop 0 = dktX6_derivedShare_0 := by decide +kernel
theorem dksX6_derivedShare_1 : cX6_derivedShare.data.toList.drop 23 = dktX6_derivedShare_1 := dk_seg dksX6_derivedShare_0 23 rfl rfl
theorem dX6_derivedShare_0 : decode cX6_derivedShare 0 = .ok (.aload_n 0, 1) := dk_42 (dk_at dksX6_derivedShare_0 0 rfl rfl)
theorem dX6_derivedShare_1 : decode cX6_derivedShare 1 = .ok (.iconst 0, 1) := dk_3 (dk_at dksX6_derivedShare_0 1 rfl rfl)
theorem dX6_derivedShare_2 : decode cX6_derivedShare 2 = .ok (.sipush 440, 3) := dk_17 1 184 (dk_at dksX6_derivedShare_0 2 rfl rfl)
theorem dX6_derivedShare_5 : decode cX6_derivedShare 5 = .ok (.invokevirtual 211, 3) := dk_182 0 211 (dk_at dksX6_derivedShare_0 5 rfl rfl)
theorem dX6_derivedShare_8 : decode cX6_derivedShare 8 = .ok (.istore_n 1, 1) := dk_60 (dk_at dksX6_derivedShare_0 8 rfl rfl)
theorem dX6_derivedShare_9 : decode cX6_derivedShare 9 = .ok (.aload_n 0, 1) := dk_42 (dk_at dksX6_derivedShare_0 9 rfl rfl)
theorem dX6_derivedShare_10 : decode cX6_derivedShare 10 = .ok (.iload_n 1, 1) := dk_27 (dk_at dksX6_derivedShare_0 10 rfl rfl)
theorem dX6_derivedShare_11 : decode cX6_derivedShare 11 = .ok (.ifCond .ne 7, 3) := dk_154 0 7 (dk_at dksX6_derivedShare_0 11 rfl rfl)
theorem dX6_derivedShare_14 : decode cX6_derivedShare 14 = .ok (.iconst 1, 1) := dk_4 (dk_at dksX6_derivedShare_0 14 rfl rfl)
theorem dX6_derivedShare_15 : decode cX6_derivedShare 15 = .ok (.goto 4, 3) := dk_167 0 4 (dk_at dksX6_derivedShare_0 15 rfl rfl)
theorem dX6_derivedShare_18 : decode cX6_derivedShare 18 = .ok (.iconst 0, 1) := dk_3 (dk_at dksX6_derivedShare_0 18 rfl rfl)
theorem dX6_derivedShare_19 : decode cX6_derivedShare 19 = .ok (.iconst 1, 1) := dk_4 (dk_at dksX6_derivedShare_0 19 rfl rfl)
theorem dX6_derivedShare_20 : decode cX6_derivedShare 20 = .ok (.invokevirtual 164, 3) := dk_182 0 164 (dk_at dksX6_derivedShare_0 20 rfl rfl)
theorem dX6_derivedShare_23 : decode cX6_derivedShare 23 = .ok (.ifCond .eq 7, 3) := dk_153 0 7 (dk_at dksX6_derivedShare_1 0 rfl rfl)
theorem dX6_derivedShare_26 : decode cX6_derivedShare 26 = .ok (.fconst 0, 1) := dk_11 (dk_at dksX6_derivedShare_1 3 rfl rfl)
theorem dX6_derivedShare_27 : decode cX6_derivedShare 27 = .ok (.goto 15, 3) := dk_167 0 15 (dk_at dksX6_derivedShare_1 4 rfl rfl)
theorem dX6_derivedShare_30 : decode cX6_derivedShare 30 = .ok (.iload_n 1, 1) := dk_27 (dk_at dksX6_derivedShare_1 7 rfl rfl)
theorem dX6_derivedShare_31 : decode cX6_derivedShare 31 = .ok (.aload_n 0, 1) := dk_42 (dk_at dksX6_derivedShare_1 8 rfl rfl)
theorem dX6_derivedShare_32 : decode cX6_derivedShare 32 = .ok (.getfield 9, 3) := dk_180 0 9 (dk_at dksX6_derivedShare_1 9 rfl rfl)
theorem dX6_derivedShare_35 : decode cX6_derivedShare 35 = .ok (.iconst 0, 1) := dk_3 (dk_at dksX6_derivedShare_1 12 rfl rfl)
theorem dX6_derivedShare_36 : decode cX6_derivedShare 36 = .ok (.iaload, 1) := dk_46 (dk_at dksX6_derivedShare_1 13 rfl rfl)
theorem dX6_derivedShare_37 : decode cX6_derivedShare 37 = .ok (.isub, 1) := dk_100 (dk_at dksX6_derivedShare_1 14 rfl rfl)
theorem dX6_derivedShare_38 : decode cX6_derivedShare 38 = .ok (.i2f, 1) := dk_134 (dk_at dksX6_derivedShare_1 15 rfl rfl)
theorem dX6_derivedShare_39 : decode cX6_derivedShare 39 = .ok (.iload_n 1, 1) := dk_27 (dk_at dksX6_derivedShare_1 16 rfl rfl)
theorem dX6_derivedShare_40 : decode cX6_derivedShare 40 = .ok (.i2f, 1) := dk_134 (dk_at dksX6_derivedShare_1 17 rfl rfl)
theorem dX6_derivedShare_41 : decode cX6_derivedShare 41 = .ok (.fdiv, 1) := dk_110 (dk_at dksX6_derivedShare_1 18 rfl rfl)
theorem dX6_derivedShare_42 : decode cX6_derivedShare 42 = .ok (.freturn, 1) := dk_174 (dk_at dksX6_derivedShare_1 19 rfl rfl)
abbrev cX6_isConsistent : ByteArray := prog_28_method_83_code
def yX6_isConsistent : MethodName := ⟨RX6, "isConsistent", "()Z"⟩
def dkwX6_isConsistent_1 : List UInt8 := [160, 0, 7, 4, 167, 0, 4, 3, 172]
abbrev dktX6_isConsistent_1 : List UInt8 := dkwX6_isConsistent_1 ++ []
def dkwX6_isConsistent_0 : List UInt8 := [42, 3, 181, 0, 63, 42, 180, 0, 9, 3, 46, 42, 180, 0, 9, 4, 46, 42, 180, 0, 9, 5, 46, 100]
abbrev dktX6_isConsistent_0 : List UInt8 := dkwX6_isConsistent_0 ++ dktX6_isConsistent_1
theorem dksX6_isConsistent_0 : cX6_isConsistent.data.toList.drop 0 = dktX6_isConsistent_0 := by decide +kernel
theorem dksX6_isConsistent_1 : cX6_isConsistent.data.toList.drop 24 = dktX6_isConsistent_1 := dk_seg dksX6_isConsistent_0 24 rfl rfl
theorem dX6_isConsistent_0 : decode cX6_isConsistent 0 = .ok (.aload_n 0, 1) := dk_42 (dk_at dksX6_isConsistent_0 0 rfl rfl)
theorem dX6_isConsistent_1 : decode cX6_isConsistent 1 = .ok (.iconst 0, 1) := dk_3 (dk_at dksX6_isConsistent_0 1 rfl rfl)
theorem dX6_isConsistent_2 : decode cX6_isConsistent 2 = .ok (.putfield 63, 3) := dk_181 0 63 (dk_at dksX6_isConsistent_0 2 rfl rfl)
theorem dX6_isConsistent_5 : decode cX6_isConsistent 5 = .ok (.aload_n 0, 1) := dk_42 (dk_at dksX6_isConsistent_0 5 rfl rfl)
theorem dX6_isConsistent_6 : decode cX6_isConsistent 6 = .ok (.getfield 9, 3) := dk_180 0 9 (dk_at dksX6_isConsistent_0 6 rfl rfl)
theorem dX6_isConsistent_9 : decode cX6_isConsistent 9 = .ok (.iconst 0, 1) := dk_3 (dk_at dksX6_isConsistent_0 9 rfl rfl)
theorem dX6_isConsistent_10 : decode cX6_isConsistent 10 = .ok (.iaload, 1) := dk_46 (dk_at dksX6_isConsistent_0 10 rfl rfl)
theorem dX6_isConsistent_11 : decode cX6_isConsistent 11 = .ok (.aload_n 0, 1) := dk_42 (dk_at dksX6_isConsistent_0 11 rfl rfl)
theorem dX6_isConsistent_12 : decode cX6_isConsistent 12 = .ok (.getfield 9, 3) := dk_180 0 9 (dk_at dksX6_isConsistent_0 12 rfl rfl)
theorem dX6_isConsistent_15 : decode cX6_isConsistent 15 = .ok (.iconst 1, 1) := dk_4 (dk_at dksX6_isConsistent_0 15 rfl rfl)
theorem dX6_isConsistent_16 : decode cX6_isConsistent 16 = .ok (.iaload, 1) := dk_46 (dk_at dksX6_isConsistent_0 16 rfl rfl)
theorem dX6_isConsistent_17 : decode cX6_isConsistent 17 = .ok (.aload_n 0, 1) := dk_42 (dk_at dksX6_isConsistent_0 17 rfl rfl)
theorem dX6_isConsistent_18 : decode cX6_isConsistent 18 = .ok (.getfield 9, 3) := dk_180 0 9 (dk_at dksX6_isConsistent_0 18 rfl rfl)
theorem dX6_isConsistent_21 : decode cX6_isConsistent 21 = .ok (.iconst 2, 1) := dk_5 (dk_at dksX6_isConsistent_0 21 rfl rfl)
theorem dX6_isConsistent_22 : decode cX6_isConsistent 22 = .ok (.iaload, 1) := dk_46 (dk_at dksX6_isConsistent_0 22 rfl rfl)
theorem dX6_isConsistent_23 : decode cX6_isConsistent 23 = .ok (.isub, 1) := dk_100 (dk_at dksX6_isConsistent_0 23 rfl rfl)
theorem dX6_isConsistent_24 : decode cX6_isConsistent 24 = .ok (.if_icmp .ne 7, 3) := dk_160 0 7 (dk_at dksX6_isConsistent_1 0 rfl rfl)
theorem dX6_isConsistent_27 : decode cX6_isConsistent 27 = .ok (.iconst 1, 1) := dk_4 (dk_at dksX6_isConsistent_1 3 rfl rfl)
theorem dX6_isConsistent_28 : decode cX6_isConsistent 28 = .ok (.goto 4, 3) := dk_167 0 4 (dk_at dksX6_isConsistent_1 4 rfl rfl)
theorem dX6_isConsistent_31 : decode cX6_isConsistent 31 = .ok (.iconst 0, 1) := dk_3 (dk_at dksX6_isConsistent_1 7 rfl rfl)
theorem dX6_isConsistent_32 : decode cX6_isConsistent 32 = .ok (.ireturn, 1) := dk_172 (dk_at dksX6_isConsistent_1 8 rfl rfl)
abbrev cX6_append : ByteArray := prog_28_method_84_code
def yX6_append : MethodName := ⟨RX6, "append", "(C)I"⟩
def dkwX6_append_2 : List UInt8 := [172]
abbrev dktX6_append_2 : List UInt8 := dkwX6_append_2 ++ []
def dkwX6_append_1 : List UInt8 := [42, 180, 0, 54, 42, 180, 1, 2, 27, 79, 42, 89, 180, 1, 2, 4, 96, 181, 1, 2, 42, 180, 1, 2]
abbrev dktX6_append_1 : List UInt8 := dkwX6_append_1 ++ dktX6_append_2
def dkwX6_append_0 : List UInt8 := [42, 42, 180, 1, 2, 16, 60, 160, 0, 7, 4, 167, 0, 4, 3, 4, 182, 0, 164, 153, 0, 5, 3, 172]
abbrev dktX6_append_0 : List UInt8 := dkwX6_append_0 ++ dktX6_append_1
theorem dksX6_append_0 : cX6_append.data.toList.drop 0 = dktX6_append_0 := by decide +kernel
theorem dksX6_append_1 : cX6_append.data.toList.drop 24 = dktX6_append_1 := dk_seg dksX6_append_0 24 rfl rfl
theorem dksX6_append_2 : cX6_append.data.toList.drop 48 = dktX6_append_2 := dk_seg dksX6_append_1 24 rfl rfl
theorem dX6_append_0 : decode cX6_append 0 = .ok (.aload_n 0, 1) := dk_42 (dk_at dksX6_append_0 0 rfl rfl)
theorem dX6_append_1 : decode cX6_append 1 = .ok (.aload_n 0, 1) := dk_42 (dk_at dksX6_append_0 1 rfl rfl)
theorem dX6_append_2 : decode cX6_append 2 = .ok (.getfield 258, 3) := dk_180 1 2 (dk_at dksX6_append_0 2 rfl rfl)
theorem dX6_append_5 : decode cX6_append 5 = .ok (.bipush 60, 2) := dk_16 60 (dk_at dksX6_append_0 5 rfl rfl)
theorem dX6_append_7 : decode cX6_append 7 = .ok (.if_icmp .ne 7, 3) := dk_160 0 7 (dk_at dksX6_append_0 7 rfl rfl)
theorem dX6_append_10 : decode cX6_append 10 = .ok (.iconst 1, 1) := dk_4 (dk_at dksX6_append_0 10 rfl rfl)
theorem dX6_append_11 : decode cX6_append 11 = .ok (.goto 4, 3) := dk_167 0 4 (dk_at dksX6_append_0 11 rfl rfl)
theorem dX6_append_14 : decode cX6_append 14 = .ok (.iconst 0, 1) := dk_3 (dk_at dksX6_append_0 14 rfl rfl)
theorem dX6_append_15 : decode cX6_append 15 = .ok (.iconst 1, 1) := dk_4 (dk_at dksX6_append_0 15 rfl rfl)
theorem dX6_append_16 : decode cX6_append 16 = .ok (.invokevirtual 164, 3) := dk_182 0 164 (dk_at dksX6_append_0 16 rfl rfl)
theorem dX6_append_19 : decode cX6_append 19 = .ok (.ifCond .eq 5, 3) := dk_153 0 5 (dk_at dksX6_append_0 19 rfl rfl)
theorem dX6_append_22 : decode cX6_append 22 = .ok (.iconst 0, 1) := dk_3 (dk_at dksX6_append_0 22 rfl rfl)
theorem dX6_append_23 : decode cX6_append 23 = .ok (.ireturn, 1) := dk_172 (dk_at dksX6_append_0 23 rfl rfl)
theorem dX6_append_24 : decode cX6_append 24 = .ok (.aload_n 0, 1) := dk_42 (dk_at dksX6_append_1 0 rfl rfl)
theorem dX6_append_25 : decode cX6_append 25 = .ok (.getfield 54, 3) := dk_180 0 54 (dk_at dksX6_append_1 1 rfl rfl)
theorem dX6_append_28 : decode cX6_append 28 = .ok (.aload_n 0, 1) := dk_42 (dk_at dksX6_append_1 4 rfl rfl)
theorem dX6_append_29 : decode cX6_append 29 = .ok (.getfield 258, 3) := dk_180 1 2 (dk_at dksX6_append_1 5 rfl rfl)
theorem dX6_append_32 : decode cX6_append 32 = .ok (.iload_n 1, 1) := dk_27 (dk_at dksX6_append_1 8 rfl rfl)
theorem dX6_append_33 : decode cX6_append 33 = .ok (.iastore, 1) := dk_79 (dk_at dksX6_append_1 9 rfl rfl)
theorem dX6_append_34 : decode cX6_append 34 = .ok (.aload_n 0, 1) := dk_42 (dk_at dksX6_append_1 10 rfl rfl)
theorem dX6_append_35 : decode cX6_append 35 = .ok (.dup, 1) := dk_89 (dk_at dksX6_append_1 11 rfl rfl)
theorem dX6_append_36 : decode cX6_append 36 = .ok (.getfield 258, 3) := dk_180 1 2 (dk_at dksX6_append_1 12 rfl rfl)
theorem dX6_append_39 : decode cX6_append 39 = .ok (.iconst 1, 1) := dk_4 (dk_at dksX6_append_1 15 rfl rfl)
theorem dX6_append_40 : decode cX6_append 40 = .ok (.iadd, 1) := dk_96 (dk_at dksX6_append_1 16 rfl rfl)
theorem dX6_append_41 : decode cX6_append 41 = .ok (.putfield 258, 3) := dk_181 1 2 (dk_at dksX6_append_1 17 rfl rfl)
theorem dX6_append_44 : decode cX6_append 44 = .ok (.aload_n 0, 1) := dk_42 (dk_at dksX6_append_1 20 rfl rfl)
theorem dX6_append_45 : decode cX6_append 45 = .ok (.getfield 258, 3) := dk_180 1 2 (dk_at dksX6_append_1 21 rfl rfl)
theorem dX6_append_48 : decode cX6_append 48 = .ok (.ireturn, 1) := dk_172 (dk_at dksX6_append_2 0 rfl rfl)
abbrev cX6_run : ByteArray := prog_28_method_104_code
def yX6_run : MethodName := ⟨RX6, "run", "()I"⟩
def dkwX6_run_5 : List UInt8 := [172]
abbrev dktX6_run_5 : List UInt8 := dkwX6_run_5 ++ []
def dkwX6_run_4 : List UInt8 := [181, 0, 51, 42, 5, 181, 0, 63, 3, 172, 132, 2, 1, 167, 255, 191, 42, 42, 180, 1, 52, 182, 0, 177]
abbrev dktX6_run_4 : List UInt8 := dkwX6_run_4 ++ dktX6_run_5
def dkwX6_run_3 : List UInt8 := [153, 0, 33, 42, 180, 0, 13, 3, 42, 180, 0, 9, 3, 184, 0, 66, 42, 3, 181, 0, 70, 42, 28]
abbrev dktX6_run_3 : List UInt8 := dkwX6_run_3 ++ dktX6_run_4
def dkwX6_run_2 : List UInt8 := [162, 0, 63, 42, 3, 181, 0, 63, 42, 42, 16, 77, 28, 104, 182, 1, 91, 181, 0, 189, 42, 180, 0, 63]
abbrev dktX6_run_2 : List UInt8 := dkwX6_run_2 ++ dktX6_run_3
def dkwX6_run_1 : List UInt8 := [153, 0, 13, 42, 42, 180, 1, 5, 181, 0, 47, 3, 172, 42, 182, 0, 171, 3, 61, 28, 42, 180, 1, 52]
abbrev dktX6_run_1 : List UInt8 := dkwX6_run_1 ++ dktX6_run_2
def dkwX6_run_0 : List UInt8 := [42, 182, 1, 88, 60, 42, 3, 181, 1, 2, 42, 27, 154, 0, 7, 4, 167, 0, 4, 3, 4, 182, 0, 164]
abbrev dktX6_run_0 : List UInt8 := dkwX6_run_0 ++ dktX6_run_1
theorem dksX6_run_0 : cX6_run.data.toList.drop 0 = dktX6_run_0 := by decide +kernel
theorem dksX6_run_1 : cX6_run.data.toList.drop 24 = dktX6_run_1 := dk_seg dksX6_run_0 24 rfl rfl
theorem dksX6_run_2 : cX6_run.data.toList.drop 48 = dktX6_run_2 := dk_seg dksX6_run_1 24 rfl rfl
theorem dksX6_run_3 : cX6_run.data.toList.drop 72 = dktX6_run_3 := dk_seg dksX6_run_2 24 rfl rfl
theorem dksX6_run_4 : cX6_run.data.toList.drop 95 = dktX6_run_4 := dk_seg dksX6_run_3 23 rfl rfl
theorem dksX6_run_5 : cX6_run.data.toList.drop 119 = dktX6_run_5 := dk_seg dksX6_run_4 24 rfl rfl
theorem dX6_run_0 : decode cX6_run 0 = .ok (.aload_n 0, 1) := dk_42 (dk_at dksX6_run_0 0 rfl rfl)
theorem dX6_run_1 : decode cX6_run 1 = .ok (.invokevirtual 344, 3) := dk_182 1 88 (dk_at dksX6_run_0 1 rfl rfl)
theorem dX6_run_4 : decode cX6_run 4 = .ok (.istore_n 1, 1) := dk_60 (dk_at dksX6_run_0 4 rfl rfl)
theorem dX6_run_5 : decode cX6_run 5 = .ok (.aload_n 0, 1) := dk_42 (dk_at dksX6_run_0 5 rfl rfl)
theorem dX6_run_6 : decode cX6_run 6 = .ok (.iconst 0, 1) := dk_3 (dk_at dksX6_run_0 6 rfl rfl)
theorem dX6_run_7 : decode cX6_run 7 = .ok (.putfield 258, 3) := dk_181 1 2 (dk_at dksX6_run_0 7 rfl rfl)
theorem dX6_run_10 : decode cX6_run 10 = .ok (.aload_n 0, 1) := dk_42 (dk_at dksX6_run_0 10 rfl rfl)
theorem dX6_run_11 : decode cX6_run 11 = .ok (.iload_n 1, 1) := dk_27 (dk_at dksX6_run_0 11 rfl rfl)
theorem dX6_run_12 : decode cX6_run 12 = .ok (.ifCond .ne 7, 3) := dk_154 0 7 (dk_at dksX6_run_0 12 rfl rfl)
theorem dX6_run_15 : decode cX6_run 15 = .ok (.iconst 1, 1) := dk_4 (dk_at dksX6_run_0 15 rfl rfl)
theorem dX6_run_16 : decode cX6_run 16 = .ok (.goto 4, 3) := dk_167 0 4 (dk_at dksX6_run_0 16 rfl rfl)
theorem dX6_run_19 : decode cX6_run 19 = .ok (.iconst 0, 1) := dk_3 (dk_at dksX6_run_0 19 rfl rfl)
theorem dX6_run_20 : decode cX6_run 20 = .ok (.iconst 1, 1) := dk_4 (dk_at dksX6_run_0 20 rfl rfl)
theorem dX6_run_21 : decode cX6_run 21 = .ok (.invokevirtual 164, 3) := dk_182 0 164 (dk_at dksX6_run_0 21 rfl rfl)
theorem dX6_run_24 : decode cX6_run 24 = .ok (.ifCond .eq 13, 3) := dk_153 0 13 (dk_at dksX6_run_1 0 rfl rfl)
theorem dX6_run_27 : decode cX6_run 27 = .ok (.aload_n 0, 1) := dk_42 (dk_at dksX6_run_1 3 rfl rfl)
theorem dX6_run_28 : decode cX6_run 28 = .ok (.aload_n 0, 1) := dk_42 (dk_at dksX6_run_1 4 rfl rfl)
theorem dX6_run_29 : decode cX6_run 29 = .ok (.getfield 261, 3) := dk_180 1 5 (dk_at dksX6_run_1 5 rfl rfl)
theorem dX6_run_32 : decode cX6_run 32 = .ok (.putfield 47, 3) := dk_181 0 47 (dk_at dksX6_run_1 8 rfl rfl)
theorem dX6_run_35 : decode cX6_run 35 = .ok (.iconst 0, 1) := dk_3 (dk_at dksX6_run_1 11 rfl rfl)
theorem dX6_run_36 : decode cX6_run 36 = .ok (.ireturn, 1) := dk_172 (dk_at dksX6_run_1 12 rfl rfl)
theorem dX6_run_37 : decode cX6_run 37 = .ok (.aload_n 0, 1) := dk_42 (dk_at dksX6_run_1 13 rfl rfl)
theorem dX6_run_38 : decode cX6_run 38 = .ok (.invokevirtual 171, 3) := dk_182 0 171 (dk_at dksX6_run_1 14 rfl rfl)
theorem dX6_run_41 : decode cX6_run 41 = .ok (.iconst 0, 1) := dk_3 (dk_at dksX6_run_1 17 rfl rfl)
theorem dX6_run_42 : decode cX6_run 42 = .ok (.istore_n 2, 1) := dk_61 (dk_at dksX6_run_1 18 rfl rfl)
theorem dX6_run_43 : decode cX6_run 43 = .ok (.iload_n 2, 1) := dk_28 (dk_at dksX6_run_1 19 rfl rfl)
theorem dX6_run_44 : decode cX6_run 44 = .ok (.aload_n 0, 1) := dk_42 (dk_at dksX6_run_1 20 rfl rfl)
theorem dX6_run_45 : decode cX6_run 45 = .ok (.getfield 308, 3) := dk_180 1 52 (dk_at dksX6_run_1 21 rfl rfl)
theorem dX6_run_48 : decode cX6_run 48 = .ok (.if_icmp .ge 63, 3) := dk_162 0 63 (dk_at dksX6_run_2 0 rfl rfl)
theorem dX6_run_51 : decode cX6_run 51 = .ok (.aload_n 0, 1) := dk_42 (dk_at dksX6_run_2 3 rfl rfl)
theorem dX6_run_52 : decode cX6_run 52 = .ok (.iconst 0, 1) := dk_3 (dk_at dksX6_run_2 4 rfl rfl)
theorem dX6_run_53 : decode cX6_run 53 = .ok (.putfield 63, 3) := dk_181 0 63 (dk_at dksX6_run_2 5 rfl rfl)
theorem dX6_run_56 : decode cX6_run 56 = .ok (.aload_n 0, 1) := dk_42 (dk_at dksX6_run_2 8 rfl rfl)
theorem dX6_run_57 : decode cX6_run 57 = .ok (.aload_n 0, 1) := dk_42 (dk_at dksX6_run_2 9 rfl rfl)
theorem dX6_run_58 : decode cX6_run 58 = .ok (.bipush 77, 2) := dk_16 77 (dk_at dksX6_run_2 10 rfl rfl)
theorem dX6_run_60 : decode cX6_run 60 = .ok (.iload_n 2, 1) := dk_28 (dk_at dksX6_run_2 12 rfl rfl)
theorem dX6_run_61 : decode cX6_run 61 = .ok (.imul, 1) := dk_104 (dk_at dksX6_run_2 13 rfl rfl)
theorem dX6_run_62 : decode cX6_run 62 = .ok (.invokevirtual 347, 3) := dk_182 1 91 (dk_at dksX6_run_2 14 rfl rfl)
theorem dX6_run_65 : decode cX6_run 65 = .ok (.putfield 189, 3) := dk_181 0 189 (dk_at dksX6_run_2 17 rfl rfl)
theorem dX6_run_68 : decode cX6_run 68 = .ok (.aload_n 0, 1) := dk_42 (dk_at dksX6_run_2 20 rfl rfl)
theorem dX6_run_69 : decode cX6_run 69 = .ok (.getfield 63, 3) := dk_180 0 63 (dk_at dksX6_run_2 21 rfl rfl)
theorem dX6_run_72 : decode cX6_run 72 = .ok (.ifCond .eq 33, 3) := dk_153 0 33 (dk_at dksX6_run_3 0 rfl rfl)
theorem dX6_run_75 : decode cX6_run 75 = .ok (.aload_n 0, 1) := dk_42 (dk_at dksX6_run_3 3 rfl rfl)
theorem dX6_run_76 : decode cX6_run 76 = .ok (.getfield 13, 3) := dk_180 0 13 (dk_at dksX6_run_3 4 rfl rfl)
theorem dX6_run_79 : decode cX6_run 79 = .ok (.iconst 0, 1) := dk_3 (dk_at dksX6_run_3 7 rfl rfl)
theorem dX6_run_80 : decode cX6_run 80 = .ok (.aload_n 0, 1) := dk_42 (dk_at dksX6_run_3 8 rfl rfl)
theorem dX6_run_81 : decode cX6_run 81 = .ok (.getfield 9, 3) := dk_180 0 9 (dk_at dksX6_run_3 9 rfl rfl)
theorem dX6_run_84 : decode cX6_run 84 = .ok (.iconst 0, 1) := dk_3 (dk_at dksX6_run_3 12 rfl rfl)
theorem dX6_run_85 : decode cX6_run 85 = .ok (.invokestatic 66, 3) := dk_184 0 66 (dk_at dksX6_run_3 13 rfl rfl)
theorem dX6_run_88 : decode cX6_run 88 = .ok (.aload_n 0, 1) := dk_42 (dk_at dksX6_run_3 16 rfl rfl)
theorem dX6_run_89 : decode cX6_run 89 = .ok (.iconst 0, 1) := dk_3 (dk_at dksX6_run_3 17 rfl rfl)
theorem dX6_run_90 : decode cX6_run 90 = .ok (.putfield 70, 3) := dk_181 0 70 (dk_at dksX6_run_3 18 rfl rfl)
theorem dX6_run_93 : decode cX6_run 93 = .ok (.aload_n 0, 1) := dk_42 (dk_at dksX6_run_3 21 rfl rfl)
theorem dX6_run_94 : decode cX6_run 94 = .ok (.iload_n 2, 1) := dk_28 (dk_at dksX6_run_3 22 rfl rfl)
theorem dX6_run_95 : decode cX6_run 95 = .ok (.putfield 51, 3) := dk_181 0 51 (dk_at dksX6_run_4 0 rfl rfl)
theorem dX6_run_98 : decode cX6_run 98 = .ok (.aload_n 0, 1) := dk_42 (dk_at dksX6_run_4 3 rfl rfl)
theorem dX6_run_99 : decode cX6_run 99 = .ok (.iconst 2, 1) := dk_5 (dk_at dksX6_run_4 4 rfl rfl)
theorem dX6_run_100 : decode cX6_run 100 = .ok (.putfield 63, 3) := dk_181 0 63 (dk_at dksX6_run_4 5 rfl rfl)
theorem dX6_run_103 : decode cX6_run 103 = .ok (.iconst 0, 1) := dk_3 (dk_at dksX6_run_4 8 rfl rfl)
theorem dX6_run_104 : decode cX6_run 104 = .ok (.ireturn, 1) := dk_172 (dk_at dksX6_run_4 9 rfl rfl)
theorem dX6_run_105 : decode cX6_run 105 = .ok (.iinc 2 1, 3) := dk_132 2 1 (dk_at dksX6_run_4 10 rfl rfl)
theorem dX6_run_108 : decode cX6_run 108 = .ok (.goto (-65), 3) := dk_167 255 191 (dk_at dksX6_run_4 13 rfl rfl)
theorem dX6_run_111 : decode cX6_run 111 = .ok (.aload_n 0, 1) := dk_42 (dk_at dksX6_run_4 16 rfl rfl)
theorem dX6_run_112 : decode cX6_run 112 = .ok (.aload_n 0, 1) := dk_42 (dk_at dksX6_run_4 17 rfl rfl)
theorem dX6_run_113 : decode cX6_run 113 = .ok (.getfield 308, 3) := dk_180 1 52 (dk_at dksX6_run_4 18 rfl rfl)
theorem dX6_run_116 : decode cX6_run 116 = .ok (.invokevirtual 177, 3) := dk_182 0 177 (dk_at dksX6_run_4 21 rfl rfl)
theorem dX6_run_119 : decode cX6_run 119 = .ok (.ireturn, 1) := dk_172 (dk_at dksX6_run_5 0 rfl rfl)
abbrev cX6_isProgram : ByteArray := prog_28_method_95_code
def yX6_isProgram : MethodName := ⟨RX6, "isProgram", "()Z"⟩
def dkwX6_isProgram_2 : List UInt8 := [180, 1, 2, 160, 0, 7, 4, 167, 0, 4, 3, 172]
abbrev dktX6_isProgram_2 : List UInt8 := dkwX6_isProgram_2 ++ []
def dkwX6_isProgram_1 : List UInt8 := [182, 1, 21, 153, 0, 11, 42, 182, 1, 58, 60, 167, 255, 238, 27, 153, 0, 18, 42, 180, 1, 5, 42]
abbrev dktX6_isProgram_1 : List UInt8 := dkwX6_isProgram_1 ++ dktX6_isProgram_2
def dkwX6_isProgram_0 : List UInt8 := [42, 3, 181, 1, 5, 42, 3, 181, 1, 52, 42, 182, 1, 58, 60, 27, 153, 0, 20, 42, 16, 59]
abbrev dktX6_isProgram_0 : List UInt8 := dkwX6_isProgram_0 ++ dktX6_isProgram_1
theorem dksX6_isProgram_0 : cX6_isProgram.data.toList.drop 0 = dktX6_isProgram_0 := by decide +kernel
theorem dksX6_isProgram_1 : cX6_isProgram.data.toList.drop 22 = dktX6_isProgram_1 := dk_seg dksX6_isProgram_0 22 rfl rfl
theorem dksX6_isProgram_2 : cX6_isProgram.data.toList.drop 45 = dktX6_isProgram_2 := dk_seg dksX6_isProgram_1 23 rfl rfl
theorem dX6_isProgram_0 : decode cX6_isProgram 0 = .ok (.aload_n 0, 1) := dk_42 (dk_at dksX6_isProgram_0 0 rfl rfl)
theorem dX6_isProgram_1 : decode cX6_isProgram 1 = .ok (.iconst 0, 1) := dk_3 (dk_at dksX6_isProgram_0 1 rfl rfl)
theorem dX6_isProgram_2 : decode cX6_isProgram 2 = .ok (.putfield 261, 3) := dk_181 1 5 (dk_at dksX6_isProgram_0 2 rfl rfl)
theorem dX6_isProgram_5 : decode cX6_isProgram 5 = .ok (.aload_n 0, 1) := dk_42 (dk_at dksX6_isProgram_0 5 rfl rfl)
theorem dX6_isProgram_6 : decode cX6_isProgram 6 = .ok (.iconst 0, 1) := dk_3 (dk_at dksX6_isProgram_0 6 rfl rfl)
theorem dX6_isProgram_7 : decode cX6_isProgram 7 = .ok (.putfield 308, 3) := dk_181 1 52 (dk_at dksX6_isProgram_0 7 rfl rfl)
theorem dX6_isProgram_10 : decode cX6_isProgram 10 = .ok (.aload_n 0, 1) := dk_42 (dk_at dksX6_isProgram_0 10 rfl rfl)
theorem dX6_isProgram_11 : decode cX6_isProgram 11 = .ok (.invokevirtual 314, 3) := dk_182 1 58 (dk_at dksX6_isProgram_0 11 rfl rfl)
theorem dX6_isProgram_14 : decode cX6_isProgram 14 = .ok (.istore_n 1, 1) := dk_60 (dk_at dksX6_isProgram_0 14 rfl rfl)
theorem dX6_isProgram_15 : decode cX6_isProgram 15 = .ok (.iload_n 1, 1) := dk_27 (dk_at dksX6_isProgram_0 15 rfl rfl)
theorem dX6_isProgram_16 : decode cX6_isProgram 16 = .ok (.ifCond .eq 20, 3) := dk_153 0 20 (dk_at dksX6_isProgram_0 16 rfl rfl)
theorem dX6_isProgram_19 : decode cX6_isProgram 19 = .ok (.aload_n 0, 1) := dk_42 (dk_at dksX6_isProgram_0 19 rfl rfl)
theorem dX6_isProgram_20 : decode cX6_isProgram 20 = .ok (.bipush 59, 2) := dk_16 59 (dk_at dksX6_isProgram_0 20 rfl rfl)
theorem dX6_isProgram_22 : decode cX6_isProgram 22 = .ok (.invokevirtual 277, 3) := dk_182 1 21 (dk_at dksX6_isProgram_1 0 rfl rfl)
theorem dX6_isProgram_25 : decode cX6_isProgram 25 = .ok (.ifCond .eq 11, 3) := dk_153 0 11 (dk_at dksX6_isProgram_1 3 rfl rfl)
theorem dX6_isProgram_28 : decode cX6_isProgram 28 = .ok (.aload_n 0, 1) := dk_42 (dk_at dksX6_isProgram_1 6 rfl rfl)
theorem dX6_isProgram_29 : decode cX6_isProgram 29 = .ok (.invokevirtual 314, 3) := dk_182 1 58 (dk_at dksX6_isProgram_1 7 rfl rfl)
theorem dX6_isProgram_32 : decode cX6_isProgram 32 = .ok (.istore_n 1, 1) := dk_60 (dk_at dksX6_isProgram_1 10 rfl rfl)
theorem dX6_isProgram_33 : decode cX6_isProgram 33 = .ok (.goto (-18), 3) := dk_167 255 238 (dk_at dksX6_isProgram_1 11 rfl rfl)
theorem dX6_isProgram_36 : decode cX6_isProgram 36 = .ok (.iload_n 1, 1) := dk_27 (dk_at dksX6_isProgram_1 14 rfl rfl)
theorem dX6_isProgram_37 : decode cX6_isProgram 37 = .ok (.ifCond .eq 18, 3) := dk_153 0 18 (dk_at dksX6_isProgram_1 15 rfl rfl)
theorem dX6_isProgram_40 : decode cX6_isProgram 40 = .ok (.aload_n 0, 1) := dk_42 (dk_at dksX6_isProgram_1 18 rfl rfl)
theorem dX6_isProgram_41 : decode cX6_isProgram 41 = .ok (.getfield 261, 3) := dk_180 1 5 (dk_at dksX6_isProgram_1 19 rfl rfl)
theorem dX6_isProgram_44 : decode cX6_isProgram 44 = .ok (.aload_n 0, 1) := dk_42 (dk_at dksX6_isProgram_1 22 rfl rfl)
theorem dX6_isProgram_45 : decode cX6_isProgram 45 = .ok (.getfield 258, 3) := dk_180 1 2 (dk_at dksX6_isProgram_2 0 rfl rfl)
theorem dX6_isProgram_48 : decode cX6_isProgram 48 = .ok (.if_icmp .ne 7, 3) := dk_160 0 7 (dk_at dksX6_isProgram_2 3 rfl rfl)
theorem dX6_isProgram_51 : decode cX6_isProgram 51 = .ok (.iconst 1, 1) := dk_4 (dk_at dksX6_isProgram_2 6 rfl rfl)
theorem dX6_isProgram_52 : decode cX6_isProgram 52 = .ok (.goto 4, 3) := dk_167 0 4 (dk_at dksX6_isProgram_2 7 rfl rfl)
theorem dX6_isProgram_55 : decode cX6_isProgram 55 = .ok (.iconst 0, 1) := dk_3 (dk_at dksX6_isProgram_2 10 rfl rfl)
theorem dX6_isProgram_56 : decode cX6_isProgram 56 = .ok (.ireturn, 1) := dk_172 (dk_at dksX6_isProgram_2 11 rfl rfl)
abbrev cX6_readsCommand : ByteArray := prog_28_method_94_code
def yX6_readsCommand : MethodName := ⟨RX6, "readsCommand", "()Z"⟩
def dkwX6_readsCommand_4 : List UInt8 := [181, 1, 52, 42, 28, 27, 182, 1, 55, 172]
abbrev dktX6_readsCommand_4 : List UInt8 := dkwX6_readsCommand_4 ++ []
def dkwX6_readsCommand_3 : List UInt8 := [16, 76, 96, 28, 79, 42, 89, 180, 1, 5, 4, 96, 181, 1, 5, 42, 89, 180, 1, 52, 4, 96]
abbrev dktX6_readsCommand_3 : List UInt8 := dkwX6_readsCommand_3 ++ dktX6_readsCommand_4
def dkwX6_readsCommand_2 : List UInt8 := [162, 0, 18, 42, 180, 0, 57, 27, 29, 96, 3, 79, 132, 3, 1, 167, 255, 238, 42, 180, 0, 57, 27]
abbrev dktX6_readsCommand_2 : List UInt8 := dkwX6_readsCommand_2 ++ dktX6_readsCommand_3
def dkwX6_readsCommand_1 : List UInt8 := [159, 0, 17, 28, 16, 114, 159, 0, 11, 28, 16, 100, 159, 0, 5, 3, 172, 3, 62, 29, 16, 77]
abbrev dktX6_readsCommand_1 : List UInt8 := dkwX6_readsCommand_1 ++ dktX6_readsCommand_2
def dkwX6_readsCommand_0 : List UInt8 := [16, 77, 42, 180, 1, 52, 104, 60, 42, 182, 1, 8, 61, 28, 16, 102, 159, 0, 23, 28, 16, 116]
abbrev dktX6_readsCommand_0 : List UInt8 := dkwX6_readsCommand_0 ++ dktX6_readsCommand_1
theorem dksX6_readsCommand_0 : cX6_readsCommand.data.toList.drop 0 = dktX6_readsCommand_0 := by decide +kernel
theorem dksX6_readsCommand_1 : cX6_readsCommand.data.toList.drop 22 = dktX6_readsCommand_1 := dk_seg dksX6_readsCommand_0 22 rfl rfl
theorem dksX6_readsCommand_2 : cX6_readsCommand.data.toList.drop 44 = dktX6_readsCommand_2 := dk_seg dksX6_readsCommand_1 22 rfl rfl
theorem dksX6_readsCommand_3 : cX6_readsCommand.data.toList.drop 67 = dktX6_readsCommand_3 := dk_seg dksX6_readsCommand_2 23 rfl rfl
theorem dksX6_readsCommand_4 : cX6_readsCommand.data.toList.drop 89 = dktX6_readsCommand_4 := dk_seg dksX6_readsCommand_3 22 rfl rfl
theorem dX6_readsCommand_0 : decode cX6_readsCommand 0 = .ok (.bipush 77, 2) := dk_16 77 (dk_at dksX6_readsCommand_0 0 rfl rfl)
theorem dX6_readsCommand_2 : decode cX6_readsCommand 2 = .ok (.aload_n 0, 1) := dk_42 (dk_at dksX6_readsCommand_0 2 rfl rfl)
theorem dX6_readsCommand_3 : decode cX6_readsCommand 3 = .ok (.getfield 308, 3) := dk_180 1 52 (dk_at dksX6_readsCommand_0 3 rfl rfl)
theorem dX6_readsCommand_6 : decode cX6_readsCommand 6 = .ok (.imul, 1) := dk_104 (dk_at dksX6_readsCommand_0 6 rfl rfl)
theorem dX6_readsCommand_7 : decode cX6_readsCommand 7 = .ok (.istore_n 1, 1) := dk_60 (dk_at dksX6_readsCommand_0 7 rfl rfl)
theorem dX6_readsCommand_8 : decode cX6_readsCommand 8 = .ok (.aload_n 0, 1) := dk_42 (dk_at dksX6_readsCommand_0 8 rfl rfl)
theorem dX6_readsCommand_9 : decode cX6_readsCommand 9 = .ok (.invokevirtual 264, 3) := dk_182 1 8 (dk_at dksX6_readsCommand_0 9 rfl rfl)
theorem dX6_readsCommand_12 : decode cX6_readsCommand 12 = .ok (.istore_n 2, 1) := dk_61 (dk_at dksX6_readsCommand_0 12 rfl rfl)
theorem dX6_readsCommand_13 : decode cX6_readsCommand 13 = .ok (.iload_n 2, 1) := dk_28 (dk_at dksX6_readsCommand_0 13 rfl rfl)
theorem dX6_readsCommand_14 : decode cX6_readsCommand 14 = .ok (.bipush 102, 2) := dk_16 102 (dk_at dksX6_readsCommand_0 14 rfl rfl)
theorem dX6_readsCommand_16 : decode cX6_readsCommand 16 = .ok (.if_icmp .eq 23, 3) := dk_159 0 23 (dk_at dksX6_readsCommand_0 16 rfl rfl)
theorem dX6_readsCommand_19 : decode cX6_readsCommand 19 = .ok (.iload_n 2, 1) := dk_28 (dk_at dksX6_readsCommand_0 19 rfl rfl)
theorem dX6_readsCommand_20 : decode cX6_readsCommand 20 = .ok (.bipush 116, 2) := dk_16 116 (dk_at dksX6_readsCommand_0 20 rfl rfl)
theorem dX6_readsCommand_22 : decode cX6_readsCommand 22 = .ok (.if_icmp .eq 17, 3) := dk_159 0 17 (dk_at dksX6_readsCommand_1 0 rfl rfl)
theorem dX6_readsCommand_25 : decode cX6_readsCommand 25 = .ok (.iload_n 2, 1) := dk_28 (dk_at dksX6_readsCommand_1 3 rfl rfl)
theorem dX6_readsCommand_26 : decode cX6_readsCommand 26 = .ok (.bipush 114, 2) := dk_16 114 (dk_at dksX6_readsCommand_1 4 rfl rfl)
theorem dX6_readsCommand_28 : decode cX6_readsCommand 28 = .ok (.if_icmp .eq 11, 3) := dk_159 0 11 (dk_at dksX6_readsCommand_1 6 rfl rfl)
theorem dX6_readsCommand_31 : decode cX6_readsCommand 31 = .ok (.iload_n 2, 1) := dk_28 (dk_at dksX6_readsCommand_1 9 rfl rfl)
theorem dX6_readsCommand_32 : decode cX6_readsCommand 32 = .ok (.bipush 100, 2) := dk_16 100 (dk_at dksX6_readsCommand_1 10 rfl rfl)
theorem dX6_readsCommand_34 : decode cX6_readsCommand 34 = .ok (.if_icmp .eq 5, 3) := dk_159 0 5 (dk_at dksX6_readsCommand_1 12 rfl rfl)
theorem dX6_readsCommand_37 : decode cX6_readsCommand 37 = .ok (.iconst 0, 1) := dk_3 (dk_at dksX6_readsCommand_1 15 rfl rfl)
theorem dX6_readsCommand_38 : decode cX6_readsCommand 38 = .ok (.ireturn, 1) := dk_172 (dk_at dksX6_readsCommand_1 16 rfl rfl)
theorem dX6_readsCommand_39 : decode cX6_readsCommand 39 = .ok (.iconst 0, 1) := dk_3 (dk_at dksX6_readsCommand_1 17 rfl rfl)
theorem dX6_readsCommand_40 : decode cX6_readsCommand 40 = .ok (.istore_n 3, 1) := dk_62 (dk_at dksX6_readsCommand_1 18 rfl rfl)
theorem dX6_readsCommand_41 : decode cX6_readsCommand 41 = .ok (.iload_n 3, 1) := dk_29 (dk_at dksX6_readsCommand_1 19 rfl rfl)
theorem dX6_readsCommand_42 : decode cX6_readsCommand 42 = .ok (.bipush 77, 2) := dk_16 77 (dk_at dksX6_readsCommand_1 20 rfl rfl)
theorem dX6_readsCommand_44 : decode cX6_readsCommand 44 = .ok (.if_icmp .ge 18, 3) := dk_162 0 18 (dk_at dksX6_readsCommand_2 0 rfl rfl)
theorem dX6_readsCommand_47 : decode cX6_readsCommand 47 = .ok (.aload_n 0, 1) := dk_42 (dk_at dksX6_readsCommand_2 3 rfl rfl)
theorem dX6_readsCommand_48 : decode cX6_readsCommand 48 = .ok (.getfield 57, 3) := dk_180 0 57 (dk_at dksX6_readsCommand_2 4 rfl rfl)
theorem dX6_readsCommand_51 : decode cX6_readsCommand 51 = .ok (.iload_n 1, 1) := dk_27 (dk_at dksX6_readsCommand_2 7 rfl rfl)
theorem dX6_readsCommand_52 : decode cX6_readsCommand 52 = .ok (.iload_n 3, 1) := dk_29 (dk_at dksX6_readsCommand_2 8 rfl rfl)
theorem dX6_readsCommand_53 : decode cX6_readsCommand 53 = .ok (.iadd, 1) := dk_96 (dk_at dksX6_readsCommand_2 9 rfl rfl)
theorem dX6_readsCommand_54 : decode cX6_readsCommand 54 = .ok (.iconst 0, 1) := dk_3 (dk_at dksX6_readsCommand_2 10 rfl rfl)
theorem dX6_readsCommand_55 : decode cX6_readsCommand 55 = .ok (.iastore, 1) := dk_79 (dk_at dksX6_readsCommand_2 11 rfl rfl)
theorem dX6_readsCommand_56 : decode cX6_readsCommand 56 = .ok (.iinc 3 1, 3) := dk_132 3 1 (dk_at dksX6_readsCommand_2 12 rfl rfl)
theorem dX6_readsCommand_59 : decode cX6_readsCommand 59 = .ok (.goto (-18), 3) := dk_167 255 238 (dk_at dksX6_readsCommand_2 15 rfl rfl)
theorem dX6_readsCommand_62 : decode cX6_readsCommand 62 = .ok (.aload_n 0, 1) := dk_42 (dk_at dksX6_readsCommand_2 18 rfl rfl)
theorem dX6_readsCommand_63 : decode cX6_readsCommand 63 = .ok (.getfield 57, 3) := dk_180 0 57 (dk_at dksX6_readsCommand_2 19 rfl rfl)
theorem dX6_readsCommand_66 : decode cX6_readsCommand 66 = .ok (.iload_n 1, 1) := dk_27 (dk_at dksX6_readsCommand_2 22 rfl rfl)
theorem dX6_readsCommand_67 : decode cX6_readsCommand 67 = .ok (.bipush 76, 2) := dk_16 76 (dk_at dksX6_readsCommand_3 0 rfl rfl)
theorem dX6_readsCommand_69 : decode cX6_readsCommand 69 = .ok (.iadd, 1) := dk_96 (dk_at dksX6_readsCommand_3 2 rfl rfl)
theorem dX6_readsCommand_70 : decode cX6_readsCommand 70 = .ok (.iload_n 2, 1) := dk_28 (dk_at dksX6_readsCommand_3 3 rfl rfl)
theorem dX6_readsCommand_71 : decode cX6_readsCommand 71 = .ok (.iastore, 1) := dk_79 (dk_at dksX6_readsCommand_3 4 rfl rfl)
theorem dX6_readsCommand_72 : decode cX6_readsCommand 72 = .ok (.aload_n 0, 1) := dk_42 (dk_at dksX6_readsCommand_3 5 rfl rfl)
theorem dX6_readsCommand_73 : decode cX6_readsCommand 73 = .ok (.dup, 1) := dk_89 (dk_at dksX6_readsCommand_3 6 rfl rfl)
theorem dX6_readsCommand_74 : decode cX6_readsCommand 74 = .ok (.getfield 261, 3) := dk_180 1 5 (dk_at dksX6_readsCommand_3 7 rfl rfl)
theorem dX6_readsCommand_77 : decode cX6_readsCommand 77 = .ok (.iconst 1, 1) := dk_4 (dk_at dksX6_readsCommand_3 10 rfl rfl)
theorem dX6_readsCommand_78 : decode cX6_readsCommand 78 = .ok (.iadd, 1) := dk_96 (dk_at dksX6_readsCommand_3 11 rfl rfl)
theorem dX6_readsCommand_79 : decode cX6_readsCommand 79 = .ok (.putfield 261, 3) := dk_181 1 5 (dk_at dksX6_readsCommand_3 12 rfl rfl)
theorem dX6_readsCommand_82 : decode cX6_readsCommand 82 = .ok (.aload_n 0, 1) := dk_42 (dk_at dksX6_readsCommand_3 15 rfl rfl)
theorem dX6_readsCommand_83 : decode cX6_readsCommand 83 = .ok (.dup, 1) := dk_89 (dk_at dksX6_readsCommand_3 16 rfl rfl)
theorem dX6_readsCommand_84 : decode cX6_readsCommand 84 = .ok (.getfield 308, 3) := dk_180 1 52 (dk_at dksX6_readsCommand_3 17 rfl rfl)
theorem dX6_readsCommand_87 : decode cX6_readsCommand 87 = .ok (.iconst 1, 1) := dk_4 (dk_at dksX6_readsCommand_3 20 rfl rfl)
theorem dX6_readsCommand_88 : decode cX6_readsCommand 88 = .ok (.iadd, 1) := dk_96 (dk_at dksX6_readsCommand_3 21 rfl rfl)
theorem dX6_readsCommand_89 : decode cX6_readsCommand 89 = .ok (.putfield 308, 3) := dk_181 1 52 (dk_at dksX6_readsCommand_4 0 rfl rfl)
theorem dX6_readsCommand_92 : decode cX6_readsCommand 92 = .ok (.aload_n 0, 1) := dk_42 (dk_at dksX6_readsCommand_4 3 rfl rfl)
theorem dX6_readsCommand_93 : decode cX6_readsCommand 93 = .ok (.iload_n 2, 1) := dk_28 (dk_at dksX6_readsCommand_4 4 rfl rfl)
theorem dX6_readsCommand_94 : decode cX6_readsCommand 94 = .ok (.iload_n 1, 1) := dk_27 (dk_at dksX6_readsCommand_4 5 rfl rfl)
theorem dX6_readsCommand_95 : decode cX6_readsCommand 95 = .ok (.invokevirtual 311, 3) := dk_182 1 55 (dk_at dksX6_readsCommand_4 6 rfl rfl)
theorem dX6_readsCommand_98 : decode cX6_readsCommand 98 = .ok (.ireturn, 1) := dk_172 (dk_at dksX6_readsCommand_4 9 rfl rfl)
abbrev cX6_now : ByteArray := prog_28_method_85_code
def yX6_now : MethodName := ⟨RX6, "now", "()I"⟩
def dkwX6_now_1 : List UInt8 := [172]
abbrev dktX6_now_1 : List UInt8 := dkwX6_now_1 ++ []
def dkwX6_now_0 : List UInt8 := [42, 180, 1, 5, 42, 180, 1, 2, 162, 0, 15, 42, 180, 0, 54, 42, 180, 1, 5, 46, 167, 0, 4, 2]
abbrev dktX6_now_0 : List UInt8 := dkwX6_now_0 ++ dktX6_now_1
theorem dksX6_now_0 : cX6_now.data.toList.drop 0 = dktX6_now_0 := by decide +kernel
theorem dksX6_now_1 : cX6_now.data.toList.drop 24 = dktX6_now_1 := dk_seg dksX6_now_0 24 rfl rfl
theorem dX6_now_0 : decode cX6_now 0 = .ok (.aload_n 0, 1) := dk_42 (dk_at dksX6_now_0 0 rfl rfl)
theorem dX6_now_1 : decode cX6_now 1 = .ok (.getfield 261, 3) := dk_180 1 5 (dk_at dksX6_now_0 1 rfl rfl)
theorem dX6_now_4 : decode cX6_now 4 = .ok (.aload_n 0, 1) := dk_42 (dk_at dksX6_now_0 4 rfl rfl)
theorem dX6_now_5 : decode cX6_now 5 = .ok (.getfield 258, 3) := dk_180 1 2 (dk_at dksX6_now_0 5 rfl rfl)
theorem dX6_now_8 : decode cX6_now 8 = .ok (.if_icmp .ge 15, 3) := dk_162 0 15 (dk_at dksX6_now_0 8 rfl rfl)
theorem dX6_now_11 : decode cX6_now 11 = .ok (.aload_n 0, 1) := dk_42 (dk_at dksX6_now_0 11 rfl rfl)
theorem dX6_now_12 : decode cX6_now 12 = .ok (.getfield 54, 3) := dk_180 0 54 (dk_at dksX6_now_0 12 rfl rfl)
theorem dX6_now_15 : decode cX6_now 15 = .ok (.aload_n 0, 1) := dk_42 (dk_at dksX6_now_0 15 rfl rfl)
theorem dX6_now_16 : decode cX6_now 16 = .ok (.getfield 261, 3) := dk_180 1 5 (dk_at dksX6_now_0 16 rfl rfl)
theorem dX6_now_19 : decode cX6_now 19 = .ok (.iaload, 1) := dk_46 (dk_at dksX6_now_0 19 rfl rfl)
theorem dX6_now_20 : decode cX6_now 20 = .ok (.goto 4, 3) := dk_167 0 4 (dk_at dksX6_now_0 20 rfl rfl)
theorem dX6_now_23 : decode cX6_now 23 = .ok (.iconst (-1), 1) := dk_2 (dk_at dksX6_now_0 23 rfl rfl)
theorem dX6_now_24 : decode cX6_now 24 = .ok (.ireturn, 1) := dk_172 (dk_at dksX6_now_1 0 rfl rfl)
abbrev cX6_readsRest : ByteArray := prog_28_method_93_code
def yX6_readsRest : MethodName := ⟨RX6, "readsRest", "(II)Z"⟩
def dkwX6_readsRest_6 : List UInt8 := [3, 172]
abbrev dktX6_readsRest_6 : List UInt8 := dkwX6_readsRest_6 ++ []
def dkwX6_readsRest_5 : List UInt8 := [3, 172, 42, 19, 1, 50, 182, 1, 39, 153, 0, 15, 42, 28, 182, 1, 24, 153, 0, 7, 4, 167, 0, 4]
abbrev dktX6_readsRest_5 : List UInt8 := dkwX6_readsRest_5 ++ dktX6_readsRest_6
def dkwX6_readsRest_4 : List UInt8 := [3, 172, 42, 19, 1, 45, 182, 1, 39, 153, 0, 15, 42, 28, 182, 1, 47, 153, 0, 7, 4, 167, 0, 4]
abbrev dktX6_readsRest_4 : List UInt8 := dkwX6_readsRest_4 ++ dktX6_readsRest_5
def dkwX6_readsRest_3 : List UInt8 := [172, 42, 19, 1, 43, 182, 1, 39, 153, 0, 16, 42, 28, 4, 182, 1, 30, 153, 0, 7, 4, 167, 0, 4]
abbrev dktX6_readsRest_3 : List UInt8 := dkwX6_readsRest_3 ++ dktX6_readsRest_4
def dkwX6_readsRest_2 : List UInt8 := [42, 19, 1, 37, 182, 1, 39, 153, 0, 16, 42, 28, 4, 182, 1, 30, 153, 0, 7, 4, 167, 0, 4, 3]
abbrev dktX6_readsRest_2 : List UInt8 := dkwX6_readsRest_2 ++ dktX6_readsRest_3
def dkwX6_readsRest_1 : List UInt8 := [171, 0, 0, 0, 0, 0, 109, 0, 0, 0, 3, 0, 0, 0, 102, 0, 0, 0, 35, 0, 0, 0, 114, 0, 0, 0, 85, 0, 0, 0, 116, 0, 0, 0, 60]
abbrev dktX6_readsRest_1 : List UInt8 := dkwX6_readsRest_1 ++ dktX6_readsRest_2
def dkwX6_readsRest_0 : List UInt8 := [27]
abbrev dktX6_readsRest_0 : List UInt8 := dkwX6_readsRest_0 ++ dktX6_readsRest_1
theorem dksX6_readsRest_0 : cX6_readsRest.data.toList.drop 0 = dktX6_readsRest_0 := by decide +kernel
theorem dksX6_readsRest_1 : cX6_readsRest.data.toList.drop 1 = dktX6_readsRest_1 := dk_seg dksX6_readsRest_0 1 rfl rfl
theorem dksX6_readsRest_2 : cX6_readsRest.data.toList.drop 36 = dktX6_readsRest_2 := dk_seg dksX6_readsRest_1 35 rfl rfl
theorem dksX6_readsRest_3 : cX6_readsRest.data.toList.drop 60 = dktX6_readsRest_3 := dk_seg dksX6_readsRest_2 24 rfl rfl
theorem dksX6_readsRest_4 : cX6_readsRest.data.toList.drop 84 = dktX6_readsRest_4 := dk_seg dksX6_readsRest_3 24 rfl rfl
theorem dksX6_readsRest_5 : cX6_readsRest.data.toList.drop 108 = dktX6_readsRest_5 := dk_seg dksX6_readsRest_4 24 rfl rfl
theorem dksX6_readsRest_6 : cX6_readsRest.data.toList.drop 132 = dktX6_readsRest_6 := dk_seg dksX6_readsRest_5 24 rfl rfl
theorem dX6_readsRest_0 : decode cX6_readsRest 0 = .ok (.iload_n 1, 1) := dk_27 (dk_at dksX6_readsRest_0 0 rfl rfl)
theorem dX6_readsRest_1 : decode cX6_readsRest 1 = .ok (.lookupswitch 109 #[(102, 35), (114, 85), (116, 60)], 35) := by decide +kernel
theorem dX6_readsRest_36 : decode cX6_readsRest 36 = .ok (.aload_n 0, 1) := dk_42 (dk_at dksX6_readsRest_2 0 rfl rfl)
theorem dX6_readsRest_37 : decode cX6_readsRest 37 = .ok (.ldc_w 293, 3) := dk_19 1 37 (dk_at dksX6_readsRest_2 1 rfl rfl)
theorem dX6_readsRest_40 : decode cX6_readsRest 40 = .ok (.invokevirtual 295, 3) := dk_182 1 39 (dk_at dksX6_readsRest_2 4 rfl rfl)
theorem dX6_readsRest_43 : decode cX6_readsRest 43 = .ok (.ifCond .eq 16, 3) := dk_153 0 16 (dk_at dksX6_readsRest_2 7 rfl rfl)
theorem dX6_readsRest_46 : decode cX6_readsRest 46 = .ok (.aload_n 0, 1) := dk_42 (dk_at dksX6_readsRest_2 10 rfl rfl)
theorem dX6_readsRest_47 : decode cX6_readsRest 47 = .ok (.iload_n 2, 1) := dk_28 (dk_at dksX6_readsRest_2 11 rfl rfl)
theorem dX6_readsRest_48 : decode cX6_readsRest 48 = .ok (.iconst 1, 1) := dk_4 (dk_at dksX6_readsRest_2 12 rfl rfl)
theorem dX6_readsRest_49 : decode cX6_readsRest 49 = .ok (.invokevirtual 286, 3) := dk_182 1 30 (dk_at dksX6_readsRest_2 13 rfl rfl)
theorem dX6_readsRest_52 : decode cX6_readsRest 52 = .ok (.ifCond .eq 7, 3) := dk_153 0 7 (dk_at dksX6_readsRest_2 16 rfl rfl)
theorem dX6_readsRest_55 : decode cX6_readsRest 55 = .ok (.iconst 1, 1) := dk_4 (dk_at dksX6_readsRest_2 19 rfl rfl)
theorem dX6_readsRest_56 : decode cX6_readsRest 56 = .ok (.goto 4, 3) := dk_167 0 4 (dk_at dksX6_readsRest_2 20 rfl rfl)
theorem dX6_readsRest_59 : decode cX6_readsRest 59 = .ok (.iconst 0, 1) := dk_3 (dk_at dksX6_readsRest_2 23 rfl rfl)
theorem dX6_readsRest_60 : decode cX6_readsRest 60 = .ok (.ireturn, 1) := dk_172 (dk_at dksX6_readsRest_3 0 rfl rfl)
theorem dX6_readsRest_61 : decode cX6_readsRest 61 = .ok (.aload_n 0, 1) := dk_42 (dk_at dksX6_readsRest_3 1 rfl rfl)
theorem dX6_readsRest_62 : decode cX6_readsRest 62 = .ok (.ldc_w 299, 3) := dk_19 1 43 (dk_at dksX6_readsRest_3 2 rfl rfl)
theorem dX6_readsRest_65 : decode cX6_readsRest 65 = .ok (.invokevirtual 295, 3) := dk_182 1 39 (dk_at dksX6_readsRest_3 5 rfl rfl)
theorem dX6_readsRest_68 : decode cX6_readsRest 68 = .ok (.ifCond .eq 16, 3) := dk_153 0 16 (dk_at dksX6_readsRest_3 8 rfl rfl)
theorem dX6_readsRest_71 : decode cX6_readsRest 71 = .ok (.aload_n 0, 1) := dk_42 (dk_at dksX6_readsRest_3 11 rfl rfl)
theorem dX6_readsRest_72 : decode cX6_readsRest 72 = .ok (.iload_n 2, 1) := dk_28 (dk_at dksX6_readsRest_3 12 rfl rfl)
theorem dX6_readsRest_73 : decode cX6_readsRest 73 = .ok (.iconst 1, 1) := dk_4 (dk_at dksX6_readsRest_3 13 rfl rfl)
theorem dX6_readsRest_74 : decode cX6_readsRest 74 = .ok (.invokevirtual 286, 3) := dk_182 1 30 (dk_at dksX6_readsRest_3 14 rfl rfl)
theorem dX6_readsRest_77 : decode cX6_readsRest 77 = .ok (.ifCond .eq 7, 3) := dk_153 0 7 (dk_at dksX6_readsRest_3 17 rfl rfl)
theorem dX6_readsRest_80 : decode cX6_readsRest 80 = .ok (.iconst 1, 1) := dk_4 (dk_at dksX6_readsRest_3 20 rfl rfl)
theorem dX6_readsRest_81 : decode cX6_readsRest 81 = .ok (.goto 4, 3) := dk_167 0 4 (dk_at dksX6_readsRest_3 21 rfl rfl)
theorem dX6_readsRest_84 : decode cX6_readsRest 84 = .ok (.iconst 0, 1) := dk_3 (dk_at dksX6_readsRest_4 0 rfl rfl)
theorem dX6_readsRest_85 : decode cX6_readsRest 85 = .ok (.ireturn, 1) := dk_172 (dk_at dksX6_readsRest_4 1 rfl rfl)
theorem dX6_readsRest_86 : decode cX6_readsRest 86 = .ok (.aload_n 0, 1) := dk_42 (dk_at dksX6_readsRest_4 2 rfl rfl)
theorem dX6_readsRest_87 : decode cX6_readsRest 87 = .ok (.ldc_w 301, 3) := dk_19 1 45 (dk_at dksX6_readsRest_4 3 rfl rfl)
theorem dX6_readsRest_90 : decode cX6_readsRest 90 = .ok (.invokevirtual 295, 3) := dk_182 1 39 (dk_at dksX6_readsRest_4 6 rfl rfl)
theorem dX6_readsRest_93 : decode cX6_readsRest 93 = .ok (.ifCond .eq 15, 3) := dk_153 0 15 (dk_at dksX6_readsRest_4 9 rfl rfl)
theorem dX6_readsRest_96 : decode cX6_readsRest 96 = .ok (.aload_n 0, 1) := dk_42 (dk_at dksX6_readsRest_4 12 rfl rfl)
theorem dX6_readsRest_97 : decode cX6_readsRest 97 = .ok (.iload_n 2, 1) := dk_28 (dk_at dksX6_readsRest_4 13 rfl rfl)
theorem dX6_readsRest_98 : decode cX6_readsRest 98 = .ok (.invokevirtual 303, 3) := dk_182 1 47 (dk_at dksX6_readsRest_4 14 rfl rfl)
theorem dX6_readsRest_101 : decode cX6_readsRest 101 = .ok (.ifCond .eq 7, 3) := dk_153 0 7 (dk_at dksX6_readsRest_4 17 rfl rfl)
theorem dX6_readsRest_104 : decode cX6_readsRest 104 = .ok (.iconst 1, 1) := dk_4 (dk_at dksX6_readsRest_4 20 rfl rfl)
theorem dX6_readsRest_105 : decode cX6_readsRest 105 = .ok (.goto 4, 3) := dk_167 0 4 (dk_at dksX6_readsRest_4 21 rfl rfl)
theorem dX6_readsRest_108 : decode cX6_readsRest 108 = .ok (.iconst 0, 1) := dk_3 (dk_at dksX6_readsRest_5 0 rfl rfl)
theorem dX6_readsRest_109 : decode cX6_readsRest 109 = .ok (.ireturn, 1) := dk_172 (dk_at dksX6_readsRest_5 1 rfl rfl)
theorem dX6_readsRest_110 : decode cX6_readsRest 110 = .ok (.aload_n 0, 1) := dk_42 (dk_at dksX6_readsRest_5 2 rfl rfl)
theorem dX6_readsRest_111 : decode cX6_readsRest 111 = .ok (.ldc_w 306, 3) := dk_19 1 50 (dk_at dksX6_readsRest_5 3 rfl rfl)
theorem dX6_readsRest_114 : decode cX6_readsRest 114 = .ok (.invokevirtual 295, 3) := dk_182 1 39 (dk_at dksX6_readsRest_5 6 rfl rfl)
theorem dX6_readsRest_117 : decode cX6_readsRest 117 = .ok (.ifCond .eq 15, 3) := dk_153 0 15 (dk_at dksX6_readsRest_5 9 rfl rfl)
theorem dX6_readsRest_120 : decode cX6_readsRest 120 = .ok (.aload_n 0, 1) := dk_42 (dk_at dksX6_readsRest_5 12 rfl rfl)
theorem dX6_readsRest_121 : decode cX6_readsRest 121 = .ok (.iload_n 2, 1) := dk_28 (dk_at dksX6_readsRest_5 13 rfl rfl)
theorem dX6_readsRest_122 : decode cX6_readsRest 122 = .ok (.invokevirtual 280, 3) := dk_182 1 24 (dk_at dksX6_readsRest_5 14 rfl rfl)
theorem dX6_readsRest_125 : decode cX6_readsRest 125 = .ok (.ifCond .eq 7, 3) := dk_153 0 7 (dk_at dksX6_readsRest_5 17 rfl rfl)
theorem dX6_readsRest_128 : decode cX6_readsRest 128 = .ok (.iconst 1, 1) := dk_4 (dk_at dksX6_readsRest_5 20 rfl rfl)
theorem dX6_readsRest_129 : decode cX6_readsRest 129 = .ok (.goto 4, 3) := dk_167 0 4 (dk_at dksX6_readsRest_5 21 rfl rfl)
theorem dX6_readsRest_132 : decode cX6_readsRest 132 = .ok (.iconst 0, 1) := dk_3 (dk_at dksX6_readsRest_6 0 rfl rfl)
theorem dX6_readsRest_133 : decode cX6_readsRest 133 = .ok (.ireturn, 1) := dk_172 (dk_at dksX6_readsRest_6 1 rfl rfl)
abbrev cX6_isWord : ByteArray := prog_28_method_87_code
def yX6_isWord : MethodName := ⟨RX6, "isWord", "(Ljava/lang/String;)Z"⟩
def dkwX6_isWord_1 : List UInt8 := [132, 2, 1, 167, 255, 231, 4, 172]
abbrev dktX6_isWord_1 : List UInt8 := dkwX6_isWord_1 ++ []
def dkwX6_isWord_0 : List UInt8 := [3, 61, 28, 43, 182, 1, 12, 162, 0, 23, 42, 43, 28, 182, 1, 17, 182, 1, 21, 154, 0, 5, 3, 172]
abbrev dktX6_isWord_0 : List UInt8 := dkwX6_isWord_0 ++ dktX6_isWord_1
theorem dksX6_isWord_0 : cX6_isWord.data.toList.drop 0 = dktX6_isWord_0 := by decide +kernel
theorem dksX6_isWord_1 : cX6_isWord.data.toList.drop 24 = dktX6_isWord_1 := dk_seg dksX6_isWord_0 24 rfl rfl
theorem dX6_isWord_0 : decode cX6_isWord 0 = .ok (.iconst 0, 1) := dk_3 (dk_at dksX6_isWord_0 0 rfl rfl)
theorem dX6_isWord_1 : decode cX6_isWord 1 = .ok (.istore_n 2, 1) := dk_61 (dk_at dksX6_isWord_0 1 rfl rfl)
theorem dX6_isWord_2 : decode cX6_isWord 2 = .ok (.iload_n 2, 1) := dk_28 (dk_at dksX6_isWord_0 2 rfl rfl)
theorem dX6_isWord_3 : decode cX6_isWord 3 = .ok (.aload_n 1, 1) := dk_43 (dk_at dksX6_isWord_0 3 rfl rfl)
theorem dX6_isWord_4 : decode cX6_isWord 4 = .ok (.invokevirtual 268, 3) := dk_182 1 12 (dk_at dksX6_isWord_0 4 rfl rfl)
theorem dX6_isWord_7 : decode cX6_isWord 7 = .ok (.if_icmp .ge 23, 3) := dk_162 0 23 (dk_at dksX6_isWord_0 7 rfl rfl)
theorem dX6_isWord_10 : decode cX6_isWord 10 = .ok (.aload_n 0, 1) := dk_42 (dk_at dksX6_isWord_0 10 rfl rfl)
theorem dX6_isWord_11 : decode cX6_isWord 11 = .ok (.aload_n 1, 1) := dk_43 (dk_at dksX6_isWord_0 11 rfl rfl)
theorem dX6_isWord_12 : decode cX6_isWord 12 = .ok (.iload_n 2, 1) := dk_28 (dk_at dksX6_isWord_0 12 rfl rfl)
theorem dX6_isWord_13 : decode cX6_isWord 13 = .ok (.invokevirtual 273, 3) := dk_182 1 17 (dk_at dksX6_isWord_0 13 rfl rfl)
theorem dX6_isWord_16 : decode cX6_isWord 16 = .ok (.invokevirtual 277, 3) := dk_182 1 21 (dk_at dksX6_isWord_0 16 rfl rfl)
theorem dX6_isWord_19 : decode cX6_isWord 19 = .ok (.ifCond .ne 5, 3) := dk_154 0 5 (dk_at dksX6_isWord_0 19 rfl rfl)
theorem dX6_isWord_22 : decode cX6_isWord 22 = .ok (.iconst 0, 1) := dk_3 (dk_at dksX6_isWord_0 22 rfl rfl)
theorem dX6_isWord_23 : decode cX6_isWord 23 = .ok (.ireturn, 1) := dk_172 (dk_at dksX6_isWord_0 23 rfl rfl)
theorem dX6_isWord_24 : decode cX6_isWord 24 = .ok (.iinc 2 1, 3) := dk_132 2 1 (dk_at dksX6_isWord_1 0 rfl rfl)
theorem dX6_isWord_27 : decode cX6_isWord 27 = .ok (.goto (-25), 3) := dk_167 255 231 (dk_at dksX6_isWord_1 3 rfl rfl)
theorem dX6_isWord_30 : decode cX6_isWord 30 = .ok (.iconst 1, 1) := dk_4 (dk_at dksX6_isWord_1 6 rfl rfl)
theorem dX6_isWord_31 : decode cX6_isWord 31 = .ok (.ireturn, 1) := dk_172 (dk_at dksX6_isWord_1 7 rfl rfl)
abbrev cX6_isSign : ByteArray := prog_28_method_86_code
def yX6_isSign : MethodName := ⟨RX6, "isSign", "(I)Z"⟩
def dkwX6_isSign_1 : List UInt8 := [167, 0, 4, 3, 96, 181, 1, 5, 28, 172]
abbrev dktX6_isSign_1 : List UInt8 := dkwX6_isSign_1 ++ []
def dkwX6_isSign_0 : List UInt8 := [42, 182, 1, 8, 27, 160, 0, 7, 4, 167, 0, 4, 3, 61, 42, 89, 180, 1, 5, 28, 153, 0, 7, 4]
abbrev dktX6_isSign_0 : List UInt8 := dkwX6_isSign_0 ++ dktX6_isSign_1
theorem dksX6_isSign_0 : cX6_isSign.data.toList.drop 0 = dktX6_isSign_0 := by decide +kernel
theorem dksX6_isSign_1 : cX6_isSign.data.toList.drop 24 = dktX6_isSign_1 := dk_seg dksX6_isSign_0 24 rfl rfl
theorem dX6_isSign_0 : decode cX6_isSign 0 = .ok (.aload_n 0, 1) := dk_42 (dk_at dksX6_isSign_0 0 rfl rfl)
theorem dX6_isSign_1 : decode cX6_isSign 1 = .ok (.invokevirtual 264, 3) := dk_182 1 8 (dk_at dksX6_isSign_0 1 rfl rfl)
theorem dX6_isSign_4 : decode cX6_isSign 4 = .ok (.iload_n 1, 1) := dk_27 (dk_at dksX6_isSign_0 4 rfl rfl)
theorem dX6_isSign_5 : decode cX6_isSign 5 = .ok (.if_icmp .ne 7, 3) := dk_160 0 7 (dk_at dksX6_isSign_0 5 rfl rfl)
theorem dX6_isSign_8 : decode cX6_isSign 8 = .ok (.iconst 1, 1) := dk_4 (dk_at dksX6_isSign_0 8 rfl rfl)
theorem dX6_isSign_9 : decode cX6_isSign 9 = .ok (.goto 4, 3) := dk_167 0 4 (dk_at dksX6_isSign_0 9 rfl rfl)
theorem dX6_isSign_12 : decode cX6_isSign 12 = .ok (.iconst 0, 1) := dk_3 (dk_at dksX6_isSign_0 12 rfl rfl)
theorem dX6_isSign_13 : decode cX6_isSign 13 = .ok (.istore_n 2, 1) := dk_61 (dk_at dksX6_isSign_0 13 rfl rfl)
theorem dX6_isSign_14 : decode cX6_isSign 14 = .ok (.aload_n 0, 1) := dk_42 (dk_at dksX6_isSign_0 14 rfl rfl)
theorem dX6_isSign_15 : decode cX6_isSign 15 = .ok (.dup, 1) := dk_89 (dk_at dksX6_isSign_0 15 rfl rfl)
theorem dX6_isSign_16 : decode cX6_isSign 16 = .ok (.getfield 261, 3) := dk_180 1 5 (dk_at dksX6_isSign_0 16 rfl rfl)
theorem dX6_isSign_19 : decode cX6_isSign 19 = .ok (.iload_n 2, 1) := dk_28 (dk_at dksX6_isSign_0 19 rfl rfl)
theorem dX6_isSign_20 : decode cX6_isSign 20 = .ok (.ifCond .eq 7, 3) := dk_153 0 7 (dk_at dksX6_isSign_0 20 rfl rfl)
theorem dX6_isSign_23 : decode cX6_isSign 23 = .ok (.iconst 1, 1) := dk_4 (dk_at dksX6_isSign_0 23 rfl rfl)
theorem dX6_isSign_24 : decode cX6_isSign 24 = .ok (.goto 4, 3) := dk_167 0 4 (dk_at dksX6_isSign_1 0 rfl rfl)
theorem dX6_isSign_27 : decode cX6_isSign 27 = .ok (.iconst 0, 1) := dk_3 (dk_at dksX6_isSign_1 3 rfl rfl)
theorem dX6_isSign_28 : decode cX6_isSign 28 = .ok (.iadd, 1) := dk_96 (dk_at dksX6_isSign_1 4 rfl rfl)
theorem dX6_isSign_29 : decode cX6_isSign 29 = .ok (.putfield 261, 3) := dk_181 1 5 (dk_at dksX6_isSign_1 5 rfl rfl)
theorem dX6_isSign_32 : decode cX6_isSign 32 = .ok (.iload_n 2, 1) := dk_28 (dk_at dksX6_isSign_1 8 rfl rfl)
theorem dX6_isSign_33 : decode cX6_isSign 33 = .ok (.ireturn, 1) := dk_172 (dk_at dksX6_isSign_1 9 rfl rfl)
abbrev cX6_isAtom : ByteArray := prog_28_method_90_code
def yX6_isAtom : MethodName := ⟨RX6, "isAtom", "(IZ)Z"⟩
def dkwX6_isAtom_5 : List UInt8 := [167, 0, 15, 42, 27, 5, 96, 182, 1, 27, 154, 0, 5, 3, 172, 42, 16, 41, 182, 1, 21, 172]
abbrev dktX6_isAtom_5 : List UInt8 := dkwX6_isAtom_5 ++ []
def dkwX6_isAtom_4 : List UInt8 := [16, 44, 182, 1, 21, 153, 0, 30, 28, 153, 0, 16, 42, 27, 5, 96, 182, 1, 24, 153, 0, 16]
abbrev dktX6_isAtom_4 : List UInt8 := dkwX6_isAtom_4 ++ dktX6_isAtom_5
def dkwX6_isAtom_3 : List UInt8 := [167, 0, 15, 42, 27, 4, 96, 182, 1, 27, 154, 0, 5, 3, 172, 29, 184, 0, 85, 153, 0, 41, 42]
abbrev dktX6_isAtom_3 : List UInt8 := dkwX6_isAtom_3 ++ dktX6_isAtom_4
def dkwX6_isAtom_2 : List UInt8 := [42, 16, 40, 182, 1, 21, 153, 0, 30, 28, 153, 0, 16, 42, 27, 4, 96, 182, 1, 24, 153, 0, 16]
abbrev dktX6_isAtom_2 : List UInt8 := dkwX6_isAtom_2 ++ dktX6_isAtom_3
def dkwX6_isAtom_1 : List UInt8 := [180, 1, 5, 4, 96, 181, 1, 5, 42, 180, 0, 57, 27, 29, 79, 42, 180, 0, 57, 27, 5, 96, 2, 79]
abbrev dktX6_isAtom_1 : List UInt8 := dkwX6_isAtom_1 ++ dktX6_isAtom_2
def dkwX6_isAtom_0 : List UInt8 := [42, 182, 1, 8, 184, 0, 81, 154, 0, 5, 3, 172, 42, 182, 1, 8, 16, 97, 100, 62, 42, 89]
abbrev dktX6_isAtom_0 : List UInt8 := dkwX6_isAtom_0 ++ dktX6_isAtom_1
theorem dksX6_isAtom_0 : cX6_isAtom.data.toList.drop 0 = dktX6_isAtom_0 := by decide +kernel
theorem dksX6_isAtom_1 : cX6_isAtom.data.toList.drop 22 = dktX6_isAtom_1 := dk_seg dksX6_isAtom_0 22 rfl rfl
theorem dksX6_isAtom_2 : cX6_isAtom.data.toList.drop 46 = dktX6_isAtom_2 := dk_seg dksX6_isAtom_1 24 rfl rfl
theorem dksX6_isAtom_3 : cX6_isAtom.data.toList.drop 69 = dktX6_isAtom_3 := dk_seg dksX6_isAtom_2 23 rfl rfl
theorem dksX6_isAtom_4 : cX6_isAtom.data.toList.drop 92 = dktX6_isAtom_4 := dk_seg dksX6_isAtom_3 23 rfl rfl
theorem dksX6_isAtom_5 : cX6_isAtom.data.toList.drop 114 = dktX6_isAtom_5 := dk_seg dksX6_isAtom_4 22 rfl rfl
theorem dX6_isAtom_0 : decode cX6_isAtom 0 = .ok (.aload_n 0, 1) := dk_42 (dk_at dksX6_isAtom_0 0 rfl rfl)
theorem dX6_isAtom_1 : decode cX6_isAtom 1 = .ok (.invokevirtual 264, 3) := dk_182 1 8 (dk_at dksX6_isAtom_0 1 rfl rfl)
theorem dX6_isAtom_4 : decode cX6_isAtom 4 = .ok (.invokestatic 81, 3) := dk_184 0 81 (dk_at dksX6_isAtom_0 4 rfl rfl)
theorem dX6_isAtom_7 : decode cX6_isAtom 7 = .ok (.ifCond .ne 5, 3) := dk_154 0 5 (dk_at dksX6_isAtom_0 7 rfl rfl)
theorem dX6_isAtom_10 : decode cX6_isAtom 10 = .ok (.iconst 0, 1) := dk_3 (dk_at dksX6_isAtom_0 10 rfl rfl)
theorem dX6_isAtom_11 : decode cX6_isAtom 11 = .ok (.ireturn, 1) := dk_172 (dk_at dksX6_isAtom_0 11 rfl rfl)
theorem dX6_isAtom_12 : decode cX6_isAtom 12 = .ok (.aload_n 0, 1) := dk_42 (dk_at dksX6_isAtom_0 12 rfl rfl)
theorem dX6_isAtom_13 : decode cX6_isAtom 13 = .ok (.invokevirtual 264, 3) := dk_182 1 8 (dk_at dksX6_isAtom_0 13 rfl rfl)
theorem dX6_isAtom_16 : decode cX6_isAtom 16 = .ok (.bipush 97, 2) := dk_16 97 (dk_at dksX6_isAtom_0 16 rfl rfl)
theorem dX6_isAtom_18 : decode cX6_isAtom 18 = .ok (.isub, 1) := dk_100 (dk_at dksX6_isAtom_0 18 rfl rfl)
theorem dX6_isAtom_19 : decode cX6_isAtom 19 = .ok (.istore_n 3, 1) := dk_62 (dk_at dksX6_isAtom_0 19 rfl rfl)
theorem dX6_isAtom_20 : decode cX6_isAtom 20 = .ok (.aload_n 0, 1) := dk_42 (dk_at dksX6_isAtom_0 20 rfl rfl)
theorem dX6_isAtom_21 : decode cX6_isAtom 21 = .ok (.dup, 1) := dk_89 (dk_at dksX6_isAtom_0 21 rfl rfl)
theorem dX6_isAtom_22 : decode cX6_isAtom 22 = .ok (.getfield 261, 3) := dk_180 1 5 (dk_at dksX6_isAtom_1 0 rfl rfl)
theorem dX6_isAtom_25 : decode cX6_isAtom 25 = .ok (.iconst 1, 1) := dk_4 (dk_at dksX6_isAtom_1 3 rfl rfl)
theorem dX6_isAtom_26 : decode cX6_isAtom 26 = .ok (.iadd, 1) := dk_96 (dk_at dksX6_isAtom_1 4 rfl rfl)
theorem dX6_isAtom_27 : decode cX6_isAtom 27 = .ok (.putfield 261, 3) := dk_181 1 5 (dk_at dksX6_isAtom_1 5 rfl rfl)
theorem dX6_isAtom_30 : decode cX6_isAtom 30 = .ok (.aload_n 0, 1) := dk_42 (dk_at dksX6_isAtom_1 8 rfl rfl)
theorem dX6_isAtom_31 : decode cX6_isAtom 31 = .ok (.getfield 57, 3) := dk_180 0 57 (dk_at dksX6_isAtom_1 9 rfl rfl)
theorem dX6_isAtom_34 : decode cX6_isAtom 34 = .ok (.iload_n 1, 1) := dk_27 (dk_at dksX6_isAtom_1 12 rfl rfl)
theorem dX6_isAtom_35 : decode cX6_isAtom 35 = .ok (.iload_n 3, 1) := dk_29 (dk_at dksX6_isAtom_1 13 rfl rfl)
theorem dX6_isAtom_36 : decode cX6_isAtom 36 = .ok (.iastore, 1) := dk_79 (dk_at dksX6_isAtom_1 14 rfl rfl)
theorem dX6_isAtom_37 : decode cX6_isAtom 37 = .ok (.aload_n 0, 1) := dk_42 (dk_at dksX6_isAtom_1 15 rfl rfl)
theorem dX6_isAtom_38 : decode cX6_isAtom 38 = .ok (.getfield 57, 3) := dk_180 0 57 (dk_at dksX6_isAtom_1 16 rfl rfl)
theorem dX6_isAtom_41 : decode cX6_isAtom 41 = .ok (.iload_n 1, 1) := dk_27 (dk_at dksX6_isAtom_1 19 rfl rfl)
theorem dX6_isAtom_42 : decode cX6_isAtom 42 = .ok (.iconst 2, 1) := dk_5 (dk_at dksX6_isAtom_1 20 rfl rfl)
theorem dX6_isAtom_43 : decode cX6_isAtom 43 = .ok (.iadd, 1) := dk_96 (dk_at dksX6_isAtom_1 21 rfl rfl)
theorem dX6_isAtom_44 : decode cX6_isAtom 44 = .ok (.iconst (-1), 1) := dk_2 (dk_at dksX6_isAtom_1 22 rfl rfl)
theorem dX6_isAtom_45 : decode cX6_isAtom 45 = .ok (.iastore, 1) := dk_79 (dk_at dksX6_isAtom_1 23 rfl rfl)
theorem dX6_isAtom_46 : decode cX6_isAtom 46 = .ok (.aload_n 0, 1) := dk_42 (dk_at dksX6_isAtom_2 0 rfl rfl)
theorem dX6_isAtom_47 : decode cX6_isAtom 47 = .ok (.bipush 40, 2) := dk_16 40 (dk_at dksX6_isAtom_2 1 rfl rfl)
theorem dX6_isAtom_49 : decode cX6_isAtom 49 = .ok (.invokevirtual 277, 3) := dk_182 1 21 (dk_at dksX6_isAtom_2 3 rfl rfl)
theorem dX6_isAtom_52 : decode cX6_isAtom 52 = .ok (.ifCond .eq 30, 3) := dk_153 0 30 (dk_at dksX6_isAtom_2 6 rfl rfl)
theorem dX6_isAtom_55 : decode cX6_isAtom 55 = .ok (.iload_n 2, 1) := dk_28 (dk_at dksX6_isAtom_2 9 rfl rfl)
theorem dX6_isAtom_56 : decode cX6_isAtom 56 = .ok (.ifCond .eq 16, 3) := dk_153 0 16 (dk_at dksX6_isAtom_2 10 rfl rfl)
theorem dX6_isAtom_59 : decode cX6_isAtom 59 = .ok (.aload_n 0, 1) := dk_42 (dk_at dksX6_isAtom_2 13 rfl rfl)
theorem dX6_isAtom_60 : decode cX6_isAtom 60 = .ok (.iload_n 1, 1) := dk_27 (dk_at dksX6_isAtom_2 14 rfl rfl)
theorem dX6_isAtom_61 : decode cX6_isAtom 61 = .ok (.iconst 1, 1) := dk_4 (dk_at dksX6_isAtom_2 15 rfl rfl)
theorem dX6_isAtom_62 : decode cX6_isAtom 62 = .ok (.iadd, 1) := dk_96 (dk_at dksX6_isAtom_2 16 rfl rfl)
theorem dX6_isAtom_63 : decode cX6_isAtom 63 = .ok (.invokevirtual 280, 3) := dk_182 1 24 (dk_at dksX6_isAtom_2 17 rfl rfl)
theorem dX6_isAtom_66 : decode cX6_isAtom 66 = .ok (.ifCond .eq 16, 3) := dk_153 0 16 (dk_at dksX6_isAtom_2 20 rfl rfl)
theorem dX6_isAtom_69 : decode cX6_isAtom 69 = .ok (.goto 15, 3) := dk_167 0 15 (dk_at dksX6_isAtom_3 0 rfl rfl)
theorem dX6_isAtom_72 : decode cX6_isAtom 72 = .ok (.aload_n 0, 1) := dk_42 (dk_at dksX6_isAtom_3 3 rfl rfl)
theorem dX6_isAtom_73 : decode cX6_isAtom 73 = .ok (.iload_n 1, 1) := dk_27 (dk_at dksX6_isAtom_3 4 rfl rfl)
theorem dX6_isAtom_74 : decode cX6_isAtom 74 = .ok (.iconst 1, 1) := dk_4 (dk_at dksX6_isAtom_3 5 rfl rfl)
theorem dX6_isAtom_75 : decode cX6_isAtom 75 = .ok (.iadd, 1) := dk_96 (dk_at dksX6_isAtom_3 6 rfl rfl)
theorem dX6_isAtom_76 : decode cX6_isAtom 76 = .ok (.invokevirtual 283, 3) := dk_182 1 27 (dk_at dksX6_isAtom_3 7 rfl rfl)
theorem dX6_isAtom_79 : decode cX6_isAtom 79 = .ok (.ifCond .ne 5, 3) := dk_154 0 5 (dk_at dksX6_isAtom_3 10 rfl rfl)
theorem dX6_isAtom_82 : decode cX6_isAtom 82 = .ok (.iconst 0, 1) := dk_3 (dk_at dksX6_isAtom_3 13 rfl rfl)
theorem dX6_isAtom_83 : decode cX6_isAtom 83 = .ok (.ireturn, 1) := dk_172 (dk_at dksX6_isAtom_3 14 rfl rfl)
theorem dX6_isAtom_84 : decode cX6_isAtom 84 = .ok (.iload_n 3, 1) := dk_29 (dk_at dksX6_isAtom_3 15 rfl rfl)
theorem dX6_isAtom_85 : decode cX6_isAtom 85 = .ok (.invokestatic 85, 3) := dk_184 0 85 (dk_at dksX6_isAtom_3 16 rfl rfl)
theorem dX6_isAtom_88 : decode cX6_isAtom 88 = .ok (.ifCond .eq 41, 3) := dk_153 0 41 (dk_at dksX6_isAtom_3 19 rfl rfl)
theorem dX6_isAtom_91 : decode cX6_isAtom 91 = .ok (.aload_n 0, 1) := dk_42 (dk_at dksX6_isAtom_3 22 rfl rfl)
theorem dX6_isAtom_92 : decode cX6_isAtom 92 = .ok (.bipush 44, 2) := dk_16 44 (dk_at dksX6_isAtom_4 0 rfl rfl)
theorem dX6_isAtom_94 : decode cX6_isAtom 94 = .ok (.invokevirtual 277, 3) := dk_182 1 21 (dk_at dksX6_isAtom_4 2 rfl rfl)
theorem dX6_isAtom_97 : decode cX6_isAtom 97 = .ok (.ifCond .eq 30, 3) := dk_153 0 30 (dk_at dksX6_isAtom_4 5 rfl rfl)
theorem dX6_isAtom_100 : decode cX6_isAtom 100 = .ok (.iload_n 2, 1) := dk_28 (dk_at dksX6_isAtom_4 8 rfl rfl)
theorem dX6_isAtom_101 : decode cX6_isAtom 101 = .ok (.ifCond .eq 16, 3) := dk_153 0 16 (dk_at dksX6_isAtom_4 9 rfl rfl)
theorem dX6_isAtom_104 : decode cX6_isAtom 104 = .ok (.aload_n 0, 1) := dk_42 (dk_at dksX6_isAtom_4 12 rfl rfl)
theorem dX6_isAtom_105 : decode cX6_isAtom 105 = .ok (.iload_n 1, 1) := dk_27 (dk_at dksX6_isAtom_4 13 rfl rfl)
theorem dX6_isAtom_106 : decode cX6_isAtom 106 = .ok (.iconst 2, 1) := dk_5 (dk_at dksX6_isAtom_4 14 rfl rfl)
theorem dX6_isAtom_107 : decode cX6_isAtom 107 = .ok (.iadd, 1) := dk_96 (dk_at dksX6_isAtom_4 15 rfl rfl)
theorem dX6_isAtom_108 : decode cX6_isAtom 108 = .ok (.invokevirtual 280, 3) := dk_182 1 24 (dk_at dksX6_isAtom_4 16 rfl rfl)
theorem dX6_isAtom_111 : decode cX6_isAtom 111 = .ok (.ifCond .eq 16, 3) := dk_153 0 16 (dk_at dksX6_isAtom_4 19 rfl rfl)
theorem dX6_isAtom_114 : decode cX6_isAtom 114 = .ok (.goto 15, 3) := dk_167 0 15 (dk_at dksX6_isAtom_5 0 rfl rfl)
theorem dX6_isAtom_117 : decode cX6_isAtom 117 = .ok (.aload_n 0, 1) := dk_42 (dk_at dksX6_isAtom_5 3 rfl rfl)
theorem dX6_isAtom_118 : decode cX6_isAtom 118 = .ok (.iload_n 1, 1) := dk_27 (dk_at dksX6_isAtom_5 4 rfl rfl)
theorem dX6_isAtom_119 : decode cX6_isAtom 119 = .ok (.iconst 2, 1) := dk_5 (dk_at dksX6_isAtom_5 5 rfl rfl)
theorem dX6_isAtom_120 : decode cX6_isAtom 120 = .ok (.iadd, 1) := dk_96 (dk_at dksX6_isAtom_5 6 rfl rfl)
theorem dX6_isAtom_121 : decode cX6_isAtom 121 = .ok (.invokevirtual 283, 3) := dk_182 1 27 (dk_at dksX6_isAtom_5 7 rfl rfl)
theorem dX6_isAtom_124 : decode cX6_isAtom 124 = .ok (.ifCond .ne 5, 3) := dk_154 0 5 (dk_at dksX6_isAtom_5 10 rfl rfl)
theorem dX6_isAtom_127 : decode cX6_isAtom 127 = .ok (.iconst 0, 1) := dk_3 (dk_at dksX6_isAtom_5 13 rfl rfl)
theorem dX6_isAtom_128 : decode cX6_isAtom 128 = .ok (.ireturn, 1) := dk_172 (dk_at dksX6_isAtom_5 14 rfl rfl)
theorem dX6_isAtom_129 : decode cX6_isAtom 129 = .ok (.aload_n 0, 1) := dk_42 (dk_at dksX6_isAtom_5 15 rfl rfl)
theorem dX6_isAtom_130 : decode cX6_isAtom 130 = .ok (.bipush 41, 2) := dk_16 41 (dk_at dksX6_isAtom_5 16 rfl rfl)
theorem dX6_isAtom_132 : decode cX6_isAtom 132 = .ok (.invokevirtual 277, 3) := dk_182 1 21 (dk_at dksX6_isAtom_5 18 rfl rfl)
theorem dX6_isAtom_135 : decode cX6_isAtom 135 = .ok (.ireturn, 1) := dk_172 (dk_at dksX6_isAtom_5 21 rfl rfl)
abbrev cX6_isDigit : ByteArray := prog_28_method_88_code
def yX6_isDigit : MethodName := ⟨RX6, "isDigit", "(I)Z"⟩
def dkwX6_isDigit_2 : List UInt8 := [3, 96, 181, 1, 5, 28, 172]
abbrev dktX6_isDigit_2 : List UInt8 := dkwX6_isDigit_2 ++ []
def dkwX6_isDigit_1 : List UInt8 := [182, 1, 8, 16, 48, 100, 167, 0, 4, 3, 79, 42, 89, 180, 1, 5, 28, 153, 0, 7, 4, 167, 0, 4]
abbrev dktX6_isDigit_1 : List UInt8 := dkwX6_isDigit_1 ++ dktX6_isDigit_2
def dkwX6_isDigit_0 : List UInt8 := [42, 182, 1, 8, 16, 48, 16, 57, 184, 0, 77, 61, 42, 180, 0, 57, 27, 28, 153, 0, 13, 42]
abbrev dktX6_isDigit_0 : List UInt8 := dkwX6_isDigit_0 ++ dktX6_isDigit_1
theorem dksX6_isDigit_0 : cX6_isDigit.data.toList.drop 0 = dktX6_isDigit_0 := by decide +kernel
theorem dksX6_isDigit_1 : cX6_isDigit.data.toList.drop 22 = dktX6_isDigit_1 := dk_seg dksX6_isDigit_0 22 rfl rfl
theorem dksX6_isDigit_2 : cX6_isDigit.data.toList.drop 46 = dktX6_isDigit_2 := dk_seg dksX6_isDigit_1 24 rfl rfl
theorem dX6_isDigit_0 : decode cX6_isDigit 0 = .ok (.aload_n 0, 1) := dk_42 (dk_at dksX6_isDigit_0 0 rfl rfl)
theorem dX6_isDigit_1 : decode cX6_isDigit 1 = .ok (.invokevirtual 264, 3) := dk_182 1 8 (dk_at dksX6_isDigit_0 1 rfl rfl)
theorem dX6_isDigit_4 : decode cX6_isDigit 4 = .ok (.bipush 48, 2) := dk_16 48 (dk_at dksX6_isDigit_0 4 rfl rfl)
theorem dX6_isDigit_6 : decode cX6_isDigit 6 = .ok (.bipush 57, 2) := dk_16 57 (dk_at dksX6_isDigit_0 6 rfl rfl)
theorem dX6_isDigit_8 : decode cX6_isDigit 8 = .ok (.invokestatic 77, 3) := dk_184 0 77 (dk_at dksX6_isDigit_0 8 rfl rfl)
theorem dX6_isDigit_11 : decode cX6_isDigit 11 = .ok (.istore_n 2, 1) := dk_61 (dk_at dksX6_isDigit_0 11 rfl rfl)
theorem dX6_isDigit_12 : decode cX6_isDigit 12 = .ok (.aload_n 0, 1) := dk_42 (dk_at dksX6_isDigit_0 12 rfl rfl)
theorem dX6_isDigit_13 : decode cX6_isDigit 13 = .ok (.getfield 57, 3) := dk_180 0 57 (dk_at dksX6_isDigit_0 13 rfl rfl)
theorem dX6_isDigit_16 : decode cX6_isDigit 16 = .ok (.iload_n 1, 1) := dk_27 (dk_at dksX6_isDigit_0 16 rfl rfl)
theorem dX6_isDigit_17 : decode cX6_isDigit 17 = .ok (.iload_n 2, 1) := dk_28 (dk_at dksX6_isDigit_0 17 rfl rfl)
theorem dX6_isDigit_18 : decode cX6_isDigit 18 = .ok (.ifCond .eq 13, 3) := dk_153 0 13 (dk_at dksX6_isDigit_0 18 rfl rfl)
theorem dX6_isDigit_21 : decode cX6_isDigit 21 = .ok (.aload_n 0, 1) := dk_42 (dk_at dksX6_isDigit_0 21 rfl rfl)
theorem dX6_isDigit_22 : decode cX6_isDigit 22 = .ok (.invokevirtual 264, 3) := dk_182 1 8 (dk_at dksX6_isDigit_1 0 rfl rfl)
theorem dX6_isDigit_25 : decode cX6_isDigit 25 = .ok (.bipush 48, 2) := dk_16 48 (dk_at dksX6_isDigit_1 3 rfl rfl)
theorem dX6_isDigit_27 : decode cX6_isDigit 27 = .ok (.isub, 1) := dk_100 (dk_at dksX6_isDigit_1 5 rfl rfl)
theorem dX6_isDigit_28 : decode cX6_isDigit 28 = .ok (.goto 4, 3) := dk_167 0 4 (dk_at dksX6_isDigit_1 6 rfl rfl)
theorem dX6_isDigit_31 : decode cX6_isDigit 31 = .ok (.iconst 0, 1) := dk_3 (dk_at dksX6_isDigit_1 9 rfl rfl)
theorem dX6_isDigit_32 : decode cX6_isDigit 32 = .ok (.iastore, 1) := dk_79 (dk_at dksX6_isDigit_1 10 rfl rfl)
theorem dX6_isDigit_33 : decode cX6_isDigit 33 = .ok (.aload_n 0, 1) := dk_42 (dk_at dksX6_isDigit_1 11 rfl rfl)
theorem dX6_isDigit_34 : decode cX6_isDigit 34 = .ok (.dup, 1) := dk_89 (dk_at dksX6_isDigit_1 12 rfl rfl)
theorem dX6_isDigit_35 : decode cX6_isDigit 35 = .ok (.getfield 261, 3) := dk_180 1 5 (dk_at dksX6_isDigit_1 13 rfl rfl)
theorem dX6_isDigit_38 : decode cX6_isDigit 38 = .ok (.iload_n 2, 1) := dk_28 (dk_at dksX6_isDigit_1 16 rfl rfl)
theorem dX6_isDigit_39 : decode cX6_isDigit 39 = .ok (.ifCond .eq 7, 3) := dk_153 0 7 (dk_at dksX6_isDigit_1 17 rfl rfl)
theorem dX6_isDigit_42 : decode cX6_isDigit 42 = .ok (.iconst 1, 1) := dk_4 (dk_at dksX6_isDigit_1 20 rfl rfl)
theorem dX6_isDigit_43 : decode cX6_isDigit 43 = .ok (.goto 4, 3) := dk_167 0 4 (dk_at dksX6_isDigit_1 21 rfl rfl)
theorem dX6_isDigit_46 : decode cX6_isDigit 46 = .ok (.iconst 0, 1) := dk_3 (dk_at dksX6_isDigit_2 0 rfl rfl)
theorem dX6_isDigit_47 : decode cX6_isDigit 47 = .ok (.iadd, 1) := dk_96 (dk_at dksX6_isDigit_2 1 rfl rfl)
theorem dX6_isDigit_48 : decode cX6_isDigit 48 = .ok (.putfield 261, 3) := dk_181 1 5 (dk_at dksX6_isDigit_2 2 rfl rfl)
theorem dX6_isDigit_51 : decode cX6_isDigit 51 = .ok (.iload_n 2, 1) := dk_28 (dk_at dksX6_isDigit_2 5 rfl rfl)
theorem dX6_isDigit_52 : decode cX6_isDigit 52 = .ok (.ireturn, 1) := dk_172 (dk_at dksX6_isDigit_2 6 rfl rfl)
abbrev cX6_isTerm : ByteArray := prog_28_method_89_code
def yX6_isTerm : MethodName := ⟨RX6, "isTerm", "(I)Z"⟩
def dkwX6_isTerm_4 : List UInt8 := [181, 1, 5, 28, 172]
abbrev dktX6_isTerm_4 : List UInt8 := dkwX6_isTerm_4 ++ []
def dkwX6_isTerm_3 : List UInt8 := [182, 1, 8, 16, 48, 100, 79, 42, 89, 180, 1, 5, 28, 153, 0, 7, 4, 167, 0, 4, 3, 96]
abbrev dktX6_isTerm_3 : List UInt8 := dkwX6_isTerm_3 ++ dktX6_isTerm_4
def dkwX6_isTerm_2 : List UInt8 := [16, 90, 184, 0, 77, 153, 0, 16, 42, 182, 1, 8, 16, 88, 100, 16, 10, 96, 167, 0, 10, 42]
abbrev dktX6_isTerm_2 : List UInt8 := dkwX6_isTerm_2 ++ dktX6_isTerm_3
def dkwX6_isTerm_1 : List UInt8 := [184, 0, 77, 153, 0, 7, 4, 167, 0, 4, 3, 61, 42, 180, 0, 57, 27, 42, 182, 1, 8, 16, 88]
abbrev dktX6_isTerm_1 : List UInt8 := dkwX6_isTerm_1 ++ dktX6_isTerm_2
def dkwX6_isTerm_0 : List UInt8 := [42, 182, 1, 8, 16, 48, 16, 57, 184, 0, 77, 154, 0, 17, 42, 182, 1, 8, 16, 88, 16, 90]
abbrev dktX6_isTerm_0 : List UInt8 := dkwX6_isTerm_0 ++ dktX6_isTerm_1
theorem dksX6_isTerm_0 : cX6_isTerm.data.toList.drop 0 = dktX6_isTerm_0 := by decide +kernel
theorem dksX6_isTerm_1 : cX6_isTerm.data.toList.drop 22 = dktX6_isTerm_1 := dk_seg dksX6_isTerm_0 22 rfl rfl
theorem dksX6_isTerm_2 : cX6_isTerm.data.toList.drop 45 = dktX6_isTerm_2 := dk_seg dksX6_isTerm_1 23 rfl rfl
theorem dksX6_isTerm_3 : cX6_isTerm.data.toList.drop 67 = dktX6_isTerm_3 := dk_seg dksX6_isTerm_2 22 rfl rfl
theorem dksX6_isTerm_4 : cX6_isTerm.data.toList.drop 89 = dktX6_isTerm_4 := dk_seg dksX6_isTerm_3 22 rfl rfl
theorem dX6_isTerm_0 : decode cX6_isTerm 0 = .ok (.aload_n 0, 1) := dk_42 (dk_at dksX6_isTerm_0 0 rfl rfl)
theorem dX6_isTerm_1 : decode cX6_isTerm 1 = .ok (.invokevirtual 264, 3) := dk_182 1 8 (dk_at dksX6_isTerm_0 1 rfl rfl)
theorem dX6_isTerm_4 : decode cX6_isTerm 4 = .ok (.bipush 48, 2) := dk_16 48 (dk_at dksX6_isTerm_0 4 rfl rfl)
theorem dX6_isTerm_6 : decode cX6_isTerm 6 = .ok (.bipush 57, 2) := dk_16 57 (dk_at dksX6_isTerm_0 6 rfl rfl)
theorem dX6_isTerm_8 : decode cX6_isTerm 8 = .ok (.invokestatic 77, 3) := dk_184 0 77 (dk_at dksX6_isTerm_0 8 rfl rfl)
theorem dX6_isTerm_11 : decode cX6_isTerm 11 = .ok (.ifCond .ne 17, 3) := dk_154 0 17 (dk_at dksX6_isTerm_0 11 rfl rfl)
theorem dX6_isTerm_14 : decode cX6_isTerm 14 = .ok (.aload_n 0, 1) := dk_42 (dk_at dksX6_isTerm_0 14 rfl rfl)
theorem dX6_isTerm_15 : decode cX6_isTerm 15 = .ok (.invokevirtual 264, 3) := dk_182 1 8 (dk_at dksX6_isTerm_0 15 rfl rfl)
theorem dX6_isTerm_18 : decode cX6_isTerm 18 = .ok (.bipush 88, 2) := dk_16 88 (dk_at dksX6_isTerm_0 18 rfl rfl)
theorem dX6_isTerm_20 : decode cX6_isTerm 20 = .ok (.bipush 90, 2) := dk_16 90 (dk_at dksX6_isTerm_0 20 rfl rfl)
theorem dX6_isTerm_22 : decode cX6_isTerm 22 = .ok (.invokestatic 77, 3) := dk_184 0 77 (dk_at dksX6_isTerm_1 0 rfl rfl)
theorem dX6_isTerm_25 : decode cX6_isTerm 25 = .ok (.ifCond .eq 7, 3) := dk_153 0 7 (dk_at dksX6_isTerm_1 3 rfl rfl)
theorem dX6_isTerm_28 : decode cX6_isTerm 28 = .ok (.iconst 1, 1) := dk_4 (dk_at dksX6_isTerm_1 6 rfl rfl)
theorem dX6_isTerm_29 : decode cX6_isTerm 29 = .ok (.goto 4, 3) := dk_167 0 4 (dk_at dksX6_isTerm_1 7 rfl rfl)
theorem dX6_isTerm_32 : decode cX6_isTerm 32 = .ok (.iconst 0, 1) := dk_3 (dk_at dksX6_isTerm_1 10 rfl rfl)
theorem dX6_isTerm_33 : decode cX6_isTerm 33 = .ok (.istore_n 2, 1) := dk_61 (dk_at dksX6_isTerm_1 11 rfl rfl)
theorem dX6_isTerm_34 : decode cX6_isTerm 34 = .ok (.aload_n 0, 1) := dk_42 (dk_at dksX6_isTerm_1 12 rfl rfl)
theorem dX6_isTerm_35 : decode cX6_isTerm 35 = .ok (.getfield 57, 3) := dk_180 0 57 (dk_at dksX6_isTerm_1 13 rfl rfl)
theorem dX6_isTerm_38 : decode cX6_isTerm 38 = .ok (.iload_n 1, 1) := dk_27 (dk_at dksX6_isTerm_1 16 rfl rfl)
theorem dX6_isTerm_39 : decode cX6_isTerm 39 = .ok (.aload_n 0, 1) := dk_42 (dk_at dksX6_isTerm_1 17 rfl rfl)
theorem dX6_isTerm_40 : decode cX6_isTerm 40 = .ok (.invokevirtual 264, 3) := dk_182 1 8 (dk_at dksX6_isTerm_1 18 rfl rfl)
theorem dX6_isTerm_43 : decode cX6_isTerm 43 = .ok (.bipush 88, 2) := dk_16 88 (dk_at dksX6_isTerm_1 21 rfl rfl)
theorem dX6_isTerm_45 : decode cX6_isTerm 45 = .ok (.bipush 90, 2) := dk_16 90 (dk_at dksX6_isTerm_2 0 rfl rfl)
theorem dX6_isTerm_47 : decode cX6_isTerm 47 = .ok (.invokestatic 77, 3) := dk_184 0 77 (dk_at dksX6_isTerm_2 2 rfl rfl)
theorem dX6_isTerm_50 : decode cX6_isTerm 50 = .ok (.ifCond .eq 16, 3) := dk_153 0 16 (dk_at dksX6_isTerm_2 5 rfl rfl)
theorem dX6_isTerm_53 : decode cX6_isTerm 53 = .ok (.aload_n 0, 1) := dk_42 (dk_at dksX6_isTerm_2 8 rfl rfl)
theorem dX6_isTerm_54 : decode cX6_isTerm 54 = .ok (.invokevirtual 264, 3) := dk_182 1 8 (dk_at dksX6_isTerm_2 9 rfl rfl)
theorem dX6_isTerm_57 : decode cX6_isTerm 57 = .ok (.bipush 88, 2) := dk_16 88 (dk_at dksX6_isTerm_2 12 rfl rfl)
theorem dX6_isTerm_59 : decode cX6_isTerm 59 = .ok (.isub, 1) := dk_100 (dk_at dksX6_isTerm_2 14 rfl rfl)
theorem dX6_isTerm_60 : decode cX6_isTerm 60 = .ok (.bipush 10, 2) := dk_16 10 (dk_at dksX6_isTerm_2 15 rfl rfl)
theorem dX6_isTerm_62 : decode cX6_isTerm 62 = .ok (.iadd, 1) := dk_96 (dk_at dksX6_isTerm_2 17 rfl rfl)
theorem dX6_isTerm_63 : decode cX6_isTerm 63 = .ok (.goto 10, 3) := dk_167 0 10 (dk_at dksX6_isTerm_2 18 rfl rfl)
theorem dX6_isTerm_66 : decode cX6_isTerm 66 = .ok (.aload_n 0, 1) := dk_42 (dk_at dksX6_isTerm_2 21 rfl rfl)
theorem dX6_isTerm_67 : decode cX6_isTerm 67 = .ok (.invokevirtual 264, 3) := dk_182 1 8 (dk_at dksX6_isTerm_3 0 rfl rfl)
theorem dX6_isTerm_70 : decode cX6_isTerm 70 = .ok (.bipush 48, 2) := dk_16 48 (dk_at dksX6_isTerm_3 3 rfl rfl)
theorem dX6_isTerm_72 : decode cX6_isTerm 72 = .ok (.isub, 1) := dk_100 (dk_at dksX6_isTerm_3 5 rfl rfl)
theorem dX6_isTerm_73 : decode cX6_isTerm 73 = .ok (.iastore, 1) := dk_79 (dk_at dksX6_isTerm_3 6 rfl rfl)
theorem dX6_isTerm_74 : decode cX6_isTerm 74 = .ok (.aload_n 0, 1) := dk_42 (dk_at dksX6_isTerm_3 7 rfl rfl)
theorem dX6_isTerm_75 : decode cX6_isTerm 75 = .ok (.dup, 1) := dk_89 (dk_at dksX6_isTerm_3 8 rfl rfl)
theorem dX6_isTerm_76 : decode cX6_isTerm 76 = .ok (.getfield 261, 3) := dk_180 1 5 (dk_at dksX6_isTerm_3 9 rfl rfl)
theorem dX6_isTerm_79 : decode cX6_isTerm 79 = .ok (.iload_n 2, 1) := dk_28 (dk_at dksX6_isTerm_3 12 rfl rfl)
theorem dX6_isTerm_80 : decode cX6_isTerm 80 = .ok (.ifCond .eq 7, 3) := dk_153 0 7 (dk_at dksX6_isTerm_3 13 rfl rfl)
theorem dX6_isTerm_83 : decode cX6_isTerm 83 = .ok (.iconst 1, 1) := dk_4 (dk_at dksX6_isTerm_3 16 rfl rfl)
theorem dX6_isTerm_84 : decode cX6_isTerm 84 = .ok (.goto 4, 3) := dk_167 0 4 (dk_at dksX6_isTerm_3 17 rfl rfl)
theorem dX6_isTerm_87 : decode cX6_isTerm 87 = .ok (.iconst 0, 1) := dk_3 (dk_at dksX6_isTerm_3 20 rfl rfl)
theorem dX6_isTerm_88 : decode cX6_isTerm 88 = .ok (.iadd, 1) := dk_96 (dk_at dksX6_isTerm_3 21 rfl rfl)
theorem dX6_isTerm_89 : decode cX6_isTerm 89 = .ok (.putfield 261, 3) := dk_181 1 5 (dk_at dksX6_isTerm_4 0 rfl rfl)
theorem dX6_isTerm_92 : decode cX6_isTerm 92 = .ok (.iload_n 2, 1) := dk_28 (dk_at dksX6_isTerm_4 3 rfl rfl)
theorem dX6_isTerm_93 : decode cX6_isTerm 93 = .ok (.ireturn, 1) := dk_172 (dk_at dksX6_isTerm_4 4 rfl rfl)
abbrev cX6_readsRule : ByteArray := prog_28_method_92_code
def yX6_readsRule : MethodName := ⟨RX6, "readsRule", "(I)Z"⟩
def dkwX6_readsRule_5 : List UInt8 := [132, 4, 1, 167, 255, 223, 4, 172]
abbrev dktX6_readsRule_5 : List UInt8 := dkwX6_readsRule_5 ++ []
def dkwX6_readsRule_4 : List UInt8 := [162, 0, 30, 42, 180, 0, 57, 27, 16, 17, 96, 21, 4, 96, 28, 100, 42, 180, 0, 54, 21, 4, 46, 79]
abbrev dktX6_readsRule_4 : List UInt8 := dkwX6_readsRule_4 ++ dktX6_readsRule_5
def dkwX6_readsRule_3 : List UInt8 := [180, 0, 57, 27, 16, 16, 96, 42, 180, 1, 5, 28, 100, 79, 28, 54, 4, 21, 4, 42, 180, 1, 5]
abbrev dktX6_readsRule_3 : List UInt8 := dkwX6_readsRule_3 ++ dktX6_readsRule_4
def dkwX6_readsRule_2 : List UInt8 := [162, 0, 12, 42, 16, 44, 182, 1, 21, 154, 255, 226, 42, 180, 0, 57, 27, 6, 96, 29, 79, 42]
abbrev dktX6_readsRule_2 : List UInt8 := dkwX6_readsRule_2 ++ dktX6_readsRule_3
def dkwX6_readsRule_1 : List UInt8 := [172, 3, 62, 42, 27, 7, 96, 7, 29, 104, 96, 182, 1, 34, 154, 0, 5, 3, 172, 132, 3, 1, 29, 6]
abbrev dktX6_readsRule_1 : List UInt8 := dkwX6_readsRule_1 ++ dktX6_readsRule_2
def dkwX6_readsRule_0 : List UInt8 := [42, 180, 1, 5, 61, 42, 27, 3, 182, 1, 30, 153, 0, 12, 42, 16, 58, 182, 1, 21, 154, 0, 5, 3]
abbrev dktX6_readsRule_0 : List UInt8 := dkwX6_readsRule_0 ++ dktX6_readsRule_1
theorem dksX6_readsRule_0 : cX6_readsRule.data.toList.drop 0 = dktX6_readsRule_0 := by decide +kernel
theorem dksX6_readsRule_1 : cX6_readsRule.data.toList.drop 24 = dktX6_readsRule_1 := dk_seg dksX6_readsRule_0 24 rfl rfl
theorem dksX6_readsRule_2 : cX6_readsRule.data.toList.drop 48 = dktX6_readsRule_2 := dk_seg dksX6_readsRule_1 24 rfl rfl
theorem dksX6_readsRule_3 : cX6_readsRule.data.toList.drop 70 = dktX6_readsRule_3 := dk_seg dksX6_readsRule_2 22 rfl rfl
theorem dksX6_readsRule_4 : cX6_readsRule.data.toList.drop 93 = dktX6_readsRule_4 := dk_seg dksX6_readsRule_3 23 rfl rfl
theorem dksX6_readsRule_5 : cX6_readsRule.data.toList.drop 117 = dktX6_readsRule_5 := dk_seg dksX6_readsRule_4 24 rfl rfl
theorem dX6_readsRule_0 : decode cX6_readsRule 0 = .ok (.aload_n 0, 1) := dk_42 (dk_at dksX6_readsRule_0 0 rfl rfl)
theorem dX6_readsRule_1 : decode cX6_readsRule 1 = .ok (.getfield 261, 3) := dk_180 1 5 (dk_at dksX6_readsRule_0 1 rfl rfl)
theorem dX6_readsRule_4 : decode cX6_readsRule 4 = .ok (.istore_n 2, 1) := dk_61 (dk_at dksX6_readsRule_0 4 rfl rfl)
theorem dX6_readsRule_5 : decode cX6_readsRule 5 = .ok (.aload_n 0, 1) := dk_42 (dk_at dksX6_readsRule_0 5 rfl rfl)
theorem dX6_readsRule_6 : decode cX6_readsRule 6 = .ok (.iload_n 1, 1) := dk_27 (dk_at dksX6_readsRule_0 6 rfl rfl)
theorem dX6_readsRule_7 : decode cX6_readsRule 7 = .ok (.iconst 0, 1) := dk_3 (dk_at dksX6_readsRule_0 7 rfl rfl)
theorem dX6_readsRule_8 : decode cX6_readsRule 8 = .ok (.invokevirtual 286, 3) := dk_182 1 30 (dk_at dksX6_readsRule_0 8 rfl rfl)
theorem dX6_readsRule_11 : decode cX6_readsRule 11 = .ok (.ifCond .eq 12, 3) := dk_153 0 12 (dk_at dksX6_readsRule_0 11 rfl rfl)
theorem dX6_readsRule_14 : decode cX6_readsRule 14 = .ok (.aload_n 0, 1) := dk_42 (dk_at dksX6_readsRule_0 14 rfl rfl)
theorem dX6_readsRule_15 : decode cX6_readsRule 15 = .ok (.bipush 58, 2) := dk_16 58 (dk_at dksX6_readsRule_0 15 rfl rfl)
theorem dX6_readsRule_17 : decode cX6_readsRule 17 = .ok (.invokevirtual 277, 3) := dk_182 1 21 (dk_at dksX6_readsRule_0 17 rfl rfl)
theorem dX6_readsRule_20 : decode cX6_readsRule 20 = .ok (.ifCond .ne 5, 3) := dk_154 0 5 (dk_at dksX6_readsRule_0 20 rfl rfl)
theorem dX6_readsRule_23 : decode cX6_readsRule 23 = .ok (.iconst 0, 1) := dk_3 (dk_at dksX6_readsRule_0 23 rfl rfl)
theorem dX6_readsRule_24 : decode cX6_readsRule 24 = .ok (.ireturn, 1) := dk_172 (dk_at dksX6_readsRule_1 0 rfl rfl)
theorem dX6_readsRule_25 : decode cX6_readsRule 25 = .ok (.iconst 0, 1) := dk_3 (dk_at dksX6_readsRule_1 1 rfl rfl)
theorem dX6_readsRule_26 : decode cX6_readsRule 26 = .ok (.istore_n 3, 1) := dk_62 (dk_at dksX6_readsRule_1 2 rfl rfl)
theorem dX6_readsRule_27 : decode cX6_readsRule 27 = .ok (.aload_n 0, 1) := dk_42 (dk_at dksX6_readsRule_1 3 rfl rfl)
theorem dX6_readsRule_28 : decode cX6_readsRule 28 = .ok (.iload_n 1, 1) := dk_27 (dk_at dksX6_readsRule_1 4 rfl rfl)
theorem dX6_readsRule_29 : decode cX6_readsRule 29 = .ok (.iconst 4, 1) := dk_7 (dk_at dksX6_readsRule_1 5 rfl rfl)
theorem dX6_readsRule_30 : decode cX6_readsRule 30 = .ok (.iadd, 1) := dk_96 (dk_at dksX6_readsRule_1 6 rfl rfl)
theorem dX6_readsRule_31 : decode cX6_readsRule 31 = .ok (.iconst 4, 1) := dk_7 (dk_at dksX6_readsRule_1 7 rfl rfl)
theorem dX6_readsRule_32 : decode cX6_readsRule 32 = .ok (.iload_n 3, 1) := dk_29 (dk_at dksX6_readsRule_1 8 rfl rfl)
theorem dX6_readsRule_33 : decode cX6_readsRule 33 = .ok (.imul, 1) := dk_104 (dk_at dksX6_readsRule_1 9 rfl rfl)
theorem dX6_readsRule_34 : decode cX6_readsRule 34 = .ok (.iadd, 1) := dk_96 (dk_at dksX6_readsRule_1 10 rfl rfl)
theorem dX6_readsRule_35 : decode cX6_readsRule 35 = .ok (.invokevirtual 290, 3) := dk_182 1 34 (dk_at dksX6_readsRule_1 11 rfl rfl)
theorem dX6_readsRule_38 : decode cX6_readsRule 38 = .ok (.ifCond .ne 5, 3) := dk_154 0 5 (dk_at dksX6_readsRule_1 14 rfl rfl)
theorem dX6_readsRule_41 : decode cX6_readsRule 41 = .ok (.iconst 0, 1) := dk_3 (dk_at dksX6_readsRule_1 17 rfl rfl)
theorem dX6_readsRule_42 : decode cX6_readsRule 42 = .ok (.ireturn, 1) := dk_172 (dk_at dksX6_readsRule_1 18 rfl rfl)
theorem dX6_readsRule_43 : decode cX6_readsRule 43 = .ok (.iinc 3 1, 3) := dk_132 3 1 (dk_at dksX6_readsRule_1 19 rfl rfl)
theorem dX6_readsRule_46 : decode cX6_readsRule 46 = .ok (.iload_n 3, 1) := dk_29 (dk_at dksX6_readsRule_1 22 rfl rfl)
theorem dX6_readsRule_47 : decode cX6_readsRule 47 = .ok (.iconst 3, 1) := dk_6 (dk_at dksX6_readsRule_1 23 rfl rfl)
theorem dX6_readsRule_48 : decode cX6_readsRule 48 = .ok (.if_icmp .ge 12, 3) := dk_162 0 12 (dk_at dksX6_readsRule_2 0 rfl rfl)
theorem dX6_readsRule_51 : decode cX6_readsRule 51 = .ok (.aload_n 0, 1) := dk_42 (dk_at dksX6_readsRule_2 3 rfl rfl)
theorem dX6_readsRule_52 : decode cX6_readsRule 52 = .ok (.bipush 44, 2) := dk_16 44 (dk_at dksX6_readsRule_2 4 rfl rfl)
theorem dX6_readsRule_54 : decode cX6_readsRule 54 = .ok (.invokevirtual 277, 3) := dk_182 1 21 (dk_at dksX6_readsRule_2 6 rfl rfl)
theorem dX6_readsRule_57 : decode cX6_readsRule 57 = .ok (.ifCond .ne (-30), 3) := dk_154 255 226 (dk_at dksX6_readsRule_2 9 rfl rfl)
theorem dX6_readsRule_60 : decode cX6_readsRule 60 = .ok (.aload_n 0, 1) := dk_42 (dk_at dksX6_readsRule_2 12 rfl rfl)
theorem dX6_readsRule_61 : decode cX6_readsRule 61 = .ok (.getfield 57, 3) := dk_180 0 57 (dk_at dksX6_readsRule_2 13 rfl rfl)
theorem dX6_readsRule_64 : decode cX6_readsRule 64 = .ok (.iload_n 1, 1) := dk_27 (dk_at dksX6_readsRule_2 16 rfl rfl)
theorem dX6_readsRule_65 : decode cX6_readsRule 65 = .ok (.iconst 3, 1) := dk_6 (dk_at dksX6_readsRule_2 17 rfl rfl)
theorem dX6_readsRule_66 : decode cX6_readsRule 66 = .ok (.iadd, 1) := dk_96 (dk_at dksX6_readsRule_2 18 rfl rfl)
theorem dX6_readsRule_67 : decode cX6_readsRule 67 = .ok (.iload_n 3, 1) := dk_29 (dk_at dksX6_readsRule_2 19 rfl rfl)
theorem dX6_readsRule_68 : decode cX6_readsRule 68 = .ok (.iastore, 1) := dk_79 (dk_at dksX6_readsRule_2 20 rfl rfl)
theorem dX6_readsRule_69 : decode cX6_readsRule 69 = .ok (.aload_n 0, 1) := dk_42 (dk_at dksX6_readsRule_2 21 rfl rfl)
theorem dX6_readsRule_70 : decode cX6_readsRule 70 = .ok (.getfield 57, 3) := dk_180 0 57 (dk_at dksX6_readsRule_3 0 rfl rfl)
theorem dX6_readsRule_73 : decode cX6_readsRule 73 = .ok (.iload_n 1, 1) := dk_27 (dk_at dksX6_readsRule_3 3 rfl rfl)
theorem dX6_readsRule_74 : decode cX6_readsRule 74 = .ok (.bipush 16, 2) := dk_16 16 (dk_at dksX6_readsRule_3 4 rfl rfl)
theorem dX6_readsRule_76 : decode cX6_readsRule 76 = .ok (.iadd, 1) := dk_96 (dk_at dksX6_readsRule_3 6 rfl rfl)
theorem dX6_readsRule_77 : decode cX6_readsRule 77 = .ok (.aload_n 0, 1) := dk_42 (dk_at dksX6_readsRule_3 7 rfl rfl)
theorem dX6_readsRule_78 : decode cX6_readsRule 78 = .ok (.getfield 261, 3) := dk_180 1 5 (dk_at dksX6_readsRule_3 8 rfl rfl)
theorem dX6_readsRule_81 : decode cX6_readsRule 81 = .ok (.iload_n 2, 1) := dk_28 (dk_at dksX6_readsRule_3 11 rfl rfl)
theorem dX6_readsRule_82 : decode cX6_readsRule 82 = .ok (.isub, 1) := dk_100 (dk_at dksX6_readsRule_3 12 rfl rfl)
theorem dX6_readsRule_83 : decode cX6_readsRule 83 = .ok (.iastore, 1) := dk_79 (dk_at dksX6_readsRule_3 13 rfl rfl)
theorem dX6_readsRule_84 : decode cX6_readsRule 84 = .ok (.iload_n 2, 1) := dk_28 (dk_at dksX6_readsRule_3 14 rfl rfl)
theorem dX6_readsRule_85 : decode cX6_readsRule 85 = .ok (.istore 4, 2) := dk_54 4 (dk_at dksX6_readsRule_3 15 rfl rfl)
theorem dX6_readsRule_87 : decode cX6_readsRule 87 = .ok (.iload 4, 2) := dk_21 4 (dk_at dksX6_readsRule_3 17 rfl rfl)
theorem dX6_readsRule_89 : decode cX6_readsRule 89 = .ok (.aload_n 0, 1) := dk_42 (dk_at dksX6_readsRule_3 19 rfl rfl)
theorem dX6_readsRule_90 : decode cX6_readsRule 90 = .ok (.getfield 261, 3) := dk_180 1 5 (dk_at dksX6_readsRule_3 20 rfl rfl)
theorem dX6_readsRule_93 : decode cX6_readsRule 93 = .ok (.if_icmp .ge 30, 3) := dk_162 0 30 (dk_at dksX6_readsRule_4 0 rfl rfl)
theorem dX6_readsRule_96 : decode cX6_readsRule 96 = .ok (.aload_n 0, 1) := dk_42 (dk_at dksX6_readsRule_4 3 rfl rfl)
theorem dX6_readsRule_97 : decode cX6_readsRule 97 = .ok (.getfield 57, 3) := dk_180 0 57 (dk_at dksX6_readsRule_4 4 rfl rfl)
theorem dX6_readsRule_100 : decode cX6_readsRule 100 = .ok (.iload_n 1, 1) := dk_27 (dk_at dksX6_readsRule_4 7 rfl rfl)
theorem dX6_readsRule_101 : decode cX6_readsRule 101 = .ok (.bipush 17, 2) := dk_16 17 (dk_at dksX6_readsRule_4 8 rfl rfl)
theorem dX6_readsRule_103 : decode cX6_readsRule 103 = .ok (.iadd, 1) := dk_96 (dk_at dksX6_readsRule_4 10 rfl rfl)
theorem dX6_readsRule_104 : decode cX6_readsRule 104 = .ok (.iload 4, 2) := dk_21 4 (dk_at dksX6_readsRule_4 11 rfl rfl)
theorem dX6_readsRule_106 : decode cX6_readsRule 106 = .ok (.iadd, 1) := dk_96 (dk_at dksX6_readsRule_4 13 rfl rfl)
theorem dX6_readsRule_107 : decode cX6_readsRule 107 = .ok (.iload_n 2, 1) := dk_28 (dk_at dksX6_readsRule_4 14 rfl rfl)
theorem dX6_readsRule_108 : decode cX6_readsRule 108 = .ok (.isub, 1) := dk_100 (dk_at dksX6_readsRule_4 15 rfl rfl)
theorem dX6_readsRule_109 : decode cX6_readsRule 109 = .ok (.aload_n 0, 1) := dk_42 (dk_at dksX6_readsRule_4 16 rfl rfl)
theorem dX6_readsRule_110 : decode cX6_readsRule 110 = .ok (.getfield 54, 3) := dk_180 0 54 (dk_at dksX6_readsRule_4 17 rfl rfl)
theorem dX6_readsRule_113 : decode cX6_readsRule 113 = .ok (.iload 4, 2) := dk_21 4 (dk_at dksX6_readsRule_4 20 rfl rfl)
theorem dX6_readsRule_115 : decode cX6_readsRule 115 = .ok (.iaload, 1) := dk_46 (dk_at dksX6_readsRule_4 22 rfl rfl)
theorem dX6_readsRule_116 : decode cX6_readsRule 116 = .ok (.iastore, 1) := dk_79 (dk_at dksX6_readsRule_4 23 rfl rfl)
theorem dX6_readsRule_117 : decode cX6_readsRule 117 = .ok (.iinc 4 1, 3) := dk_132 4 1 (dk_at dksX6_readsRule_5 0 rfl rfl)
theorem dX6_readsRule_120 : decode cX6_readsRule 120 = .ok (.goto (-33), 3) := dk_167 255 223 (dk_at dksX6_readsRule_5 3 rfl rfl)
theorem dX6_readsRule_123 : decode cX6_readsRule 123 = .ok (.iconst 1, 1) := dk_4 (dk_at dksX6_readsRule_5 6 rfl rfl)
theorem dX6_readsRule_124 : decode cX6_readsRule 124 = .ok (.ireturn, 1) := dk_172 (dk_at dksX6_readsRule_5 7 rfl rfl)
abbrev cX6_isLiteral : ByteArray := prog_28_method_91_code
def yX6_isLiteral : MethodName := ⟨RX6, "isLiteral", "(I)Z"⟩
def dkwX6_isLiteral_5 : List UInt8 := [4, 96, 181, 1, 5, 42, 27, 6, 96, 182, 1, 27, 172]
abbrev dktX6_isLiteral_5 : List UInt8 := dkwX6_isLiteral_5 ++ []
def dkwX6_isLiteral_4 : List UInt8 := [180, 0, 57, 27, 42, 182, 1, 8, 16, 60, 160, 0, 7, 5, 167, 0, 4, 6, 79, 42, 89, 180, 1, 5]
abbrev dktX6_isLiteral_4 : List UInt8 := dkwX6_isLiteral_4 ++ dktX6_isLiteral_5
def dkwX6_isLiteral_3 : List UInt8 := [172, 42, 182, 1, 8, 16, 60, 159, 0, 14, 42, 182, 1, 8, 16, 61, 159, 0, 5, 3, 172, 42]
abbrev dktX6_isLiteral_3 : List UInt8 := dkwX6_isLiteral_3 ++ dktX6_isLiteral_4
def dkwX6_isLiteral_2 : List UInt8 := [182, 1, 30, 172, 42, 180, 0, 57, 27, 4, 96, 2, 79, 42, 27, 5, 96, 182, 1, 27, 154, 0, 5, 3]
abbrev dktX6_isLiteral_2 : List UInt8 := dkwX6_isLiteral_2 ++ dktX6_isLiteral_3
def dkwX6_isLiteral_1 : List UInt8 := [172, 42, 182, 1, 8, 184, 0, 81, 153, 0, 19, 42, 180, 0, 57, 27, 3, 79, 42, 27, 4, 96, 3]
abbrev dktX6_isLiteral_1 : List UInt8 := dkwX6_isLiteral_1 ++ dktX6_isLiteral_2
def dkwX6_isLiteral_0 : List UInt8 := [42, 16, 33, 182, 1, 21, 153, 0, 19, 42, 180, 0, 57, 27, 4, 79, 42, 27, 4, 96, 3, 182, 1, 30]
abbrev dktX6_isLiteral_0 : List UInt8 := dkwX6_isLiteral_0 ++ dktX6_isLiteral_1
theorem dksX6_isLiteral_0 : cX6_isLiteral.data.toList.drop 0 = dktX6_isLiteral_0 := by decide +kernel
theorem dksX6_isLiteral_1 : cX6_isLiteral.data.toList.drop 24 = dktX6_isLiteral_1 := dk_seg dksX6_isLiteral_0 24 rfl rfl
theorem dksX6_isLiteral_2 : cX6_isLiteral.data.toList.drop 47 = dktX6_isLiteral_2 := dk_seg dksX6_isLiteral_1 23 rfl rfl
theorem dksX6_isLiteral_3 : cX6_isLiteral.data.toList.drop 71 = dktX6_isLiteral_3 := dk_seg dksX6_isLiteral_2 24 rfl rfl
theorem dksX6_isLiteral_4 : cX6_isLiteral.data.toList.drop 93 = dktX6_isLiteral_4 := dk_seg dksX6_isLiteral_3 22 rfl rfl
theorem dksX6_isLiteral_5 : cX6_isLiteral.data.toList.drop 117 = dktX6_isLiteral_5 := dk_seg dksX6_isLiteral_4 24 rfl rfl
theorem dX6_isLiteral_0 : decode cX6_isLiteral 0 = .ok (.aload_n 0, 1) := dk_42 (dk_at dksX6_isLiteral_0 0 rfl rfl)
theorem dX6_isLiteral_1 : decode cX6_isLiteral 1 = .ok (.bipush 33, 2) := dk_16 33 (dk_at dksX6_isLiteral_0 1 rfl rfl)
theorem dX6_isLiteral_3 : decode cX6_isLiteral 3 = .ok (.invokevirtual 277, 3) := dk_182 1 21 (dk_at dksX6_isLiteral_0 3 rfl rfl)
theorem dX6_isLiteral_6 : decode cX6_isLiteral 6 = .ok (.ifCond .eq 19, 3) := dk_153 0 19 (dk_at dksX6_isLiteral_0 6 rfl rfl)
theorem dX6_isLiteral_9 : decode cX6_isLiteral 9 = .ok (.aload_n 0, 1) := dk_42 (dk_at dksX6_isLiteral_0 9 rfl rfl)
theorem dX6_isLiteral_10 : decode cX6_isLiteral 10 = .ok (.getfield 57, 3) := dk_180 0 57 (dk_at dksX6_isLiteral_0 10 rfl rfl)
theorem dX6_isLiteral_13 : decode cX6_isLiteral 13 = .ok (.iload_n 1, 1) := dk_27 (dk_at dksX6_isLiteral_0 13 rfl rfl)
theorem dX6_isLiteral_14 : decode cX6_isLiteral 14 = .ok (.iconst 1, 1) := dk_4 (dk_at dksX6_isLiteral_0 14 rfl rfl)
theorem dX6_isLiteral_15 : decode cX6_isLiteral 15 = .ok (.iastore, 1) := dk_79 (dk_at dksX6_isLiteral_0 15 rfl rfl)
theorem dX6_isLiteral_16 : decode cX6_isLiteral 16 = .ok (.aload_n 0, 1) := dk_42 (dk_at dksX6_isLiteral_0 16 rfl rfl)
theorem dX6_isLiteral_17 : decode cX6_isLiteral 17 = .ok (.iload_n 1, 1) := dk_27 (dk_at dksX6_isLiteral_0 17 rfl rfl)
theorem dX6_isLiteral_18 : decode cX6_isLiteral 18 = .ok (.iconst 1, 1) := dk_4 (dk_at dksX6_isLiteral_0 18 rfl rfl)
theorem dX6_isLiteral_19 : decode cX6_isLiteral 19 = .ok (.iadd, 1) := dk_96 (dk_at dksX6_isLiteral_0 19 rfl rfl)
theorem dX6_isLiteral_20 : decode cX6_isLiteral 20 = .ok (.iconst 0, 1) := dk_3 (dk_at dksX6_isLiteral_0 20 rfl rfl)
theorem dX6_isLiteral_21 : decode cX6_isLiteral 21 = .ok (.invokevirtual 286, 3) := dk_182 1 30 (dk_at dksX6_isLiteral_0 21 rfl rfl)
theorem dX6_isLiteral_24 : decode cX6_isLiteral 24 = .ok (.ireturn, 1) := dk_172 (dk_at dksX6_isLiteral_1 0 rfl rfl)
theorem dX6_isLiteral_25 : decode cX6_isLiteral 25 = .ok (.aload_n 0, 1) := dk_42 (dk_at dksX6_isLiteral_1 1 rfl rfl)
theorem dX6_isLiteral_26 : decode cX6_isLiteral 26 = .ok (.invokevirtual 264, 3) := dk_182 1 8 (dk_at dksX6_isLiteral_1 2 rfl rfl)
theorem dX6_isLiteral_29 : decode cX6_isLiteral 29 = .ok (.invokestatic 81, 3) := dk_184 0 81 (dk_at dksX6_isLiteral_1 5 rfl rfl)
theorem dX6_isLiteral_32 : decode cX6_isLiteral 32 = .ok (.ifCond .eq 19, 3) := dk_153 0 19 (dk_at dksX6_isLiteral_1 8 rfl rfl)
theorem dX6_isLiteral_35 : decode cX6_isLiteral 35 = .ok (.aload_n 0, 1) := dk_42 (dk_at dksX6_isLiteral_1 11 rfl rfl)
theorem dX6_isLiteral_36 : decode cX6_isLiteral 36 = .ok (.getfield 57, 3) := dk_180 0 57 (dk_at dksX6_isLiteral_1 12 rfl rfl)
theorem dX6_isLiteral_39 : decode cX6_isLiteral 39 = .ok (.iload_n 1, 1) := dk_27 (dk_at dksX6_isLiteral_1 15 rfl rfl)
theorem dX6_isLiteral_40 : decode cX6_isLiteral 40 = .ok (.iconst 0, 1) := dk_3 (dk_at dksX6_isLiteral_1 16 rfl rfl)
theorem dX6_isLiteral_41 : decode cX6_isLiteral 41 = .ok (.iastore, 1) := dk_79 (dk_at dksX6_isLiteral_1 17 rfl rfl)
theorem dX6_isLiteral_42 : decode cX6_isLiteral 42 = .ok (.aload_n 0, 1) := dk_42 (dk_at dksX6_isLiteral_1 18 rfl rfl)
theorem dX6_isLiteral_43 : decode cX6_isLiteral 43 = .ok (.iload_n 1, 1) := dk_27 (dk_at dksX6_isLiteral_1 19 rfl rfl)
theorem dX6_isLiteral_44 : decode cX6_isLiteral 44 = .ok (.iconst 1, 1) := dk_4 (dk_at dksX6_isLiteral_1 20 rfl rfl)
theorem dX6_isLiteral_45 : decode cX6_isLiteral 45 = .ok (.iadd, 1) := dk_96 (dk_at dksX6_isLiteral_1 21 rfl rfl)
theorem dX6_isLiteral_46 : decode cX6_isLiteral 46 = .ok (.iconst 0, 1) := dk_3 (dk_at dksX6_isLiteral_1 22 rfl rfl)
theorem dX6_isLiteral_47 : decode cX6_isLiteral 47 = .ok (.invokevirtual 286, 3) := dk_182 1 30 (dk_at dksX6_isLiteral_2 0 rfl rfl)
theorem dX6_isLiteral_50 : decode cX6_isLiteral 50 = .ok (.ireturn, 1) := dk_172 (dk_at dksX6_isLiteral_2 3 rfl rfl)
theorem dX6_isLiteral_51 : decode cX6_isLiteral 51 = .ok (.aload_n 0, 1) := dk_42 (dk_at dksX6_isLiteral_2 4 rfl rfl)
theorem dX6_isLiteral_52 : decode cX6_isLiteral 52 = .ok (.getfield 57, 3) := dk_180 0 57 (dk_at dksX6_isLiteral_2 5 rfl rfl)
theorem dX6_isLiteral_55 : decode cX6_isLiteral 55 = .ok (.iload_n 1, 1) := dk_27 (dk_at dksX6_isLiteral_2 8 rfl rfl)
theorem dX6_isLiteral_56 : decode cX6_isLiteral 56 = .ok (.iconst 1, 1) := dk_4 (dk_at dksX6_isLiteral_2 9 rfl rfl)
theorem dX6_isLiteral_57 : decode cX6_isLiteral 57 = .ok (.iadd, 1) := dk_96 (dk_at dksX6_isLiteral_2 10 rfl rfl)
theorem dX6_isLiteral_58 : decode cX6_isLiteral 58 = .ok (.iconst (-1), 1) := dk_2 (dk_at dksX6_isLiteral_2 11 rfl rfl)
theorem dX6_isLiteral_59 : decode cX6_isLiteral 59 = .ok (.iastore, 1) := dk_79 (dk_at dksX6_isLiteral_2 12 rfl rfl)
theorem dX6_isLiteral_60 : decode cX6_isLiteral 60 = .ok (.aload_n 0, 1) := dk_42 (dk_at dksX6_isLiteral_2 13 rfl rfl)
theorem dX6_isLiteral_61 : decode cX6_isLiteral 61 = .ok (.iload_n 1, 1) := dk_27 (dk_at dksX6_isLiteral_2 14 rfl rfl)
theorem dX6_isLiteral_62 : decode cX6_isLiteral 62 = .ok (.iconst 2, 1) := dk_5 (dk_at dksX6_isLiteral_2 15 rfl rfl)
theorem dX6_isLiteral_63 : decode cX6_isLiteral 63 = .ok (.iadd, 1) := dk_96 (dk_at dksX6_isLiteral_2 16 rfl rfl)
theorem dX6_isLiteral_64 : decode cX6_isLiteral 64 = .ok (.invokevirtual 283, 3) := dk_182 1 27 (dk_at dksX6_isLiteral_2 17 rfl rfl)
theorem dX6_isLiteral_67 : decode cX6_isLiteral 67 = .ok (.ifCond .ne 5, 3) := dk_154 0 5 (dk_at dksX6_isLiteral_2 20 rfl rfl)
theorem dX6_isLiteral_70 : decode cX6_isLiteral 70 = .ok (.iconst 0, 1) := dk_3 (dk_at dksX6_isLiteral_2 23 rfl rfl)
theorem dX6_isLiteral_71 : decode cX6_isLiteral 71 = .ok (.ireturn, 1) := dk_172 (dk_at dksX6_isLiteral_3 0 rfl rfl)
theorem dX6_isLiteral_72 : decode cX6_isLiteral 72 = .ok (.aload_n 0, 1) := dk_42 (dk_at dksX6_isLiteral_3 1 rfl rfl)
theorem dX6_isLiteral_73 : decode cX6_isLiteral 73 = .ok (.invokevirtual 264, 3) := dk_182 1 8 (dk_at dksX6_isLiteral_3 2 rfl rfl)
theorem dX6_isLiteral_76 : decode cX6_isLiteral 76 = .ok (.bipush 60, 2) := dk_16 60 (dk_at dksX6_isLiteral_3 5 rfl rfl)
theorem dX6_isLiteral_78 : decode cX6_isLiteral 78 = .ok (.if_icmp .eq 14, 3) := dk_159 0 14 (dk_at dksX6_isLiteral_3 7 rfl rfl)
theorem dX6_isLiteral_81 : decode cX6_isLiteral 81 = .ok (.aload_n 0, 1) := dk_42 (dk_at dksX6_isLiteral_3 10 rfl rfl)
theorem dX6_isLiteral_82 : decode cX6_isLiteral 82 = .ok (.invokevirtual 264, 3) := dk_182 1 8 (dk_at dksX6_isLiteral_3 11 rfl rfl)
theorem dX6_isLiteral_85 : decode cX6_isLiteral 85 = .ok (.bipush 61, 2) := dk_16 61 (dk_at dksX6_isLiteral_3 14 rfl rfl)
theorem dX6_isLiteral_87 : decode cX6_isLiteral 87 = .ok (.if_icmp .eq 5, 3) := dk_159 0 5 (dk_at dksX6_isLiteral_3 16 rfl rfl)
theorem dX6_isLiteral_90 : decode cX6_isLiteral 90 = .ok (.iconst 0, 1) := dk_3 (dk_at dksX6_isLiteral_3 19 rfl rfl)
theorem dX6_isLiteral_91 : decode cX6_isLiteral 91 = .ok (.ireturn, 1) := dk_172 (dk_at dksX6_isLiteral_3 20 rfl rfl)
theorem dX6_isLiteral_92 : decode cX6_isLiteral 92 = .ok (.aload_n 0, 1) := dk_42 (dk_at dksX6_isLiteral_3 21 rfl rfl)
theorem dX6_isLiteral_93 : decode cX6_isLiteral 93 = .ok (.getfield 57, 3) := dk_180 0 57 (dk_at dksX6_isLiteral_4 0 rfl rfl)
theorem dX6_isLiteral_96 : decode cX6_isLiteral 96 = .ok (.iload_n 1, 1) := dk_27 (dk_at dksX6_isLiteral_4 3 rfl rfl)
theorem dX6_isLiteral_97 : decode cX6_isLiteral 97 = .ok (.aload_n 0, 1) := dk_42 (dk_at dksX6_isLiteral_4 4 rfl rfl)
theorem dX6_isLiteral_98 : decode cX6_isLiteral 98 = .ok (.invokevirtual 264, 3) := dk_182 1 8 (dk_at dksX6_isLiteral_4 5 rfl rfl)
theorem dX6_isLiteral_101 : decode cX6_isLiteral 101 = .ok (.bipush 60, 2) := dk_16 60 (dk_at dksX6_isLiteral_4 8 rfl rfl)
theorem dX6_isLiteral_103 : decode cX6_isLiteral 103 = .ok (.if_icmp .ne 7, 3) := dk_160 0 7 (dk_at dksX6_isLiteral_4 10 rfl rfl)
theorem dX6_isLiteral_106 : decode cX6_isLiteral 106 = .ok (.iconst 2, 1) := dk_5 (dk_at dksX6_isLiteral_4 13 rfl rfl)
theorem dX6_isLiteral_107 : decode cX6_isLiteral 107 = .ok (.goto 4, 3) := dk_167 0 4 (dk_at dksX6_isLiteral_4 14 rfl rfl)
theorem dX6_isLiteral_110 : decode cX6_isLiteral 110 = .ok (.iconst 3, 1) := dk_6 (dk_at dksX6_isLiteral_4 17 rfl rfl)
theorem dX6_isLiteral_111 : decode cX6_isLiteral 111 = .ok (.iastore, 1) := dk_79 (dk_at dksX6_isLiteral_4 18 rfl rfl)
theorem dX6_isLiteral_112 : decode cX6_isLiteral 112 = .ok (.aload_n 0, 1) := dk_42 (dk_at dksX6_isLiteral_4 19 rfl rfl)
theorem dX6_isLiteral_113 : decode cX6_isLiteral 113 = .ok (.dup, 1) := dk_89 (dk_at dksX6_isLiteral_4 20 rfl rfl)
theorem dX6_isLiteral_114 : decode cX6_isLiteral 114 = .ok (.getfield 261, 3) := dk_180 1 5 (dk_at dksX6_isLiteral_4 21 rfl rfl)
theorem dX6_isLiteral_117 : decode cX6_isLiteral 117 = .ok (.iconst 1, 1) := dk_4 (dk_at dksX6_isLiteral_5 0 rfl rfl)
theorem dX6_isLiteral_118 : decode cX6_isLiteral 118 = .ok (.iadd, 1) := dk_96 (dk_at dksX6_isLiteral_5 1 rfl rfl)
theorem dX6_isLiteral_119 : decode cX6_isLiteral 119 = .ok (.putfield 261, 3) := dk_181 1 5 (dk_at dksX6_isLiteral_5 2 rfl rfl)
theorem dX6_isLiteral_122 : decode cX6_isLiteral 122 = .ok (.aload_n 0, 1) := dk_42 (dk_at dksX6_isLiteral_5 5 rfl rfl)
theorem dX6_isLiteral_123 : decode cX6_isLiteral 123 = .ok (.iload_n 1, 1) := dk_27 (dk_at dksX6_isLiteral_5 6 rfl rfl)
theorem dX6_isLiteral_124 : decode cX6_isLiteral 124 = .ok (.iconst 3, 1) := dk_6 (dk_at dksX6_isLiteral_5 7 rfl rfl)
theorem dX6_isLiteral_125 : decode cX6_isLiteral 125 = .ok (.iadd, 1) := dk_96 (dk_at dksX6_isLiteral_5 8 rfl rfl)
theorem dX6_isLiteral_126 : decode cX6_isLiteral 126 = .ok (.invokevirtual 283, 3) := dk_182 1 27 (dk_at dksX6_isLiteral_5 9 rfl rfl)
theorem dX6_isLiteral_129 : decode cX6_isLiteral 129 = .ok (.ireturn, 1) := dk_172 (dk_at dksX6_isLiteral_5 12 rfl rfl)
abbrev cX6_does : ByteArray := prog_28_method_103_code
def yX6_does : MethodName := ⟨RX6, "does", "(I)I"⟩
def dkwX6_does_4 : List UInt8 := [182, 0, 186, 172, 42, 28, 182, 0, 199, 172, 42, 27, 182, 1, 85, 172]
abbrev dktX6_does_4 : List UInt8 := dkwX6_does_4 ++ []
def dkwX6_does_3 : List UInt8 := [172, 42, 28, 16, 97, 96, 42, 180, 0, 57, 27, 4, 96, 46, 42, 180, 0, 57, 27, 5, 96, 46]
abbrev dktX6_does_3 : List UInt8 := dkwX6_does_3 ++ dktX6_does_4
def dkwX6_does_2 : List UInt8 := [42, 28, 16, 97, 96, 42, 180, 0, 57, 27, 4, 96, 46, 42, 180, 0, 57, 27, 5, 96, 46, 182, 0, 174]
abbrev dktX6_does_2 : List UInt8 := dkwX6_does_2 ++ dktX6_does_3
def dkwX6_does_1 : List UInt8 := [171, 0, 0, 0, 0, 0, 0, 92, 0, 0, 0, 3, 0, 0, 0, 100, 0, 0, 0, 86, 0, 0, 0, 102, 0, 0, 0, 36, 0, 0, 0, 116, 0, 0, 0, 61]
abbrev dktX6_does_1 : List UInt8 := dkwX6_does_1 ++ dktX6_does_2
def dkwX6_does_0 : List UInt8 := [42, 180, 0, 57, 27, 46, 61, 42, 180, 0, 57, 27, 16, 76, 96, 46]
abbrev dktX6_does_0 : List UInt8 := dkwX6_does_0 ++ dktX6_does_1
theorem dksX6_does_0 : cX6_does.data.toList.drop 0 = dktX6_does_0 := by decide +kernel
theorem dksX6_does_1 : cX6_does.data.toList.drop 16 = dktX6_does_1 := dk_seg dksX6_does_0 16 rfl rfl
theorem dksX6_does_2 : cX6_does.data.toList.drop 52 = dktX6_does_2 := dk_seg dksX6_does_1 36 rfl rfl
theorem dksX6_does_3 : cX6_does.data.toList.drop 76 = dktX6_does_3 := dk_seg dksX6_does_2 24 rfl rfl
theorem dksX6_does_4 : cX6_does.data.toList.drop 98 = dktX6_does_4 := dk_seg dksX6_does_3 22 rfl rfl
theorem dX6_does_0 : decode cX6_does 0 = .ok (.aload_n 0, 1) := dk_42 (dk_at dksX6_does_0 0 rfl rfl)
theorem dX6_does_1 : decode cX6_does 1 = .ok (.getfield 57, 3) := dk_180 0 57 (dk_at dksX6_does_0 1 rfl rfl)
theorem dX6_does_4 : decode cX6_does 4 = .ok (.iload_n 1, 1) := dk_27 (dk_at dksX6_does_0 4 rfl rfl)
theorem dX6_does_5 : decode cX6_does 5 = .ok (.iaload, 1) := dk_46 (dk_at dksX6_does_0 5 rfl rfl)
theorem dX6_does_6 : decode cX6_does 6 = .ok (.istore_n 2, 1) := dk_61 (dk_at dksX6_does_0 6 rfl rfl)
theorem dX6_does_7 : decode cX6_does 7 = .ok (.aload_n 0, 1) := dk_42 (dk_at dksX6_does_0 7 rfl rfl)
theorem dX6_does_8 : decode cX6_does 8 = .ok (.getfield 57, 3) := dk_180 0 57 (dk_at dksX6_does_0 8 rfl rfl)
theorem dX6_does_11 : decode cX6_does 11 = .ok (.iload_n 1, 1) := dk_27 (dk_at dksX6_does_0 11 rfl rfl)
theorem dX6_does_12 : decode cX6_does 12 = .ok (.bipush 76, 2) := dk_16 76 (dk_at dksX6_does_0 12 rfl rfl)
theorem dX6_does_14 : decode cX6_does 14 = .ok (.iadd, 1) := dk_96 (dk_at dksX6_does_0 14 rfl rfl)
theorem dX6_does_15 : decode cX6_does 15 = .ok (.iaload, 1) := dk_46 (dk_at dksX6_does_0 15 rfl rfl)
theorem dX6_does_16 : decode cX6_does 16 = .ok (.lookupswitch 92 #[(100, 86), (102, 36), (116, 61)], 36) := by decide +kernel
theorem dX6_does_52 : decode cX6_does 52 = .ok (.aload_n 0, 1) := dk_42 (dk_at dksX6_does_2 0 rfl rfl)
theorem dX6_does_53 : decode cX6_does 53 = .ok (.iload_n 2, 1) := dk_28 (dk_at dksX6_does_2 1 rfl rfl)
theorem dX6_does_54 : decode cX6_does 54 = .ok (.bipush 97, 2) := dk_16 97 (dk_at dksX6_does_2 2 rfl rfl)
theorem dX6_does_56 : decode cX6_does 56 = .ok (.iadd, 1) := dk_96 (dk_at dksX6_does_2 4 rfl rfl)
theorem dX6_does_57 : decode cX6_does 57 = .ok (.aload_n 0, 1) := dk_42 (dk_at dksX6_does_2 5 rfl rfl)
theorem dX6_does_58 : decode cX6_does 58 = .ok (.getfield 57, 3) := dk_180 0 57 (dk_at dksX6_does_2 6 rfl rfl)
theorem dX6_does_61 : decode cX6_does 61 = .ok (.iload_n 1, 1) := dk_27 (dk_at dksX6_does_2 9 rfl rfl)
theorem dX6_does_62 : decode cX6_does 62 = .ok (.iconst 1, 1) := dk_4 (dk_at dksX6_does_2 10 rfl rfl)
theorem dX6_does_63 : decode cX6_does 63 = .ok (.iadd, 1) := dk_96 (dk_at dksX6_does_2 11 rfl rfl)
theorem dX6_does_64 : decode cX6_does 64 = .ok (.iaload, 1) := dk_46 (dk_at dksX6_does_2 12 rfl rfl)
theorem dX6_does_65 : decode cX6_does 65 = .ok (.aload_n 0, 1) := dk_42 (dk_at dksX6_does_2 13 rfl rfl)
theorem dX6_does_66 : decode cX6_does 66 = .ok (.getfield 57, 3) := dk_180 0 57 (dk_at dksX6_does_2 14 rfl rfl)
theorem dX6_does_69 : decode cX6_does 69 = .ok (.iload_n 1, 1) := dk_27 (dk_at dksX6_does_2 17 rfl rfl)
theorem dX6_does_70 : decode cX6_does 70 = .ok (.iconst 2, 1) := dk_5 (dk_at dksX6_does_2 18 rfl rfl)
theorem dX6_does_71 : decode cX6_does 71 = .ok (.iadd, 1) := dk_96 (dk_at dksX6_does_2 19 rfl rfl)
theorem dX6_does_72 : decode cX6_does 72 = .ok (.iaload, 1) := dk_46 (dk_at dksX6_does_2 20 rfl rfl)
theorem dX6_does_73 : decode cX6_does 73 = .ok (.invokevirtual 174, 3) := dk_182 0 174 (dk_at dksX6_does_2 21 rfl rfl)
theorem dX6_does_76 : decode cX6_does 76 = .ok (.ireturn, 1) := dk_172 (dk_at dksX6_does_3 0 rfl rfl)
theorem dX6_does_77 : decode cX6_does 77 = .ok (.aload_n 0, 1) := dk_42 (dk_at dksX6_does_3 1 rfl rfl)
theorem dX6_does_78 : decode cX6_does 78 = .ok (.iload_n 2, 1) := dk_28 (dk_at dksX6_does_3 2 rfl rfl)
theorem dX6_does_79 : decode cX6_does 79 = .ok (.bipush 97, 2) := dk_16 97 (dk_at dksX6_does_3 3 rfl rfl)
theorem dX6_does_81 : decode cX6_does 81 = .ok (.iadd, 1) := dk_96 (dk_at dksX6_does_3 5 rfl rfl)
theorem dX6_does_82 : decode cX6_does 82 = .ok (.aload_n 0, 1) := dk_42 (dk_at dksX6_does_3 6 rfl rfl)
theorem dX6_does_83 : decode cX6_does 83 = .ok (.getfield 57, 3) := dk_180 0 57 (dk_at dksX6_does_3 7 rfl rfl)
theorem dX6_does_86 : decode cX6_does 86 = .ok (.iload_n 1, 1) := dk_27 (dk_at dksX6_does_3 10 rfl rfl)
theorem dX6_does_87 : decode cX6_does 87 = .ok (.iconst 1, 1) := dk_4 (dk_at dksX6_does_3 11 rfl rfl)
theorem dX6_does_88 : decode cX6_does 88 = .ok (.iadd, 1) := dk_96 (dk_at dksX6_does_3 12 rfl rfl)
theorem dX6_does_89 : decode cX6_does 89 = .ok (.iaload, 1) := dk_46 (dk_at dksX6_does_3 13 rfl rfl)
theorem dX6_does_90 : decode cX6_does 90 = .ok (.aload_n 0, 1) := dk_42 (dk_at dksX6_does_3 14 rfl rfl)
theorem dX6_does_91 : decode cX6_does 91 = .ok (.getfield 57, 3) := dk_180 0 57 (dk_at dksX6_does_3 15 rfl rfl)
theorem dX6_does_94 : decode cX6_does 94 = .ok (.iload_n 1, 1) := dk_27 (dk_at dksX6_does_3 18 rfl rfl)
theorem dX6_does_95 : decode cX6_does 95 = .ok (.iconst 2, 1) := dk_5 (dk_at dksX6_does_3 19 rfl rfl)
theorem dX6_does_96 : decode cX6_does 96 = .ok (.iadd, 1) := dk_96 (dk_at dksX6_does_3 20 rfl rfl)
theorem dX6_does_97 : decode cX6_does 97 = .ok (.iaload, 1) := dk_46 (dk_at dksX6_does_3 21 rfl rfl)
theorem dX6_does_98 : decode cX6_does 98 = .ok (.invokevirtual 186, 3) := dk_182 0 186 (dk_at dksX6_does_4 0 rfl rfl)
theorem dX6_does_101 : decode cX6_does 101 = .ok (.ireturn, 1) := dk_172 (dk_at dksX6_does_4 3 rfl rfl)
theorem dX6_does_102 : decode cX6_does 102 = .ok (.aload_n 0, 1) := dk_42 (dk_at dksX6_does_4 4 rfl rfl)
theorem dX6_does_103 : decode cX6_does 103 = .ok (.iload_n 2, 1) := dk_28 (dk_at dksX6_does_4 5 rfl rfl)
theorem dX6_does_104 : decode cX6_does 104 = .ok (.invokevirtual 199, 3) := dk_182 0 199 (dk_at dksX6_does_4 6 rfl rfl)
theorem dX6_does_107 : decode cX6_does 107 = .ok (.ireturn, 1) := dk_172 (dk_at dksX6_does_4 9 rfl rfl)
theorem dX6_does_108 : decode cX6_does 108 = .ok (.aload_n 0, 1) := dk_42 (dk_at dksX6_does_4 10 rfl rfl)
theorem dX6_does_109 : decode cX6_does 109 = .ok (.iload_n 1, 1) := dk_27 (dk_at dksX6_does_4 11 rfl rfl)
theorem dX6_does_110 : decode cX6_does 110 = .ok (.invokevirtual 341, 3) := dk_182 1 85 (dk_at dksX6_does_4 12 rfl rfl)
theorem dX6_does_113 : decode cX6_does 113 = .ok (.ireturn, 1) := dk_172 (dk_at dksX6_does_4 15 rfl rfl)
abbrev cX6_addsRule : ByteArray := prog_28_method_102_code
def yX6_addsRule : MethodName := ⟨RX6, "addsRule", "(I)I"⟩
def dkwX6_addsRule_6 : List UInt8 := [180, 0, 9, 6, 46, 172]
abbrev dktX6_addsRule_6 : List UInt8 := dkwX6_addsRule_6 ++ []
def dkwX6_addsRule_5 : List UInt8 := [16, 8, 160, 0, 7, 4, 167, 0, 4, 3, 7, 16, 8, 182, 1, 78, 153, 0, 7, 3, 167, 0, 9, 42]
abbrev dktX6_addsRule_5 : List UInt8 := dkwX6_addsRule_5 ++ dktX6_addsRule_6
def dkwX6_addsRule_4 : List UInt8 := [42, 182, 1, 82, 154, 0, 7, 4, 167, 0, 4, 3, 6, 28, 182, 1, 78, 153, 0, 5, 3, 172, 42, 29]
abbrev dktX6_addsRule_4 : List UInt8 := dkwX6_addsRule_4 ++ dktX6_addsRule_5
def dkwX6_addsRule_3 : List UInt8 := [154, 0, 44, 42, 21, 5, 155, 0, 7, 4, 167, 0, 4, 3, 5, 21, 5, 182, 1, 78, 154, 0, 24, 42]
abbrev dktX6_addsRule_3 : List UInt8 := dkwX6_addsRule_3 ++ dktX6_addsRule_4
def dkwX6_addsRule_2 : List UInt8 := [182, 1, 75, 54, 5, 42, 21, 4, 155, 0, 7, 4, 167, 0, 4, 3, 4, 21, 4, 182, 1, 78]
abbrev dktX6_addsRule_2 : List UInt8 := dkwX6_addsRule_2 ++ dktX6_addsRule_3
def dkwX6_addsRule_1 : List UInt8 := [27, 29, 182, 1, 68, 42, 180, 0, 9, 6, 92, 46, 4, 96, 79, 42, 29, 182, 1, 72, 54, 4, 42, 29]
abbrev dktX6_addsRule_1 : List UInt8 := dkwX6_addsRule_1 ++ dktX6_addsRule_2
def dkwX6_addsRule_0 : List UInt8 := [42, 182, 0, 135, 42, 180, 0, 31, 42, 180, 0, 57, 27, 46, 46, 61, 42, 180, 0, 9, 6, 46, 62, 42]
abbrev dktX6_addsRule_0 : List UInt8 := dkwX6_addsRule_0 ++ dktX6_addsRule_1
theorem dksX6_addsRule_0 : cX6_addsRule.data.toList.drop 0 = dktX6_addsRule_0 := by decide +kernel
theorem dksX6_addsRule_1 : cX6_addsRule.data.toList.drop 24 = dktX6_addsRule_1 := dk_seg dksX6_addsRule_0 24 rfl rfl
theorem dksX6_addsRule_2 : cX6_addsRule.data.toList.drop 48 = dktX6_addsRule_2 := dk_seg dksX6_addsRule_1 24 rfl rfl
theorem dksX6_addsRule_3 : cX6_addsRule.data.toList.drop 70 = dktX6_addsRule_3 := dk_seg dksX6_addsRule_2 22 rfl rfl
theorem dksX6_addsRule_4 : cX6_addsRule.data.toList.drop 94 = dktX6_addsRule_4 := dk_seg dksX6_addsRule_3 24 rfl rfl
theorem dksX6_addsRule_5 : cX6_addsRule.data.toList.drop 118 = dktX6_addsRule_5 := dk_seg dksX6_addsRule_4 24 rfl rfl
theorem dksX6_addsRule_6 : cX6_addsRule.data.toList.drop 142 = dktX6_addsRule_6 := dk_seg dksX6_addsRule_5 24 rfl rfl
theorem dX6_addsRule_0 : decode cX6_addsRule 0 = .ok (.aload_n 0, 1) := dk_42 (dk_at dksX6_addsRule_0 0 rfl rfl)
theorem dX6_addsRule_1 : decode cX6_addsRule 1 = .ok (.invokevirtual 135, 3) := dk_182 0 135 (dk_at dksX6_addsRule_0 1 rfl rfl)
theorem dX6_addsRule_4 : decode cX6_addsRule 4 = .ok (.aload_n 0, 1) := dk_42 (dk_at dksX6_addsRule_0 4 rfl rfl)
theorem dX6_addsRule_5 : decode cX6_addsRule 5 = .ok (.getfield 31, 3) := dk_180 0 31 (dk_at dksX6_addsRule_0 5 rfl rfl)
theorem dX6_addsRule_8 : decode cX6_addsRule 8 = .ok (.aload_n 0, 1) := dk_42 (dk_at dksX6_addsRule_0 8 rfl rfl)
theorem dX6_addsRule_9 : decode cX6_addsRule 9 = .ok (.getfield 57, 3) := dk_180 0 57 (dk_at dksX6_addsRule_0 9 rfl rfl)
theorem dX6_addsRule_12 : decode cX6_addsRule 12 = .ok (.iload_n 1, 1) := dk_27 (dk_at dksX6_addsRule_0 12 rfl rfl)
theorem dX6_addsRule_13 : decode cX6_addsRule 13 = .ok (.iaload, 1) := dk_46 (dk_at dksX6_addsRule_0 13 rfl rfl)
theorem dX6_addsRule_14 : decode cX6_addsRule 14 = .ok (.iaload, 1) := dk_46 (dk_at dksX6_addsRule_0 14 rfl rfl)
theorem dX6_addsRule_15 : decode cX6_addsRule 15 = .ok (.istore_n 2, 1) := dk_61 (dk_at dksX6_addsRule_0 15 rfl rfl)
theorem dX6_addsRule_16 : decode cX6_addsRule 16 = .ok (.aload_n 0, 1) := dk_42 (dk_at dksX6_addsRule_0 16 rfl rfl)
theorem dX6_addsRule_17 : decode cX6_addsRule 17 = .ok (.getfield 9, 3) := dk_180 0 9 (dk_at dksX6_addsRule_0 17 rfl rfl)
theorem dX6_addsRule_20 : decode cX6_addsRule 20 = .ok (.iconst 3, 1) := dk_6 (dk_at dksX6_addsRule_0 20 rfl rfl)
theorem dX6_addsRule_21 : decode cX6_addsRule 21 = .ok (.iaload, 1) := dk_46 (dk_at dksX6_addsRule_0 21 rfl rfl)
theorem dX6_addsRule_22 : decode cX6_addsRule 22 = .ok (.istore_n 3, 1) := dk_62 (dk_at dksX6_addsRule_0 22 rfl rfl)
theorem dX6_addsRule_23 : decode cX6_addsRule 23 = .ok (.aload_n 0, 1) := dk_42 (dk_at dksX6_addsRule_0 23 rfl rfl)
theorem dX6_addsRule_24 : decode cX6_addsRule 24 = .ok (.iload_n 1, 1) := dk_27 (dk_at dksX6_addsRule_1 0 rfl rfl)
theorem dX6_addsRule_25 : decode cX6_addsRule 25 = .ok (.iload_n 3, 1) := dk_29 (dk_at dksX6_addsRule_1 1 rfl rfl)
theorem dX6_addsRule_26 : decode cX6_addsRule 26 = .ok (.invokevirtual 324, 3) := dk_182 1 68 (dk_at dksX6_addsRule_1 2 rfl rfl)
theorem dX6_addsRule_29 : decode cX6_addsRule 29 = .ok (.aload_n 0, 1) := dk_42 (dk_at dksX6_addsRule_1 5 rfl rfl)
theorem dX6_addsRule_30 : decode cX6_addsRule 30 = .ok (.getfield 9, 3) := dk_180 0 9 (dk_at dksX6_addsRule_1 6 rfl rfl)
theorem dX6_addsRule_33 : decode cX6_addsRule 33 = .ok (.iconst 3, 1) := dk_6 (dk_at dksX6_addsRule_1 9 rfl rfl)
theorem dX6_addsRule_34 : decode cX6_addsRule 34 = .ok (.dup2, 1) := dk_92 (dk_at dksX6_addsRule_1 10 rfl rfl)
theorem dX6_addsRule_35 : decode cX6_addsRule 35 = .ok (.iaload, 1) := dk_46 (dk_at dksX6_addsRule_1 11 rfl rfl)
theorem dX6_addsRule_36 : decode cX6_addsRule 36 = .ok (.iconst 1, 1) := dk_4 (dk_at dksX6_addsRule_1 12 rfl rfl)
theorem dX6_addsRule_37 : decode cX6_addsRule 37 = .ok (.iadd, 1) := dk_96 (dk_at dksX6_addsRule_1 13 rfl rfl)
theorem dX6_addsRule_38 : decode cX6_addsRule 38 = .ok (.iastore, 1) := dk_79 (dk_at dksX6_addsRule_1 14 rfl rfl)
theorem dX6_addsRule_39 : decode cX6_addsRule 39 = .ok (.aload_n 0, 1) := dk_42 (dk_at dksX6_addsRule_1 15 rfl rfl)
theorem dX6_addsRule_40 : decode cX6_addsRule 40 = .ok (.iload_n 3, 1) := dk_29 (dk_at dksX6_addsRule_1 16 rfl rfl)
theorem dX6_addsRule_41 : decode cX6_addsRule 41 = .ok (.invokevirtual 328, 3) := dk_182 1 72 (dk_at dksX6_addsRule_1 17 rfl rfl)
theorem dX6_addsRule_44 : decode cX6_addsRule 44 = .ok (.istore 4, 2) := dk_54 4 (dk_at dksX6_addsRule_1 20 rfl rfl)
theorem dX6_addsRule_46 : decode cX6_addsRule 46 = .ok (.aload_n 0, 1) := dk_42 (dk_at dksX6_addsRule_1 22 rfl rfl)
theorem dX6_addsRule_47 : decode cX6_addsRule 47 = .ok (.iload_n 3, 1) := dk_29 (dk_at dksX6_addsRule_1 23 rfl rfl)
theorem dX6_addsRule_48 : decode cX6_addsRule 48 = .ok (.invokevirtual 331, 3) := dk_182 1 75 (dk_at dksX6_addsRule_2 0 rfl rfl)
theorem dX6_addsRule_51 : decode cX6_addsRule 51 = .ok (.istore 5, 2) := dk_54 5 (dk_at dksX6_addsRule_2 3 rfl rfl)
theorem dX6_addsRule_53 : decode cX6_addsRule 53 = .ok (.aload_n 0, 1) := dk_42 (dk_at dksX6_addsRule_2 5 rfl rfl)
theorem dX6_addsRule_54 : decode cX6_addsRule 54 = .ok (.iload 4, 2) := dk_21 4 (dk_at dksX6_addsRule_2 6 rfl rfl)
theorem dX6_addsRule_56 : decode cX6_addsRule 56 = .ok (.ifCond .lt 7, 3) := dk_155 0 7 (dk_at dksX6_addsRule_2 8 rfl rfl)
theorem dX6_addsRule_59 : decode cX6_addsRule 59 = .ok (.iconst 1, 1) := dk_4 (dk_at dksX6_addsRule_2 11 rfl rfl)
theorem dX6_addsRule_60 : decode cX6_addsRule 60 = .ok (.goto 4, 3) := dk_167 0 4 (dk_at dksX6_addsRule_2 12 rfl rfl)
theorem dX6_addsRule_63 : decode cX6_addsRule 63 = .ok (.iconst 0, 1) := dk_3 (dk_at dksX6_addsRule_2 15 rfl rfl)
theorem dX6_addsRule_64 : decode cX6_addsRule 64 = .ok (.iconst 1, 1) := dk_4 (dk_at dksX6_addsRule_2 16 rfl rfl)
theorem dX6_addsRule_65 : decode cX6_addsRule 65 = .ok (.iload 4, 2) := dk_21 4 (dk_at dksX6_addsRule_2 17 rfl rfl)
theorem dX6_addsRule_67 : decode cX6_addsRule 67 = .ok (.invokevirtual 334, 3) := dk_182 1 78 (dk_at dksX6_addsRule_2 19 rfl rfl)
theorem dX6_addsRule_70 : decode cX6_addsRule 70 = .ok (.ifCond .ne 44, 3) := dk_154 0 44 (dk_at dksX6_addsRule_3 0 rfl rfl)
theorem dX6_addsRule_73 : decode cX6_addsRule 73 = .ok (.aload_n 0, 1) := dk_42 (dk_at dksX6_addsRule_3 3 rfl rfl)
theorem dX6_addsRule_74 : decode cX6_addsRule 74 = .ok (.iload 5, 2) := dk_21 5 (dk_at dksX6_addsRule_3 4 rfl rfl)
theorem dX6_addsRule_76 : decode cX6_addsRule 76 = .ok (.ifCond .lt 7, 3) := dk_155 0 7 (dk_at dksX6_addsRule_3 6 rfl rfl)
theorem dX6_addsRule_79 : decode cX6_addsRule 79 = .ok (.iconst 1, 1) := dk_4 (dk_at dksX6_addsRule_3 9 rfl rfl)
theorem dX6_addsRule_80 : decode cX6_addsRule 80 = .ok (.goto 4, 3) := dk_167 0 4 (dk_at dksX6_addsRule_3 10 rfl rfl)
theorem dX6_addsRule_83 : decode cX6_addsRule 83 = .ok (.iconst 0, 1) := dk_3 (dk_at dksX6_addsRule_3 13 rfl rfl)
theorem dX6_addsRule_84 : decode cX6_addsRule 84 = .ok (.iconst 2, 1) := dk_5 (dk_at dksX6_addsRule_3 14 rfl rfl)
theorem dX6_addsRule_85 : decode cX6_addsRule 85 = .ok (.iload 5, 2) := dk_21 5 (dk_at dksX6_addsRule_3 15 rfl rfl)
theorem dX6_addsRule_87 : decode cX6_addsRule 87 = .ok (.invokevirtual 334, 3) := dk_182 1 78 (dk_at dksX6_addsRule_3 17 rfl rfl)
theorem dX6_addsRule_90 : decode cX6_addsRule 90 = .ok (.ifCond .ne 24, 3) := dk_154 0 24 (dk_at dksX6_addsRule_3 20 rfl rfl)
theorem dX6_addsRule_93 : decode cX6_addsRule 93 = .ok (.aload_n 0, 1) := dk_42 (dk_at dksX6_addsRule_3 23 rfl rfl)
theorem dX6_addsRule_94 : decode cX6_addsRule 94 = .ok (.aload_n 0, 1) := dk_42 (dk_at dksX6_addsRule_4 0 rfl rfl)
theorem dX6_addsRule_95 : decode cX6_addsRule 95 = .ok (.invokevirtual 338, 3) := dk_182 1 82 (dk_at dksX6_addsRule_4 1 rfl rfl)
theorem dX6_addsRule_98 : decode cX6_addsRule 98 = .ok (.ifCond .ne 7, 3) := dk_154 0 7 (dk_at dksX6_addsRule_4 4 rfl rfl)
theorem dX6_addsRule_101 : decode cX6_addsRule 101 = .ok (.iconst 1, 1) := dk_4 (dk_at dksX6_addsRule_4 7 rfl rfl)
theorem dX6_addsRule_102 : decode cX6_addsRule 102 = .ok (.goto 4, 3) := dk_167 0 4 (dk_at dksX6_addsRule_4 8 rfl rfl)
theorem dX6_addsRule_105 : decode cX6_addsRule 105 = .ok (.iconst 0, 1) := dk_3 (dk_at dksX6_addsRule_4 11 rfl rfl)
theorem dX6_addsRule_106 : decode cX6_addsRule 106 = .ok (.iconst 3, 1) := dk_6 (dk_at dksX6_addsRule_4 12 rfl rfl)
theorem dX6_addsRule_107 : decode cX6_addsRule 107 = .ok (.iload_n 2, 1) := dk_28 (dk_at dksX6_addsRule_4 13 rfl rfl)
theorem dX6_addsRule_108 : decode cX6_addsRule 108 = .ok (.invokevirtual 334, 3) := dk_182 1 78 (dk_at dksX6_addsRule_4 14 rfl rfl)
theorem dX6_addsRule_111 : decode cX6_addsRule 111 = .ok (.ifCond .eq 5, 3) := dk_153 0 5 (dk_at dksX6_addsRule_4 17 rfl rfl)
theorem dX6_addsRule_114 : decode cX6_addsRule 114 = .ok (.iconst 0, 1) := dk_3 (dk_at dksX6_addsRule_4 20 rfl rfl)
theorem dX6_addsRule_115 : decode cX6_addsRule 115 = .ok (.ireturn, 1) := dk_172 (dk_at dksX6_addsRule_4 21 rfl rfl)
theorem dX6_addsRule_116 : decode cX6_addsRule 116 = .ok (.aload_n 0, 1) := dk_42 (dk_at dksX6_addsRule_4 22 rfl rfl)
theorem dX6_addsRule_117 : decode cX6_addsRule 117 = .ok (.iload_n 3, 1) := dk_29 (dk_at dksX6_addsRule_4 23 rfl rfl)
theorem dX6_addsRule_118 : decode cX6_addsRule 118 = .ok (.bipush 8, 2) := dk_16 8 (dk_at dksX6_addsRule_5 0 rfl rfl)
theorem dX6_addsRule_120 : decode cX6_addsRule 120 = .ok (.if_icmp .ne 7, 3) := dk_160 0 7 (dk_at dksX6_addsRule_5 2 rfl rfl)
theorem dX6_addsRule_123 : decode cX6_addsRule 123 = .ok (.iconst 1, 1) := dk_4 (dk_at dksX6_addsRule_5 5 rfl rfl)
theorem dX6_addsRule_124 : decode cX6_addsRule 124 = .ok (.goto 4, 3) := dk_167 0 4 (dk_at dksX6_addsRule_5 6 rfl rfl)
theorem dX6_addsRule_127 : decode cX6_addsRule 127 = .ok (.iconst 0, 1) := dk_3 (dk_at dksX6_addsRule_5 9 rfl rfl)
theorem dX6_addsRule_128 : decode cX6_addsRule 128 = .ok (.iconst 4, 1) := dk_7 (dk_at dksX6_addsRule_5 10 rfl rfl)
theorem dX6_addsRule_129 : decode cX6_addsRule 129 = .ok (.bipush 8, 2) := dk_16 8 (dk_at dksX6_addsRule_5 11 rfl rfl)
theorem dX6_addsRule_131 : decode cX6_addsRule 131 = .ok (.invokevirtual 334, 3) := dk_182 1 78 (dk_at dksX6_addsRule_5 13 rfl rfl)
theorem dX6_addsRule_134 : decode cX6_addsRule 134 = .ok (.ifCond .eq 7, 3) := dk_153 0 7 (dk_at dksX6_addsRule_5 16 rfl rfl)
theorem dX6_addsRule_137 : decode cX6_addsRule 137 = .ok (.iconst 0, 1) := dk_3 (dk_at dksX6_addsRule_5 19 rfl rfl)
theorem dX6_addsRule_138 : decode cX6_addsRule 138 = .ok (.goto 9, 3) := dk_167 0 9 (dk_at dksX6_addsRule_5 20 rfl rfl)
theorem dX6_addsRule_141 : decode cX6_addsRule 141 = .ok (.aload_n 0, 1) := dk_42 (dk_at dksX6_addsRule_5 23 rfl rfl)
theorem dX6_addsRule_142 : decode cX6_addsRule 142 = .ok (.getfield 9, 3) := dk_180 0 9 (dk_at dksX6_addsRule_6 0 rfl rfl)
theorem dX6_addsRule_145 : decode cX6_addsRule 145 = .ok (.iconst 3, 1) := dk_6 (dk_at dksX6_addsRule_6 3 rfl rfl)
theorem dX6_addsRule_146 : decode cX6_addsRule 146 = .ok (.iaload, 1) := dk_46 (dk_at dksX6_addsRule_6 4 rfl rfl)
theorem dX6_addsRule_147 : decode cX6_addsRule 147 = .ok (.ireturn, 1) := dk_172 (dk_at dksX6_addsRule_6 5 rfl rfl)
abbrev cX6_writesRule : ByteArray := prog_28_method_100_code
def yX6_writesRule : MethodName := ⟨RX6, "writesRule", "(II)V"⟩
def dkwX6_writesRule_1 : List UInt8 := [180, 0, 57, 27, 29, 96, 46, 79, 132, 3, 1, 167, 255, 224, 177]
abbrev dktX6_writesRule_1 : List UInt8 := dkwX6_writesRule_1 ++ []
def dkwX6_writesRule_0 : List UInt8 := [3, 62, 29, 16, 76, 162, 0, 32, 42, 180, 0, 9, 17, 1, 188, 16, 76, 28, 104, 96, 29, 96, 42]
abbrev dktX6_writesRule_0 : List UInt8 := dkwX6_writesRule_0 ++ dktX6_writesRule_1
theorem dksX6_writesRule_0 : cX6_writesRule.data.toList.drop 0 = dktX6_writesRule_0 := by decide +kernel
theorem dksX6_writesRule_1 : cX6_writesRule.data.toList.drop 23 = dktX6_writesRule_1 := dk_seg dksX6_writesRule_0 23 rfl rfl
theorem dX6_writesRule_0 : decode cX6_writesRule 0 = .ok (.iconst 0, 1) := dk_3 (dk_at dksX6_writesRule_0 0 rfl rfl)
theorem dX6_writesRule_1 : decode cX6_writesRule 1 = .ok (.istore_n 3, 1) := dk_62 (dk_at dksX6_writesRule_0 1 rfl rfl)
theorem dX6_writesRule_2 : decode cX6_writesRule 2 = .ok (.iload_n 3, 1) := dk_29 (dk_at dksX6_writesRule_0 2 rfl rfl)
theorem dX6_writesRule_3 : decode cX6_writesRule 3 = .ok (.bipush 76, 2) := dk_16 76 (dk_at dksX6_writesRule_0 3 rfl rfl)
theorem dX6_writesRule_5 : decode cX6_writesRule 5 = .ok (.if_icmp .ge 32, 3) := dk_162 0 32 (dk_at dksX6_writesRule_0 5 rfl rfl)
theorem dX6_writesRule_8 : decode cX6_writesRule 8 = .ok (.aload_n 0, 1) := dk_42 (dk_at dksX6_writesRule_0 8 rfl rfl)
theorem dX6_writesRule_9 : decode cX6_writesRule 9 = .ok (.getfield 9, 3) := dk_180 0 9 (dk_at dksX6_writesRule_0 9 rfl rfl)
theorem dX6_writesRule_12 : decode cX6_writesRule 12 = .ok (.sipush 444, 3) := dk_17 1 188 (dk_at dksX6_writesRule_0 12 rfl rfl)
theorem dX6_writesRule_15 : decode cX6_writesRule 15 = .ok (.bipush 76, 2) := dk_16 76 (dk_at dksX6_writesRule_0 15 rfl rfl)
theorem dX6_writesRule_17 : decode cX6_writesRule 17 = .ok (.iload_n 2, 1) := dk_28 (dk_at dksX6_writesRule_0 17 rfl rfl)
theorem dX6_writesRule_18 : decode cX6_writesRule 18 = .ok (.imul, 1) := dk_104 (dk_at dksX6_writesRule_0 18 rfl rfl)
theorem dX6_writesRule_19 : decode cX6_writesRule 19 = .ok (.iadd, 1) := dk_96 (dk_at dksX6_writesRule_0 19 rfl rfl)
theorem dX6_writesRule_20 : decode cX6_writesRule 20 = .ok (.iload_n 3, 1) := dk_29 (dk_at dksX6_writesRule_0 20 rfl rfl)
theorem dX6_writesRule_21 : decode cX6_writesRule 21 = .ok (.iadd, 1) := dk_96 (dk_at dksX6_writesRule_0 21 rfl rfl)
theorem dX6_writesRule_22 : decode cX6_writesRule 22 = .ok (.aload_n 0, 1) := dk_42 (dk_at dksX6_writesRule_0 22 rfl rfl)
theorem dX6_writesRule_23 : decode cX6_writesRule 23 = .ok (.getfield 57, 3) := dk_180 0 57 (dk_at dksX6_writesRule_1 0 rfl rfl)
theorem dX6_writesRule_26 : decode cX6_writesRule 26 = .ok (.iload_n 1, 1) := dk_27 (dk_at dksX6_writesRule_1 3 rfl rfl)
theorem dX6_writesRule_27 : decode cX6_writesRule 27 = .ok (.iload_n 3, 1) := dk_29 (dk_at dksX6_writesRule_1 4 rfl rfl)
theorem dX6_writesRule_28 : decode cX6_writesRule 28 = .ok (.iadd, 1) := dk_96 (dk_at dksX6_writesRule_1 5 rfl rfl)
theorem dX6_writesRule_29 : decode cX6_writesRule 29 = .ok (.iaload, 1) := dk_46 (dk_at dksX6_writesRule_1 6 rfl rfl)
theorem dX6_writesRule_30 : decode cX6_writesRule 30 = .ok (.iastore, 1) := dk_79 (dk_at dksX6_writesRule_1 7 rfl rfl)
theorem dX6_writesRule_31 : decode cX6_writesRule 31 = .ok (.iinc 3 1, 3) := dk_132 3 1 (dk_at dksX6_writesRule_1 8 rfl rfl)
theorem dX6_writesRule_34 : decode cX6_writesRule 34 = .ok (.goto (-32), 3) := dk_167 255 224 (dk_at dksX6_writesRule_1 11 rfl rfl)
theorem dX6_writesRule_37 : decode cX6_writesRule 37 = .ok (.return_, 1) := dk_177 (dk_at dksX6_writesRule_1 14 rfl rfl)
abbrev cX6_unsafe : ByteArray := prog_28_method_97_code
def yX6_unsafe : MethodName := zUM
def dkwX6_unsafe_3 : List UInt8 := [2, 172]
abbrev dktX6_unsafe_3 : List UInt8 := dkwX6_unsafe_3 ++ []
def dkwX6_unsafe_2 : List UInt8 := [153, 0, 18, 42, 27, 28, 3, 182, 1, 62, 154, 0, 8, 28, 16, 10, 100, 172, 132, 2, 1, 167, 255, 192]
abbrev dktX6_unsafe_2 : List UInt8 := dkwX6_unsafe_2 ++ dktX6_unsafe_3
def dkwX6_unsafe_1 : List UInt8 := [182, 0, 92, 28, 160, 0, 7, 4, 167, 0, 4, 3, 62, 29, 154, 0, 13, 42, 27, 28, 4, 182, 1, 62]
abbrev dktX6_unsafe_1 : List UInt8 := dkwX6_unsafe_1 ++ dktX6_unsafe_2
def dkwX6_unsafe_0 : List UInt8 := [16, 10, 61, 28, 16, 13, 162, 0, 64, 42, 27, 4, 182, 0, 92, 28, 159, 0, 13, 42, 27, 5]
abbrev dktX6_unsafe_0 : List UInt8 := dkwX6_unsafe_0 ++ dktX6_unsafe_1
theorem dksX6_unsafe_0 : cX6_unsafe.data.toList.drop 0 = dktX6_unsafe_0 := by decide +kernel
theorem dksX6_unsafe_1 : cX6_unsafe.data.toList.drop 22 = dktX6_unsafe_1 := dk_seg dksX6_unsafe_0 22 rfl rfl
theorem dksX6_unsafe_2 : cX6_unsafe.data.toList.drop 46 = dktX6_unsafe_2 := dk_seg dksX6_unsafe_1 24 rfl rfl
theorem dksX6_unsafe_3 : cX6_unsafe.data.toList.drop 70 = dktX6_unsafe_3 := dk_seg dksX6_unsafe_2 24 rfl rfl
theorem dX6_unsafe_0 : decode cX6_unsafe 0 = .ok (.bipush 10, 2) := dk_16 10 (dk_at dksX6_unsafe_0 0 rfl rfl)
theorem dX6_unsafe_2 : decode cX6_unsafe 2 = .ok (.istore_n 2, 1) := dk_61 (dk_at dksX6_unsafe_0 2 rfl rfl)
theorem dX6_unsafe_3 : decode cX6_unsafe 3 = .ok (.iload_n 2, 1) := dk_28 (dk_at dksX6_unsafe_0 3 rfl rfl)
theorem dX6_unsafe_4 : decode cX6_unsafe 4 = .ok (.bipush 13, 2) := dk_16 13 (dk_at dksX6_unsafe_0 4 rfl rfl)
theorem dX6_unsafe_6 : decode cX6_unsafe 6 = .ok (.if_icmp .ge 64, 3) := dk_162 0 64 (dk_at dksX6_unsafe_0 6 rfl rfl)
theorem dX6_unsafe_9 : decode cX6_unsafe 9 = .ok (.aload_n 0, 1) := dk_42 (dk_at dksX6_unsafe_0 9 rfl rfl)
theorem dX6_unsafe_10 : decode cX6_unsafe 10 = .ok (.iload_n 1, 1) := dk_27 (dk_at dksX6_unsafe_0 10 rfl rfl)
theorem dX6_unsafe_11 : decode cX6_unsafe 11 = .ok (.iconst 1, 1) := dk_4 (dk_at dksX6_unsafe_0 11 rfl rfl)
theorem dX6_unsafe_12 : decode cX6_unsafe 12 = .ok (.invokevirtual 92, 3) := dk_182 0 92 (dk_at dksX6_unsafe_0 12 rfl rfl)
theorem dX6_unsafe_15 : decode cX6_unsafe 15 = .ok (.iload_n 2, 1) := dk_28 (dk_at dksX6_unsafe_0 15 rfl rfl)
theorem dX6_unsafe_16 : decode cX6_unsafe 16 = .ok (.if_icmp .eq 13, 3) := dk_159 0 13 (dk_at dksX6_unsafe_0 16 rfl rfl)
theorem dX6_unsafe_19 : decode cX6_unsafe 19 = .ok (.aload_n 0, 1) := dk_42 (dk_at dksX6_unsafe_0 19 rfl rfl)
theorem dX6_unsafe_20 : decode cX6_unsafe 20 = .ok (.iload_n 1, 1) := dk_27 (dk_at dksX6_unsafe_0 20 rfl rfl)
theorem dX6_unsafe_21 : decode cX6_unsafe 21 = .ok (.iconst 2, 1) := dk_5 (dk_at dksX6_unsafe_0 21 rfl rfl)
theorem dX6_unsafe_22 : decode cX6_unsafe 22 = .ok (.invokevirtual 92, 3) := dk_182 0 92 (dk_at dksX6_unsafe_1 0 rfl rfl)
theorem dX6_unsafe_25 : decode cX6_unsafe 25 = .ok (.iload_n 2, 1) := dk_28 (dk_at dksX6_unsafe_1 3 rfl rfl)
theorem dX6_unsafe_26 : decode cX6_unsafe 26 = .ok (.if_icmp .ne 7, 3) := dk_160 0 7 (dk_at dksX6_unsafe_1 4 rfl rfl)
theorem dX6_unsafe_29 : decode cX6_unsafe 29 = .ok (.iconst 1, 1) := dk_4 (dk_at dksX6_unsafe_1 7 rfl rfl)
theorem dX6_unsafe_30 : decode cX6_unsafe 30 = .ok (.goto 4, 3) := dk_167 0 4 (dk_at dksX6_unsafe_1 8 rfl rfl)
theorem dX6_unsafe_33 : decode cX6_unsafe 33 = .ok (.iconst 0, 1) := dk_3 (dk_at dksX6_unsafe_1 11 rfl rfl)
theorem dX6_unsafe_34 : decode cX6_unsafe 34 = .ok (.istore_n 3, 1) := dk_62 (dk_at dksX6_unsafe_1 12 rfl rfl)
theorem dX6_unsafe_35 : decode cX6_unsafe 35 = .ok (.iload_n 3, 1) := dk_29 (dk_at dksX6_unsafe_1 13 rfl rfl)
theorem dX6_unsafe_36 : decode cX6_unsafe 36 = .ok (.ifCond .ne 13, 3) := dk_154 0 13 (dk_at dksX6_unsafe_1 14 rfl rfl)
theorem dX6_unsafe_39 : decode cX6_unsafe 39 = .ok (.aload_n 0, 1) := dk_42 (dk_at dksX6_unsafe_1 17 rfl rfl)
theorem dX6_unsafe_40 : decode cX6_unsafe 40 = .ok (.iload_n 1, 1) := dk_27 (dk_at dksX6_unsafe_1 18 rfl rfl)
theorem dX6_unsafe_41 : decode cX6_unsafe 41 = .ok (.iload_n 2, 1) := dk_28 (dk_at dksX6_unsafe_1 19 rfl rfl)
theorem dX6_unsafe_42 : decode cX6_unsafe 42 = .ok (.iconst 1, 1) := dk_4 (dk_at dksX6_unsafe_1 20 rfl rfl)
theorem dX6_unsafe_43 : decode cX6_unsafe 43 = .ok (.invokevirtual 318, 3) := dk_182 1 62 (dk_at dksX6_unsafe_1 21 rfl rfl)
theorem dX6_unsafe_46 : decode cX6_unsafe 46 = .ok (.ifCond .eq 18, 3) := dk_153 0 18 (dk_at dksX6_unsafe_2 0 rfl rfl)
theorem dX6_unsafe_49 : decode cX6_unsafe 49 = .ok (.aload_n 0, 1) := dk_42 (dk_at dksX6_unsafe_2 3 rfl rfl)
theorem dX6_unsafe_50 : decode cX6_unsafe 50 = .ok (.iload_n 1, 1) := dk_27 (dk_at dksX6_unsafe_2 4 rfl rfl)
theorem dX6_unsafe_51 : decode cX6_unsafe 51 = .ok (.iload_n 2, 1) := dk_28 (dk_at dksX6_unsafe_2 5 rfl rfl)
theorem dX6_unsafe_52 : decode cX6_unsafe 52 = .ok (.iconst 0, 1) := dk_3 (dk_at dksX6_unsafe_2 6 rfl rfl)
theorem dX6_unsafe_53 : decode cX6_unsafe 53 = .ok (.invokevirtual 318, 3) := dk_182 1 62 (dk_at dksX6_unsafe_2 7 rfl rfl)
theorem dX6_unsafe_56 : decode cX6_unsafe 56 = .ok (.ifCond .ne 8, 3) := dk_154 0 8 (dk_at dksX6_unsafe_2 10 rfl rfl)
theorem dX6_unsafe_59 : decode cX6_unsafe 59 = .ok (.iload_n 2, 1) := dk_28 (dk_at dksX6_unsafe_2 13 rfl rfl)
theorem dX6_unsafe_60 : decode cX6_unsafe 60 = .ok (.bipush 10, 2) := dk_16 10 (dk_at dksX6_unsafe_2 14 rfl rfl)
theorem dX6_unsafe_62 : decode cX6_unsafe 62 = .ok (.isub, 1) := dk_100 (dk_at dksX6_unsafe_2 16 rfl rfl)
theorem dX6_unsafe_63 : decode cX6_unsafe 63 = .ok (.ireturn, 1) := dk_172 (dk_at dksX6_unsafe_2 17 rfl rfl)
theorem dX6_unsafe_64 : decode cX6_unsafe 64 = .ok (.iinc 2 1, 3) := dk_132 2 1 (dk_at dksX6_unsafe_2 18 rfl rfl)
theorem dX6_unsafe_67 : decode cX6_unsafe 67 = .ok (.goto (-64), 3) := dk_167 255 192 (dk_at dksX6_unsafe_2 21 rfl rfl)
theorem dX6_unsafe_70 : decode cX6_unsafe 70 = .ok (.iconst (-1), 1) := dk_2 (dk_at dksX6_unsafe_3 0 rfl rfl)
theorem dX6_unsafe_71 : decode cX6_unsafe 71 = .ok (.ireturn, 1) := dk_172 (dk_at dksX6_unsafe_3 1 rfl rfl)
abbrev cX6_occurs : ByteArray := prog_28_method_96_code
def yX6_occurs : MethodName := ⟨RX6, "occurs", "(III)Z"⟩
def dkwX6_occurs_3 : List UInt8 := [21, 4, 3, 182, 0, 96, 158, 0, 5, 4, 172, 132, 4, 1, 167, 255, 175, 3, 172]
abbrev dktX6_occurs_3 : List UInt8 := dkwX6_occurs_3 ++ []
def dkwX6_occurs_2 : List UInt8 := [153, 0, 34, 29, 154, 0, 17, 42, 27, 21, 4, 3, 182, 0, 96, 154, 0, 19, 167, 0, 14, 42, 27]
abbrev dktX6_occurs_2 : List UInt8 := dkwX6_occurs_2 ++ dktX6_occurs_3
def dkwX6_occurs_1 : List UInt8 := [159, 0, 15, 42, 27, 21, 4, 6, 182, 0, 96, 28, 160, 0, 7, 4, 167, 0, 4, 3, 54, 5, 21, 5]
abbrev dktX6_occurs_1 : List UInt8 := dkwX6_occurs_1 ++ dktX6_occurs_2
def dkwX6_occurs_0 : List UInt8 := [3, 54, 4, 21, 4, 42, 27, 6, 182, 0, 92, 162, 0, 76, 42, 27, 21, 4, 5, 182, 0, 96, 28]
abbrev dktX6_occurs_0 : List UInt8 := dkwX6_occurs_0 ++ dktX6_occurs_1
theorem dksX6_occurs_0 : cX6_occurs.data.toList.drop 0 = dktX6_occurs_0 := by decide +kernel
theorem dksX6_occurs_1 : cX6_occurs.data.toList.drop 23 = dktX6_occurs_1 := dk_seg dksX6_occurs_0 23 rfl rfl
theorem dksX6_occurs_2 : cX6_occurs.data.toList.drop 47 = dktX6_occurs_2 := dk_seg dksX6_occurs_1 24 rfl rfl
theorem dksX6_occurs_3 : cX6_occurs.data.toList.drop 70 = dktX6_occurs_3 := dk_seg dksX6_occurs_2 23 rfl rfl
theorem dX6_occurs_0 : decode cX6_occurs 0 = .ok (.iconst 0, 1) := dk_3 (dk_at dksX6_occurs_0 0 rfl rfl)
theorem dX6_occurs_1 : decode cX6_occurs 1 = .ok (.istore 4, 2) := dk_54 4 (dk_at dksX6_occurs_0 1 rfl rfl)
theorem dX6_occurs_3 : decode cX6_occurs 3 = .ok (.iload 4, 2) := dk_21 4 (dk_at dksX6_occurs_0 3 rfl rfl)
theorem dX6_occurs_5 : decode cX6_occurs 5 = .ok (.aload_n 0, 1) := dk_42 (dk_at dksX6_occurs_0 5 rfl rfl)
theorem dX6_occurs_6 : decode cX6_occurs 6 = .ok (.iload_n 1, 1) := dk_27 (dk_at dksX6_occurs_0 6 rfl rfl)
theorem dX6_occurs_7 : decode cX6_occurs 7 = .ok (.iconst 3, 1) := dk_6 (dk_at dksX6_occurs_0 7 rfl rfl)
theorem dX6_occurs_8 : decode cX6_occurs 8 = .ok (.invokevirtual 92, 3) := dk_182 0 92 (dk_at dksX6_occurs_0 8 rfl rfl)
theorem dX6_occurs_11 : decode cX6_occurs 11 = .ok (.if_icmp .ge 76, 3) := dk_162 0 76 (dk_at dksX6_occurs_0 11 rfl rfl)
theorem dX6_occurs_14 : decode cX6_occurs 14 = .ok (.aload_n 0, 1) := dk_42 (dk_at dksX6_occurs_0 14 rfl rfl)
theorem dX6_occurs_15 : decode cX6_occurs 15 = .ok (.iload_n 1, 1) := dk_27 (dk_at dksX6_occurs_0 15 rfl rfl)
theorem dX6_occurs_16 : decode cX6_occurs 16 = .ok (.iload 4, 2) := dk_21 4 (dk_at dksX6_occurs_0 16 rfl rfl)
theorem dX6_occurs_18 : decode cX6_occurs 18 = .ok (.iconst 2, 1) := dk_5 (dk_at dksX6_occurs_0 18 rfl rfl)
theorem dX6_occurs_19 : decode cX6_occurs 19 = .ok (.invokevirtual 96, 3) := dk_182 0 96 (dk_at dksX6_occurs_0 19 rfl rfl)
theorem dX6_occurs_22 : decode cX6_occurs 22 = .ok (.iload_n 2, 1) := dk_28 (dk_at dksX6_occurs_0 22 rfl rfl)
theorem dX6_occurs_23 : decode cX6_occurs 23 = .ok (.if_icmp .eq 15, 3) := dk_159 0 15 (dk_at dksX6_occurs_1 0 rfl rfl)
theorem dX6_occurs_26 : decode cX6_occurs 26 = .ok (.aload_n 0, 1) := dk_42 (dk_at dksX6_occurs_1 3 rfl rfl)
theorem dX6_occurs_27 : decode cX6_occurs 27 = .ok (.iload_n 1, 1) := dk_27 (dk_at dksX6_occurs_1 4 rfl rfl)
theorem dX6_occurs_28 : decode cX6_occurs 28 = .ok (.iload 4, 2) := dk_21 4 (dk_at dksX6_occurs_1 5 rfl rfl)
theorem dX6_occurs_30 : decode cX6_occurs 30 = .ok (.iconst 3, 1) := dk_6 (dk_at dksX6_occurs_1 7 rfl rfl)
theorem dX6_occurs_31 : decode cX6_occurs 31 = .ok (.invokevirtual 96, 3) := dk_182 0 96 (dk_at dksX6_occurs_1 8 rfl rfl)
theorem dX6_occurs_34 : decode cX6_occurs 34 = .ok (.iload_n 2, 1) := dk_28 (dk_at dksX6_occurs_1 11 rfl rfl)
theorem dX6_occurs_35 : decode cX6_occurs 35 = .ok (.if_icmp .ne 7, 3) := dk_160 0 7 (dk_at dksX6_occurs_1 12 rfl rfl)
theorem dX6_occurs_38 : decode cX6_occurs 38 = .ok (.iconst 1, 1) := dk_4 (dk_at dksX6_occurs_1 15 rfl rfl)
theorem dX6_occurs_39 : decode cX6_occurs 39 = .ok (.goto 4, 3) := dk_167 0 4 (dk_at dksX6_occurs_1 16 rfl rfl)
theorem dX6_occurs_42 : decode cX6_occurs 42 = .ok (.iconst 0, 1) := dk_3 (dk_at dksX6_occurs_1 19 rfl rfl)
theorem dX6_occurs_43 : decode cX6_occurs 43 = .ok (.istore 5, 2) := dk_54 5 (dk_at dksX6_occurs_1 20 rfl rfl)
theorem dX6_occurs_45 : decode cX6_occurs 45 = .ok (.iload 5, 2) := dk_21 5 (dk_at dksX6_occurs_1 22 rfl rfl)
theorem dX6_occurs_47 : decode cX6_occurs 47 = .ok (.ifCond .eq 34, 3) := dk_153 0 34 (dk_at dksX6_occurs_2 0 rfl rfl)
theorem dX6_occurs_50 : decode cX6_occurs 50 = .ok (.iload_n 3, 1) := dk_29 (dk_at dksX6_occurs_2 3 rfl rfl)
theorem dX6_occurs_51 : decode cX6_occurs 51 = .ok (.ifCond .ne 17, 3) := dk_154 0 17 (dk_at dksX6_occurs_2 4 rfl rfl)
theorem dX6_occurs_54 : decode cX6_occurs 54 = .ok (.aload_n 0, 1) := dk_42 (dk_at dksX6_occurs_2 7 rfl rfl)
theorem dX6_occurs_55 : decode cX6_occurs 55 = .ok (.iload_n 1, 1) := dk_27 (dk_at dksX6_occurs_2 8 rfl rfl)
theorem dX6_occurs_56 : decode cX6_occurs 56 = .ok (.iload 4, 2) := dk_21 4 (dk_at dksX6_occurs_2 9 rfl rfl)
theorem dX6_occurs_58 : decode cX6_occurs 58 = .ok (.iconst 0, 1) := dk_3 (dk_at dksX6_occurs_2 11 rfl rfl)
theorem dX6_occurs_59 : decode cX6_occurs 59 = .ok (.invokevirtual 96, 3) := dk_182 0 96 (dk_at dksX6_occurs_2 12 rfl rfl)
theorem dX6_occurs_62 : decode cX6_occurs 62 = .ok (.ifCond .ne 19, 3) := dk_154 0 19 (dk_at dksX6_occurs_2 15 rfl rfl)
theorem dX6_occurs_65 : decode cX6_occurs 65 = .ok (.goto 14, 3) := dk_167 0 14 (dk_at dksX6_occurs_2 18 rfl rfl)
theorem dX6_occurs_68 : decode cX6_occurs 68 = .ok (.aload_n 0, 1) := dk_42 (dk_at dksX6_occurs_2 21 rfl rfl)
theorem dX6_occurs_69 : decode cX6_occurs 69 = .ok (.iload_n 1, 1) := dk_27 (dk_at dksX6_occurs_2 22 rfl rfl)
theorem dX6_occurs_70 : decode cX6_occurs 70 = .ok (.iload 4, 2) := dk_21 4 (dk_at dksX6_occurs_3 0 rfl rfl)
theorem dX6_occurs_72 : decode cX6_occurs 72 = .ok (.iconst 0, 1) := dk_3 (dk_at dksX6_occurs_3 2 rfl rfl)
theorem dX6_occurs_73 : decode cX6_occurs 73 = .ok (.invokevirtual 96, 3) := dk_182 0 96 (dk_at dksX6_occurs_3 3 rfl rfl)
theorem dX6_occurs_76 : decode cX6_occurs 76 = .ok (.ifCond .le 5, 3) := dk_158 0 5 (dk_at dksX6_occurs_3 6 rfl rfl)
theorem dX6_occurs_79 : decode cX6_occurs 79 = .ok (.iconst 1, 1) := dk_4 (dk_at dksX6_occurs_3 9 rfl rfl)
theorem dX6_occurs_80 : decode cX6_occurs 80 = .ok (.ireturn, 1) := dk_172 (dk_at dksX6_occurs_3 10 rfl rfl)
theorem dX6_occurs_81 : decode cX6_occurs 81 = .ok (.iinc 4 1, 3) := dk_132 4 1 (dk_at dksX6_occurs_3 11 rfl rfl)
theorem dX6_occurs_84 : decode cX6_occurs 84 = .ok (.goto (-81), 3) := dk_167 255 175 (dk_at dksX6_occurs_3 14 rfl rfl)
theorem dX6_occurs_87 : decode cX6_occurs 87 = .ok (.iconst 0, 1) := dk_3 (dk_at dksX6_occurs_3 17 rfl rfl)
theorem dX6_occurs_88 : decode cX6_occurs 88 = .ok (.ireturn, 1) := dk_172 (dk_at dksX6_occurs_3 18 rfl rfl)
abbrev cX6_sameAs : ByteArray := prog_28_method_101_code
def yX6_sameAs : MethodName := ⟨RX6, "sameAs", "(I)I"⟩
def dkwX6_sameAs_1 : List UInt8 := [2, 172]
abbrev dktX6_sameAs_1 : List UInt8 := dkwX6_sameAs_1 ++ []
def dkwX6_sameAs_0 : List UInt8 := [3, 61, 28, 27, 162, 0, 20, 42, 28, 27, 182, 1, 65, 153, 0, 5, 28, 172, 132, 2, 1, 167, 255, 237]
abbrev dktX6_sameAs_0 : List UInt8 := dkwX6_sameAs_0 ++ dktX6_sameAs_1
theorem dksX6_sameAs_0 : cX6_sameAs.data.toList.drop 0 = dktX6_sameAs_0 := by decide +kernel
theorem dksX6_sameAs_1 : cX6_sameAs.data.toList.drop 24 = dktX6_sameAs_1 := dk_seg dksX6_sameAs_0 24 rfl rfl
theorem dX6_sameAs_0 : decode cX6_sameAs 0 = .ok (.iconst 0, 1) := dk_3 (dk_at dksX6_sameAs_0 0 rfl rfl)
theorem dX6_sameAs_1 : decode cX6_sameAs 1 = .ok (.istore_n 2, 1) := dk_61 (dk_at dksX6_sameAs_0 1 rfl rfl)
theorem dX6_sameAs_2 : decode cX6_sameAs 2 = .ok (.iload_n 2, 1) := dk_28 (dk_at dksX6_sameAs_0 2 rfl rfl)
theorem dX6_sameAs_3 : decode cX6_sameAs 3 = .ok (.iload_n 1, 1) := dk_27 (dk_at dksX6_sameAs_0 3 rfl rfl)
theorem dX6_sameAs_4 : decode cX6_sameAs 4 = .ok (.if_icmp .ge 20, 3) := dk_162 0 20 (dk_at dksX6_sameAs_0 4 rfl rfl)
theorem dX6_sameAs_7 : decode cX6_sameAs 7 = .ok (.aload_n 0, 1) := dk_42 (dk_at dksX6_sameAs_0 7 rfl rfl)
theorem dX6_sameAs_8 : decode cX6_sameAs 8 = .ok (.iload_n 2, 1) := dk_28 (dk_at dksX6_sameAs_0 8 rfl rfl)
theorem dX6_sameAs_9 : decode cX6_sameAs 9 = .ok (.iload_n 1, 1) := dk_27 (dk_at dksX6_sameAs_0 9 rfl rfl)
theorem dX6_sameAs_10 : decode cX6_sameAs 10 = .ok (.invokevirtual 321, 3) := dk_182 1 65 (dk_at dksX6_sameAs_0 10 rfl rfl)
theorem dX6_sameAs_13 : decode cX6_sameAs 13 = .ok (.ifCond .eq 5, 3) := dk_153 0 5 (dk_at dksX6_sameAs_0 13 rfl rfl)
theorem dX6_sameAs_16 : decode cX6_sameAs 16 = .ok (.iload_n 2, 1) := dk_28 (dk_at dksX6_sameAs_0 16 rfl rfl)
theorem dX6_sameAs_17 : decode cX6_sameAs 17 = .ok (.ireturn, 1) := dk_172 (dk_at dksX6_sameAs_0 17 rfl rfl)
theorem dX6_sameAs_18 : decode cX6_sameAs 18 = .ok (.iinc 2 1, 3) := dk_132 2 1 (dk_at dksX6_sameAs_0 18 rfl rfl)
theorem dX6_sameAs_21 : decode cX6_sameAs 21 = .ok (.goto (-19), 3) := dk_167 255 237 (dk_at dksX6_sameAs_0 21 rfl rfl)
theorem dX6_sameAs_24 : decode cX6_sameAs 24 = .ok (.iconst (-1), 1) := dk_2 (dk_at dksX6_sameAs_1 0 rfl rfl)
theorem dX6_sameAs_25 : decode cX6_sameAs 25 = .ok (.ireturn, 1) := dk_172 (dk_at dksX6_sameAs_1 1 rfl rfl)
abbrev cX6_areSame : ByteArray := prog_28_method_98_code
def yX6_areSame : MethodName := ⟨RX6, "areSame", "(II)Z"⟩
def dkwX6_areSame_3 : List UInt8 := [132, 4, 1, 167, 255, 208, 29, 172]
abbrev dktX6_areSame_3 : List UInt8 := dkwX6_areSame_3 ++ []
def dkwX6_areSame_2 : List UInt8 := [96, 182, 0, 92, 42, 28, 16, 17, 21, 4, 96, 182, 0, 92, 160, 0, 7, 4, 167, 0, 4, 3, 62]
abbrev dktX6_areSame_2 : List UInt8 := dkwX6_areSame_2 ++ dktX6_areSame_3
def dkwX6_areSame_1 : List UInt8 := [54, 4, 21, 4, 42, 27, 16, 16, 182, 0, 92, 162, 0, 42, 29, 153, 0, 38, 42, 27, 16, 17, 21, 4]
abbrev dktX6_areSame_1 : List UInt8 := dkwX6_areSame_1 ++ dktX6_areSame_2
def dkwX6_areSame_0 : List UInt8 := [42, 27, 16, 16, 182, 0, 92, 42, 28, 16, 16, 182, 0, 92, 160, 0, 7, 4, 167, 0, 4, 3, 62, 3]
abbrev dktX6_areSame_0 : List UInt8 := dkwX6_areSame_0 ++ dktX6_areSame_1
theorem dksX6_areSame_0 : cX6_areSame.data.toList.drop 0 = dktX6_areSame_0 := by decide +kernel
theorem dksX6_areSame_1 : cX6_areSame.data.toList.drop 24 = dktX6_areSame_1 := dk_seg dksX6_areSame_0 24 rfl rfl
theorem dksX6_areSame_2 : cX6_areSame.data.toList.drop 48 = dktX6_areSame_2 := dk_seg dksX6_areSame_1 24 rfl rfl
theorem dksX6_areSame_3 : cX6_areSame.data.toList.drop 71 = dktX6_areSame_3 := dk_seg dksX6_areSame_2 23 rfl rfl
theorem dX6_areSame_0 : decode cX6_areSame 0 = .ok (.aload_n 0, 1) := dk_42 (dk_at dksX6_areSame_0 0 rfl rfl)
theorem dX6_areSame_1 : decode cX6_areSame 1 = .ok (.iload_n 1, 1) := dk_27 (dk_at dksX6_areSame_0 1 rfl rfl)
theorem dX6_areSame_2 : decode cX6_areSame 2 = .ok (.bipush 16, 2) := dk_16 16 (dk_at dksX6_areSame_0 2 rfl rfl)
theorem dX6_areSame_4 : decode cX6_areSame 4 = .ok (.invokevirtual 92, 3) := dk_182 0 92 (dk_at dksX6_areSame_0 4 rfl rfl)
theorem dX6_areSame_7 : decode cX6_areSame 7 = .ok (.aload_n 0, 1) := dk_42 (dk_at dksX6_areSame_0 7 rfl rfl)
theorem dX6_areSame_8 : decode cX6_areSame 8 = .ok (.iload_n 2, 1) := dk_28 (dk_at dksX6_areSame_0 8 rfl rfl)
theorem dX6_areSame_9 : decode cX6_areSame 9 = .ok (.bipush 16, 2) := dk_16 16 (dk_at dksX6_areSame_0 9 rfl rfl)
theorem dX6_areSame_11 : decode cX6_areSame 11 = .ok (.invokevirtual 92, 3) := dk_182 0 92 (dk_at dksX6_areSame_0 11 rfl rfl)
theorem dX6_areSame_14 : decode cX6_areSame 14 = .ok (.if_icmp .ne 7, 3) := dk_160 0 7 (dk_at dksX6_areSame_0 14 rfl rfl)
theorem dX6_areSame_17 : decode cX6_areSame 17 = .ok (.iconst 1, 1) := dk_4 (dk_at dksX6_areSame_0 17 rfl rfl)
theorem dX6_areSame_18 : decode cX6_areSame 18 = .ok (.goto 4, 3) := dk_167 0 4 (dk_at dksX6_areSame_0 18 rfl rfl)
theorem dX6_areSame_21 : decode cX6_areSame 21 = .ok (.iconst 0, 1) := dk_3 (dk_at dksX6_areSame_0 21 rfl rfl)
theorem dX6_areSame_22 : decode cX6_areSame 22 = .ok (.istore_n 3, 1) := dk_62 (dk_at dksX6_areSame_0 22 rfl rfl)
theorem dX6_areSame_23 : decode cX6_areSame 23 = .ok (.iconst 0, 1) := dk_3 (dk_at dksX6_areSame_0 23 rfl rfl)
theorem dX6_areSame_24 : decode cX6_areSame 24 = .ok (.istore 4, 2) := dk_54 4 (dk_at dksX6_areSame_1 0 rfl rfl)
theorem dX6_areSame_26 : decode cX6_areSame 26 = .ok (.iload 4, 2) := dk_21 4 (dk_at dksX6_areSame_1 2 rfl rfl)
theorem dX6_areSame_28 : decode cX6_areSame 28 = .ok (.aload_n 0, 1) := dk_42 (dk_at dksX6_areSame_1 4 rfl rfl)
theorem dX6_areSame_29 : decode cX6_areSame 29 = .ok (.iload_n 1, 1) := dk_27 (dk_at dksX6_areSame_1 5 rfl rfl)
theorem dX6_areSame_30 : decode cX6_areSame 30 = .ok (.bipush 16, 2) := dk_16 16 (dk_at dksX6_areSame_1 6 rfl rfl)
theorem dX6_areSame_32 : decode cX6_areSame 32 = .ok (.invokevirtual 92, 3) := dk_182 0 92 (dk_at dksX6_areSame_1 8 rfl rfl)
theorem dX6_areSame_35 : decode cX6_areSame 35 = .ok (.if_icmp .ge 42, 3) := dk_162 0 42 (dk_at dksX6_areSame_1 11 rfl rfl)
theorem dX6_areSame_38 : decode cX6_areSame 38 = .ok (.iload_n 3, 1) := dk_29 (dk_at dksX6_areSame_1 14 rfl rfl)
theorem dX6_areSame_39 : decode cX6_areSame 39 = .ok (.ifCond .eq 38, 3) := dk_153 0 38 (dk_at dksX6_areSame_1 15 rfl rfl)
theorem dX6_areSame_42 : decode cX6_areSame 42 = .ok (.aload_n 0, 1) := dk_42 (dk_at dksX6_areSame_1 18 rfl rfl)
theorem dX6_areSame_43 : decode cX6_areSame 43 = .ok (.iload_n 1, 1) := dk_27 (dk_at dksX6_areSame_1 19 rfl rfl)
theorem dX6_areSame_44 : decode cX6_areSame 44 = .ok (.bipush 17, 2) := dk_16 17 (dk_at dksX6_areSame_1 20 rfl rfl)
theorem dX6_areSame_46 : decode cX6_areSame 46 = .ok (.iload 4, 2) := dk_21 4 (dk_at dksX6_areSame_1 22 rfl rfl)
theorem dX6_areSame_48 : decode cX6_areSame 48 = .ok (.iadd, 1) := dk_96 (dk_at dksX6_areSame_2 0 rfl rfl)
theorem dX6_areSame_49 : decode cX6_areSame 49 = .ok (.invokevirtual 92, 3) := dk_182 0 92 (dk_at dksX6_areSame_2 1 rfl rfl)
theorem dX6_areSame_52 : decode cX6_areSame 52 = .ok (.aload_n 0, 1) := dk_42 (dk_at dksX6_areSame_2 4 rfl rfl)
theorem dX6_areSame_53 : decode cX6_areSame 53 = .ok (.iload_n 2, 1) := dk_28 (dk_at dksX6_areSame_2 5 rfl rfl)
theorem dX6_areSame_54 : decode cX6_areSame 54 = .ok (.bipush 17, 2) := dk_16 17 (dk_at dksX6_areSame_2 6 rfl rfl)
theorem dX6_areSame_56 : decode cX6_areSame 56 = .ok (.iload 4, 2) := dk_21 4 (dk_at dksX6_areSame_2 8 rfl rfl)
theorem dX6_areSame_58 : decode cX6_areSame 58 = .ok (.iadd, 1) := dk_96 (dk_at dksX6_areSame_2 10 rfl rfl)
theorem dX6_areSame_59 : decode cX6_areSame 59 = .ok (.invokevirtual 92, 3) := dk_182 0 92 (dk_at dksX6_areSame_2 11 rfl rfl)
theorem dX6_areSame_62 : decode cX6_areSame 62 = .ok (.if_icmp .ne 7, 3) := dk_160 0 7 (dk_at dksX6_areSame_2 14 rfl rfl)
theorem dX6_areSame_65 : decode cX6_areSame 65 = .ok (.iconst 1, 1) := dk_4 (dk_at dksX6_areSame_2 17 rfl rfl)
theorem dX6_areSame_66 : decode cX6_areSame 66 = .ok (.goto 4, 3) := dk_167 0 4 (dk_at dksX6_areSame_2 18 rfl rfl)
theorem dX6_areSame_69 : decode cX6_areSame 69 = .ok (.iconst 0, 1) := dk_3 (dk_at dksX6_areSame_2 21 rfl rfl)
theorem dX6_areSame_70 : decode cX6_areSame 70 = .ok (.istore_n 3, 1) := dk_62 (dk_at dksX6_areSame_2 22 rfl rfl)
theorem dX6_areSame_71 : decode cX6_areSame 71 = .ok (.iinc 4 1, 3) := dk_132 4 1 (dk_at dksX6_areSame_3 0 rfl rfl)
theorem dX6_areSame_74 : decode cX6_areSame 74 = .ok (.goto (-48), 3) := dk_167 255 208 (dk_at dksX6_areSame_3 3 rfl rfl)
theorem dX6_areSame_77 : decode cX6_areSame 77 = .ok (.iload_n 3, 1) := dk_29 (dk_at dksX6_areSame_3 6 rfl rfl)
theorem dX6_areSame_78 : decode cX6_areSame 78 = .ok (.ireturn, 1) := dk_172 (dk_at dksX6_areSame_3 7 rfl rfl)
abbrev cX6_isRefused : ByteArray := prog_28_method_99_code
def yX6_isRefused : MethodName := ⟨RX6, "isRefused", "(ZII)Z"⟩
def dkwX6_isRefused_0 : List UInt8 := [27, 153, 0, 18, 42, 28, 181, 0, 252, 42, 29, 181, 0, 255, 42, 4, 181, 0, 63, 27, 172]
abbrev dktX6_isRefused_0 : List UInt8 := dkwX6_isRefused_0 ++ []
theorem dksX6_isRefused_0 : cX6_isRefused.data.toList.drop 0 = dktX6_isRefused_0 := by decide +kernel
theorem dX6_isRefused_0 : decode cX6_isRefused 0 = .ok (.iload_n 1, 1) := dk_27 (dk_at dksX6_isRefused_0 0 rfl rfl)
theorem dX6_isRefused_1 : decode cX6_isRefused 1 = .ok (.ifCond .eq 18, 3) := dk_153 0 18 (dk_at dksX6_isRefused_0 1 rfl rfl)
theorem dX6_isRefused_4 : decode cX6_isRefused 4 = .ok (.aload_n 0, 1) := dk_42 (dk_at dksX6_isRefused_0 4 rfl rfl)
theorem dX6_isRefused_5 : decode cX6_isRefused 5 = .ok (.iload_n 2, 1) := dk_28 (dk_at dksX6_isRefused_0 5 rfl rfl)
theorem dX6_isRefused_6 : decode cX6_isRefused 6 = .ok (.putfield 252, 3) := dk_181 0 252 (dk_at dksX6_isRefused_0 6 rfl rfl)
theorem dX6_isRefused_9 : decode cX6_isRefused 9 = .ok (.aload_n 0, 1) := dk_42 (dk_at dksX6_isRefused_0 9 rfl rfl)
theorem dX6_isRefused_10 : decode cX6_isRefused 10 = .ok (.iload_n 3, 1) := dk_29 (dk_at dksX6_isRefused_0 10 rfl rfl)
theorem dX6_isRefused_11 : decode cX6_isRefused 11 = .ok (.putfield 255, 3) := dk_181 0 255 (dk_at dksX6_isRefused_0 11 rfl rfl)
theorem dX6_isRefused_14 : decode cX6_isRefused 14 = .ok (.aload_n 0, 1) := dk_42 (dk_at dksX6_isRefused_0 14 rfl rfl)
theorem dX6_isRefused_15 : decode cX6_isRefused 15 = .ok (.iconst 1, 1) := dk_4 (dk_at dksX6_isRefused_0 15 rfl rfl)
theorem dX6_isRefused_16 : decode cX6_isRefused 16 = .ok (.putfield 63, 3) := dk_181 0 63 (dk_at dksX6_isRefused_0 16 rfl rfl)
theorem dX6_isRefused_19 : decode cX6_isRefused 19 = .ok (.iload_n 1, 1) := dk_27 (dk_at dksX6_isRefused_0 19 rfl rfl)
theorem dX6_isRefused_20 : decode cX6_isRefused 20 = .ok (.ireturn, 1) := dk_172 (dk_at dksX6_isRefused_0 20 rfl rfl)
abbrev cX6_isLayered : ByteArray := prog_28_method_24_code
def yX6_isLayered : MethodName := ⟨RX6, "isLayered", "()Z"⟩
def dkwX6_isLayered_3 : List UInt8 := [167, 0, 4, 3, 126, 60, 132, 4, 1, 167, 255, 206, 132, 2, 1, 167, 255, 180, 27, 172]
abbrev dktX6_isLayered_3 : List UInt8 := dkwX6_isLayered_3 ++ []
def dkwX6_isLayered_2 : List UInt8 := [21, 4, 29, 159, 0, 22, 42, 180, 0, 44, 16, 8, 21, 4, 104, 29, 96, 51, 154, 0, 7, 4]
abbrev dktX6_isLayered_2 : List UInt8 := dkwX6_isLayered_2 ++ dktX6_isLayered_3
def dkwX6_isLayered_1 : List UInt8 := [62, 3, 54, 4, 21, 4, 16, 8, 162, 0, 49, 27, 42, 28, 21, 4, 4, 182, 0, 103, 153, 0, 24]
abbrev dktX6_isLayered_1 : List UInt8 := dkwX6_isLayered_1 ++ dktX6_isLayered_2
def dkwX6_isLayered_0 : List UInt8 := [42, 182, 0, 107, 4, 60, 3, 61, 28, 42, 180, 0, 9, 6, 46, 162, 0, 72, 42, 28, 3, 182, 0, 92]
abbrev dktX6_isLayered_0 : List UInt8 := dkwX6_isLayered_0 ++ dktX6_isLayered_1
theorem dksX6_isLayered_0 : cX6_isLayered.data.toList.drop 0 = dktX6_isLayered_0 := by decide +kernel
theorem dksX6_isLayered_1 : cX6_isLayered.data.toList.drop 24 = dktX6_isLayered_1 := dk_seg dksX6_isLayered_0 24 rfl rfl
theorem dksX6_isLayered_2 : cX6_isLayered.data.toList.drop 47 = dktX6_isLayered_2 := dk_seg dksX6_isLayered_1 23 rfl rfl
theorem dksX6_isLayered_3 : cX6_isLayered.data.toList.drop 69 = dktX6_isLayered_3 := dk_seg dksX6_isLayered_2 22 rfl rfl
theorem dX6_isLayered_0 : decode cX6_isLayered 0 = .ok (.aload_n 0, 1) := dk_42 (dk_at dksX6_isLayered_0 0 rfl rfl)
theorem dX6_isLayered_1 : decode cX6_isLayered 1 = .ok (.invokevirtual 107, 3) := dk_182 0 107 (dk_at dksX6_isLayered_0 1 rfl rfl)
theorem dX6_isLayered_4 : decode cX6_isLayered 4 = .ok (.iconst 1, 1) := dk_4 (dk_at dksX6_isLayered_0 4 rfl rfl)
theorem dX6_isLayered_5 : decode cX6_isLayered 5 = .ok (.istore_n 1, 1) := dk_60 (dk_at dksX6_isLayered_0 5 rfl rfl)
theorem dX6_isLayered_6 : decode cX6_isLayered 6 = .ok (.iconst 0, 1) := dk_3 (dk_at dksX6_isLayered_0 6 rfl rfl)
theorem dX6_isLayered_7 : decode cX6_isLayered 7 = .ok (.istore_n 2, 1) := dk_61 (dk_at dksX6_isLayered_0 7 rfl rfl)
theorem dX6_isLayered_8 : decode cX6_isLayered 8 = .ok (.iload_n 2, 1) := dk_28 (dk_at dksX6_isLayered_0 8 rfl rfl)
theorem dX6_isLayered_9 : decode cX6_isLayered 9 = .ok (.aload_n 0, 1) := dk_42 (dk_at dksX6_isLayered_0 9 rfl rfl)
theorem dX6_isLayered_10 : decode cX6_isLayered 10 = .ok (.getfield 9, 3) := dk_180 0 9 (dk_at dksX6_isLayered_0 10 rfl rfl)
theorem dX6_isLayered_13 : decode cX6_isLayered 13 = .ok (.iconst 3, 1) := dk_6 (dk_at dksX6_isLayered_0 13 rfl rfl)
theorem dX6_isLayered_14 : decode cX6_isLayered 14 = .ok (.iaload, 1) := dk_46 (dk_at dksX6_isLayered_0 14 rfl rfl)
theorem dX6_isLayered_15 : decode cX6_isLayered 15 = .ok (.if_icmp .ge 72, 3) := dk_162 0 72 (dk_at dksX6_isLayered_0 15 rfl rfl)
theorem dX6_isLayered_18 : decode cX6_isLayered 18 = .ok (.aload_n 0, 1) := dk_42 (dk_at dksX6_isLayered_0 18 rfl rfl)
theorem dX6_isLayered_19 : decode cX6_isLayered 19 = .ok (.iload_n 2, 1) := dk_28 (dk_at dksX6_isLayered_0 19 rfl rfl)
theorem dX6_isLayered_20 : decode cX6_isLayered 20 = .ok (.iconst 0, 1) := dk_3 (dk_at dksX6_isLayered_0 20 rfl rfl)
theorem dX6_isLayered_21 : decode cX6_isLayered 21 = .ok (.invokevirtual 92, 3) := dk_182 0 92 (dk_at dksX6_isLayered_0 21 rfl rfl)
theorem dX6_isLayered_24 : decode cX6_isLayered 24 = .ok (.istore_n 3, 1) := dk_62 (dk_at dksX6_isLayered_1 0 rfl rfl)
theorem dX6_isLayered_25 : decode cX6_isLayered 25 = .ok (.iconst 0, 1) := dk_3 (dk_at dksX6_isLayered_1 1 rfl rfl)
theorem dX6_isLayered_26 : decode cX6_isLayered 26 = .ok (.istore 4, 2) := dk_54 4 (dk_at dksX6_isLayered_1 2 rfl rfl)
theorem dX6_isLayered_28 : decode cX6_isLayered 28 = .ok (.iload 4, 2) := dk_21 4 (dk_at dksX6_isLayered_1 4 rfl rfl)
theorem dX6_isLayered_30 : decode cX6_isLayered 30 = .ok (.bipush 8, 2) := dk_16 8 (dk_at dksX6_isLayered_1 6 rfl rfl)
theorem dX6_isLayered_32 : decode cX6_isLayered 32 = .ok (.if_icmp .ge 49, 3) := dk_162 0 49 (dk_at dksX6_isLayered_1 8 rfl rfl)
theorem dX6_isLayered_35 : decode cX6_isLayered 35 = .ok (.iload_n 1, 1) := dk_27 (dk_at dksX6_isLayered_1 11 rfl rfl)
theorem dX6_isLayered_36 : decode cX6_isLayered 36 = .ok (.aload_n 0, 1) := dk_42 (dk_at dksX6_isLayered_1 12 rfl rfl)
theorem dX6_isLayered_37 : decode cX6_isLayered 37 = .ok (.iload_n 2, 1) := dk_28 (dk_at dksX6_isLayered_1 13 rfl rfl)
theorem dX6_isLayered_38 : decode cX6_isLayered 38 = .ok (.iload 4, 2) := dk_21 4 (dk_at dksX6_isLayered_1 14 rfl rfl)
theorem dX6_isLayered_40 : decode cX6_isLayered 40 = .ok (.iconst 1, 1) := dk_4 (dk_at dksX6_isLayered_1 16 rfl rfl)
theorem dX6_isLayered_41 : decode cX6_isLayered 41 = .ok (.invokevirtual 103, 3) := dk_182 0 103 (dk_at dksX6_isLayered_1 17 rfl rfl)
theorem dX6_isLayered_44 : decode cX6_isLayered 44 = .ok (.ifCond .eq 24, 3) := dk_153 0 24 (dk_at dksX6_isLayered_1 20 rfl rfl)
theorem dX6_isLayered_47 : decode cX6_isLayered 47 = .ok (.iload 4, 2) := dk_21 4 (dk_at dksX6_isLayered_2 0 rfl rfl)
theorem dX6_isLayered_49 : decode cX6_isLayered 49 = .ok (.iload_n 3, 1) := dk_29 (dk_at dksX6_isLayered_2 2 rfl rfl)
theorem dX6_isLayered_50 : decode cX6_isLayered 50 = .ok (.if_icmp .eq 22, 3) := dk_159 0 22 (dk_at dksX6_isLayered_2 3 rfl rfl)
theorem dX6_isLayered_53 : decode cX6_isLayered 53 = .ok (.aload_n 0, 1) := dk_42 (dk_at dksX6_isLayered_2 6 rfl rfl)
theorem dX6_isLayered_54 : decode cX6_isLayered 54 = .ok (.getfield 44, 3) := dk_180 0 44 (dk_at dksX6_isLayered_2 7 rfl rfl)
theorem dX6_isLayered_57 : decode cX6_isLayered 57 = .ok (.bipush 8, 2) := dk_16 8 (dk_at dksX6_isLayered_2 10 rfl rfl)
theorem dX6_isLayered_59 : decode cX6_isLayered 59 = .ok (.iload 4, 2) := dk_21 4 (dk_at dksX6_isLayered_2 12 rfl rfl)
theorem dX6_isLayered_61 : decode cX6_isLayered 61 = .ok (.imul, 1) := dk_104 (dk_at dksX6_isLayered_2 14 rfl rfl)
theorem dX6_isLayered_62 : decode cX6_isLayered 62 = .ok (.iload_n 3, 1) := dk_29 (dk_at dksX6_isLayered_2 15 rfl rfl)
theorem dX6_isLayered_63 : decode cX6_isLayered 63 = .ok (.iadd, 1) := dk_96 (dk_at dksX6_isLayered_2 16 rfl rfl)
theorem dX6_isLayered_64 : decode cX6_isLayered 64 = .ok (.baload, 1) := dk_51 (dk_at dksX6_isLayered_2 17 rfl rfl)
theorem dX6_isLayered_65 : decode cX6_isLayered 65 = .ok (.ifCond .ne 7, 3) := dk_154 0 7 (dk_at dksX6_isLayered_2 18 rfl rfl)
theorem dX6_isLayered_68 : decode cX6_isLayered 68 = .ok (.iconst 1, 1) := dk_4 (dk_at dksX6_isLayered_2 21 rfl rfl)
theorem dX6_isLayered_69 : decode cX6_isLayered 69 = .ok (.goto 4, 3) := dk_167 0 4 (dk_at dksX6_isLayered_3 0 rfl rfl)
theorem dX6_isLayered_72 : decode cX6_isLayered 72 = .ok (.iconst 0, 1) := dk_3 (dk_at dksX6_isLayered_3 3 rfl rfl)
theorem dX6_isLayered_73 : decode cX6_isLayered 73 = .ok (.iand, 1) := dk_126 (dk_at dksX6_isLayered_3 4 rfl rfl)
theorem dX6_isLayered_74 : decode cX6_isLayered 74 = .ok (.istore_n 1, 1) := dk_60 (dk_at dksX6_isLayered_3 5 rfl rfl)
theorem dX6_isLayered_75 : decode cX6_isLayered 75 = .ok (.iinc 4 1, 3) := dk_132 4 1 (dk_at dksX6_isLayered_3 6 rfl rfl)
theorem dX6_isLayered_78 : decode cX6_isLayered 78 = .ok (.goto (-50), 3) := dk_167 255 206 (dk_at dksX6_isLayered_3 9 rfl rfl)
theorem dX6_isLayered_81 : decode cX6_isLayered 81 = .ok (.iinc 2 1, 3) := dk_132 2 1 (dk_at dksX6_isLayered_3 12 rfl rfl)
theorem dX6_isLayered_84 : decode cX6_isLayered 84 = .ok (.goto (-76), 3) := dk_167 255 180 (dk_at dksX6_isLayered_3 15 rfl rfl)
theorem dX6_isLayered_87 : decode cX6_isLayered 87 = .ok (.iload_n 1, 1) := dk_27 (dk_at dksX6_isLayered_3 18 rfl rfl)
theorem dX6_isLayered_88 : decode cX6_isLayered 88 = .ok (.ireturn, 1) := dk_172 (dk_at dksX6_isLayered_3 19 rfl rfl)
abbrev cX6_errorPosition : ByteArray := prog_28_method_105_code
def yX6_errorPosition : MethodName := ⟨RX6, "errorPosition", "()I"⟩
def dkwX6_errorPosition_1 : List UInt8 := [42, 180, 0, 47, 172]
abbrev dktX6_errorPosition_1 : List UInt8 := dkwX6_errorPosition_1 ++ []
def dkwX6_errorPosition_0 : List UInt8 := [42, 42, 180, 0, 47, 156, 0, 7, 4, 167, 0, 4, 3, 4, 182, 0, 164, 153, 0, 7, 3, 167, 0, 7]
abbrev dktX6_errorPosition_0 : List UInt8 := dkwX6_errorPosition_0 ++ dktX6_errorPosition_1
theorem dksX6_errorPosition_0 : cX6_errorPosition.data.toList.drop 0 = dktX6_errorPosition_0 := by decide +kernel
theorem dksX6_errorPosition_1 : cX6_errorPosition.data.toList.drop 24 = dktX6_errorPosition_1 := dk_seg dksX6_errorPosition_0 24 rfl rfl
theorem dX6_errorPosition_0 : decode cX6_errorPosition 0 = .ok (.aload_n 0, 1) := dk_42 (dk_at dksX6_errorPosition_0 0 rfl rfl)
theorem dX6_errorPosition_1 : decode cX6_errorPosition 1 = .ok (.aload_n 0, 1) := dk_42 (dk_at dksX6_errorPosition_0 1 rfl rfl)
theorem dX6_errorPosition_2 : decode cX6_errorPosition 2 = .ok (.getfield 47, 3) := dk_180 0 47 (dk_at dksX6_errorPosition_0 2 rfl rfl)
theorem dX6_errorPosition_5 : decode cX6_errorPosition 5 = .ok (.ifCond .ge 7, 3) := dk_156 0 7 (dk_at dksX6_errorPosition_0 5 rfl rfl)
theorem dX6_errorPosition_8 : decode cX6_errorPosition 8 = .ok (.iconst 1, 1) := dk_4 (dk_at dksX6_errorPosition_0 8 rfl rfl)
theorem dX6_errorPosition_9 : decode cX6_errorPosition 9 = .ok (.goto 4, 3) := dk_167 0 4 (dk_at dksX6_errorPosition_0 9 rfl rfl)
theorem dX6_errorPosition_12 : decode cX6_errorPosition 12 = .ok (.iconst 0, 1) := dk_3 (dk_at dksX6_errorPosition_0 12 rfl rfl)
theorem dX6_errorPosition_13 : decode cX6_errorPosition 13 = .ok (.iconst 1, 1) := dk_4 (dk_at dksX6_errorPosition_0 13 rfl rfl)
theorem dX6_errorPosition_14 : decode cX6_errorPosition 14 = .ok (.invokevirtual 164, 3) := dk_182 0 164 (dk_at dksX6_errorPosition_0 14 rfl rfl)
theorem dX6_errorPosition_17 : decode cX6_errorPosition 17 = .ok (.ifCond .eq 7, 3) := dk_153 0 7 (dk_at dksX6_errorPosition_0 17 rfl rfl)
theorem dX6_errorPosition_20 : decode cX6_errorPosition 20 = .ok (.iconst 0, 1) := dk_3 (dk_at dksX6_errorPosition_0 20 rfl rfl)
theorem dX6_errorPosition_21 : decode cX6_errorPosition 21 = .ok (.goto 7, 3) := dk_167 0 7 (dk_at dksX6_errorPosition_0 21 rfl rfl)
theorem dX6_errorPosition_24 : decode cX6_errorPosition 24 = .ok (.aload_n 0, 1) := dk_42 (dk_at dksX6_errorPosition_1 0 rfl rfl)
theorem dX6_errorPosition_25 : decode cX6_errorPosition 25 = .ok (.getfield 47, 3) := dk_180 0 47 (dk_at dksX6_errorPosition_1 1 rfl rfl)
theorem dX6_errorPosition_28 : decode cX6_errorPosition 28 = .ok (.ireturn, 1) := dk_172 (dk_at dksX6_errorPosition_1 4 rfl rfl)
abbrev cX6_failedCommand : ByteArray := prog_28_method_106_code
def yX6_failedCommand : MethodName := ⟨RX6, "failedCommand", "()I"⟩
def dkwX6_failedCommand_1 : List UInt8 := [42, 180, 0, 51, 172]
abbrev dktX6_failedCommand_1 : List UInt8 := dkwX6_failedCommand_1 ++ []
def dkwX6_failedCommand_0 : List UInt8 := [42, 42, 180, 0, 51, 156, 0, 7, 4, 167, 0, 4, 3, 4, 182, 0, 164, 153, 0, 7, 3, 167, 0, 7]
abbrev dktX6_failedCommand_0 : List UInt8 := dkwX6_failedCommand_0 ++ dktX6_failedCommand_1
theorem dksX6_failedCommand_0 : cX6_failedCommand.data.toList.drop 0 = dktX6_failedCommand_0 := by decide +kernel
theorem dksX6_failedCommand_1 : cX6_failedCommand.data.toList.drop 24 = dktX6_failedCommand_1 := dk_seg dksX6_failedCommand_0 24 rfl rfl
theorem dX6_failedCommand_0 : decode cX6_failedCommand 0 = .ok (.aload_n 0, 1) := dk_42 (dk_at dksX6_failedCommand_0 0 rfl rfl)
theorem dX6_failedCommand_1 : decode cX6_failedCommand 1 = .ok (.aload_n 0, 1) := dk_42 (dk_at dksX6_failedCommand_0 1 rfl rfl)
theorem dX6_failedCommand_2 : decode cX6_failedCommand 2 = .ok (.getfield 51, 3) := dk_180 0 51 (dk_at dksX6_failedCommand_0 2 rfl rfl)
theorem dX6_failedCommand_5 : decode cX6_failedCommand 5 = .ok (.ifCond .ge 7, 3) := dk_156 0 7 (dk_at dksX6_failedCommand_0 5 rfl rfl)
theorem dX6_failedCommand_8 : decode cX6_failedCommand 8 = .ok (.iconst 1, 1) := dk_4 (dk_at dksX6_failedCommand_0 8 rfl rfl)
theorem dX6_failedCommand_9 : decode cX6_failedCommand 9 = .ok (.goto 4, 3) := dk_167 0 4 (dk_at dksX6_failedCommand_0 9 rfl rfl)
theorem dX6_failedCommand_12 : decode cX6_failedCommand 12 = .ok (.iconst 0, 1) := dk_3 (dk_at dksX6_failedCommand_0 12 rfl rfl)
theorem dX6_failedCommand_13 : decode cX6_failedCommand 13 = .ok (.iconst 1, 1) := dk_4 (dk_at dksX6_failedCommand_0 13 rfl rfl)
theorem dX6_failedCommand_14 : decode cX6_failedCommand 14 = .ok (.invokevirtual 164, 3) := dk_182 0 164 (dk_at dksX6_failedCommand_0 14 rfl rfl)
theorem dX6_failedCommand_17 : decode cX6_failedCommand 17 = .ok (.ifCond .eq 7, 3) := dk_153 0 7 (dk_at dksX6_failedCommand_0 17 rfl rfl)
theorem dX6_failedCommand_20 : decode cX6_failedCommand 20 = .ok (.iconst 0, 1) := dk_3 (dk_at dksX6_failedCommand_0 20 rfl rfl)
theorem dX6_failedCommand_21 : decode cX6_failedCommand 21 = .ok (.goto 7, 3) := dk_167 0 7 (dk_at dksX6_failedCommand_0 21 rfl rfl)
theorem dX6_failedCommand_24 : decode cX6_failedCommand 24 = .ok (.aload_n 0, 1) := dk_42 (dk_at dksX6_failedCommand_1 0 rfl rfl)
theorem dX6_failedCommand_25 : decode cX6_failedCommand 25 = .ok (.getfield 51, 3) := dk_180 0 51 (dk_at dksX6_failedCommand_1 1 rfl rfl)
theorem dX6_failedCommand_28 : decode cX6_failedCommand 28 = .ok (.ireturn, 1) := dk_172 (dk_at dksX6_failedCommand_1 4 rfl rfl)
abbrev cX6_writeRule : ByteArray := prog_28_method_110_code
def yX6_writeRule : MethodName := ⟨RX6, "writeRule", "(I)I"⟩
def dkwX6_writeRule_2 : List UInt8 := [182, 0, 92, 182, 1, 97, 132, 2, 1, 167, 255, 229, 42, 180, 1, 94, 172]
abbrev dktX6_writeRule_2 : List UInt8 := dkwX6_writeRule_2 ++ []
def dkwX6_writeRule_1 : List UInt8 := [3, 181, 1, 94, 3, 61, 28, 42, 27, 16, 16, 182, 0, 92, 162, 0, 22, 42, 42, 27, 16, 17, 28, 96]
abbrev dktX6_writeRule_1 : List UInt8 := dkwX6_writeRule_1 ++ dktX6_writeRule_2
def dkwX6_writeRule_0 : List UInt8 := [42, 42, 27, 182, 0, 196, 154, 0, 7, 4, 167, 0, 4, 3, 4, 182, 0, 164, 153, 0, 5, 3, 172, 42]
abbrev dktX6_writeRule_0 : List UInt8 := dkwX6_writeRule_0 ++ dktX6_writeRule_1
theorem dksX6_writeRule_0 : cX6_writeRule.data.toList.drop 0 = dktX6_writeRule_0 := by decide +kernel
theorem dksX6_writeRule_1 : cX6_writeRule.data.toList.drop 24 = dktX6_writeRule_1 := dk_seg dksX6_writeRule_0 24 rfl rfl
theorem dksX6_writeRule_2 : cX6_writeRule.data.toList.drop 48 = dktX6_writeRule_2 := dk_seg dksX6_writeRule_1 24 rfl rfl
theorem dX6_writeRule_0 : decode cX6_writeRule 0 = .ok (.aload_n 0, 1) := dk_42 (dk_at dksX6_writeRule_0 0 rfl rfl)
theorem dX6_writeRule_1 : decode cX6_writeRule 1 = .ok (.aload_n 0, 1) := dk_42 (dk_at dksX6_writeRule_0 1 rfl rfl)
theorem dX6_writeRule_2 : decode cX6_writeRule 2 = .ok (.iload_n 1, 1) := dk_27 (dk_at dksX6_writeRule_0 2 rfl rfl)
theorem dX6_writeRule_3 : decode cX6_writeRule 3 = .ok (.invokevirtual 196, 3) := dk_182 0 196 (dk_at dksX6_writeRule_0 3 rfl rfl)
theorem dX6_writeRule_6 : decode cX6_writeRule 6 = .ok (.ifCond .ne 7, 3) := dk_154 0 7 (dk_at dksX6_writeRule_0 6 rfl rfl)
theorem dX6_writeRule_9 : decode cX6_writeRule 9 = .ok (.iconst 1, 1) := dk_4 (dk_at dksX6_writeRule_0 9 rfl rfl)
theorem dX6_writeRule_10 : decode cX6_writeRule 10 = .ok (.goto 4, 3) := dk_167 0 4 (dk_at dksX6_writeRule_0 10 rfl rfl)
theorem dX6_writeRule_13 : decode cX6_writeRule 13 = .ok (.iconst 0, 1) := dk_3 (dk_at dksX6_writeRule_0 13 rfl rfl)
theorem dX6_writeRule_14 : decode cX6_writeRule 14 = .ok (.iconst 1, 1) := dk_4 (dk_at dksX6_writeRule_0 14 rfl rfl)
theorem dX6_writeRule_15 : decode cX6_writeRule 15 = .ok (.invokevirtual 164, 3) := dk_182 0 164 (dk_at dksX6_writeRule_0 15 rfl rfl)
theorem dX6_writeRule_18 : decode cX6_writeRule 18 = .ok (.ifCond .eq 5, 3) := dk_153 0 5 (dk_at dksX6_writeRule_0 18 rfl rfl)
theorem dX6_writeRule_21 : decode cX6_writeRule 21 = .ok (.iconst 0, 1) := dk_3 (dk_at dksX6_writeRule_0 21 rfl rfl)
theorem dX6_writeRule_22 : decode cX6_writeRule 22 = .ok (.ireturn, 1) := dk_172 (dk_at dksX6_writeRule_0 22 rfl rfl)
theorem dX6_writeRule_23 : decode cX6_writeRule 23 = .ok (.aload_n 0, 1) := dk_42 (dk_at dksX6_writeRule_0 23 rfl rfl)
theorem dX6_writeRule_24 : decode cX6_writeRule 24 = .ok (.iconst 0, 1) := dk_3 (dk_at dksX6_writeRule_1 0 rfl rfl)
theorem dX6_writeRule_25 : decode cX6_writeRule 25 = .ok (.putfield 350, 3) := dk_181 1 94 (dk_at dksX6_writeRule_1 1 rfl rfl)
theorem dX6_writeRule_28 : decode cX6_writeRule 28 = .ok (.iconst 0, 1) := dk_3 (dk_at dksX6_writeRule_1 4 rfl rfl)
theorem dX6_writeRule_29 : decode cX6_writeRule 29 = .ok (.istore_n 2, 1) := dk_61 (dk_at dksX6_writeRule_1 5 rfl rfl)
theorem dX6_writeRule_30 : decode cX6_writeRule 30 = .ok (.iload_n 2, 1) := dk_28 (dk_at dksX6_writeRule_1 6 rfl rfl)
theorem dX6_writeRule_31 : decode cX6_writeRule 31 = .ok (.aload_n 0, 1) := dk_42 (dk_at dksX6_writeRule_1 7 rfl rfl)
theorem dX6_writeRule_32 : decode cX6_writeRule 32 = .ok (.iload_n 1, 1) := dk_27 (dk_at dksX6_writeRule_1 8 rfl rfl)
theorem dX6_writeRule_33 : decode cX6_writeRule 33 = .ok (.bipush 16, 2) := dk_16 16 (dk_at dksX6_writeRule_1 9 rfl rfl)
theorem dX6_writeRule_35 : decode cX6_writeRule 35 = .ok (.invokevirtual 92, 3) := dk_182 0 92 (dk_at dksX6_writeRule_1 11 rfl rfl)
theorem dX6_writeRule_38 : decode cX6_writeRule 38 = .ok (.if_icmp .ge 22, 3) := dk_162 0 22 (dk_at dksX6_writeRule_1 14 rfl rfl)
theorem dX6_writeRule_41 : decode cX6_writeRule 41 = .ok (.aload_n 0, 1) := dk_42 (dk_at dksX6_writeRule_1 17 rfl rfl)
theorem dX6_writeRule_42 : decode cX6_writeRule 42 = .ok (.aload_n 0, 1) := dk_42 (dk_at dksX6_writeRule_1 18 rfl rfl)
theorem dX6_writeRule_43 : decode cX6_writeRule 43 = .ok (.iload_n 1, 1) := dk_27 (dk_at dksX6_writeRule_1 19 rfl rfl)
theorem dX6_writeRule_44 : decode cX6_writeRule 44 = .ok (.bipush 17, 2) := dk_16 17 (dk_at dksX6_writeRule_1 20 rfl rfl)
theorem dX6_writeRule_46 : decode cX6_writeRule 46 = .ok (.iload_n 2, 1) := dk_28 (dk_at dksX6_writeRule_1 22 rfl rfl)
theorem dX6_writeRule_47 : decode cX6_writeRule 47 = .ok (.iadd, 1) := dk_96 (dk_at dksX6_writeRule_1 23 rfl rfl)
theorem dX6_writeRule_48 : decode cX6_writeRule 48 = .ok (.invokevirtual 92, 3) := dk_182 0 92 (dk_at dksX6_writeRule_2 0 rfl rfl)
theorem dX6_writeRule_51 : decode cX6_writeRule 51 = .ok (.invokevirtual 353, 3) := dk_182 1 97 (dk_at dksX6_writeRule_2 3 rfl rfl)
theorem dX6_writeRule_54 : decode cX6_writeRule 54 = .ok (.iinc 2 1, 3) := dk_132 2 1 (dk_at dksX6_writeRule_2 6 rfl rfl)
theorem dX6_writeRule_57 : decode cX6_writeRule 57 = .ok (.goto (-27), 3) := dk_167 255 229 (dk_at dksX6_writeRule_2 9 rfl rfl)
theorem dX6_writeRule_60 : decode cX6_writeRule 60 = .ok (.aload_n 0, 1) := dk_42 (dk_at dksX6_writeRule_2 12 rfl rfl)
theorem dX6_writeRule_61 : decode cX6_writeRule 61 = .ok (.getfield 350, 3) := dk_180 1 94 (dk_at dksX6_writeRule_2 13 rfl rfl)
theorem dX6_writeRule_64 : decode cX6_writeRule 64 = .ok (.ireturn, 1) := dk_172 (dk_at dksX6_writeRule_2 16 rfl rfl)
abbrev cX6_writes : ByteArray := prog_28_method_107_code
def yX6_writes : MethodName := ⟨RX6, "writes", "(I)V"⟩
def dkwX6_writes_0 : List UInt8 := [42, 180, 0, 60, 42, 180, 1, 94, 27, 79, 42, 89, 180, 1, 94, 4, 96, 181, 1, 94, 177]
abbrev dktX6_writes_0 : List UInt8 := dkwX6_writes_0 ++ []
theorem dksX6_writes_0 : cX6_writes.data.toList.drop 0 = dktX6_writes_0 := by decide +kernel
theorem dX6_writes_0 : decode cX6_writes 0 = .ok (.aload_n 0, 1) := dk_42 (dk_at dksX6_writes_0 0 rfl rfl)
theorem dX6_writes_1 : decode cX6_writes 1 = .ok (.getfield 60, 3) := dk_180 0 60 (dk_at dksX6_writes_0 1 rfl rfl)
theorem dX6_writes_4 : decode cX6_writes 4 = .ok (.aload_n 0, 1) := dk_42 (dk_at dksX6_writes_0 4 rfl rfl)
theorem dX6_writes_5 : decode cX6_writes 5 = .ok (.getfield 350, 3) := dk_180 1 94 (dk_at dksX6_writes_0 5 rfl rfl)
theorem dX6_writes_8 : decode cX6_writes 8 = .ok (.iload_n 1, 1) := dk_27 (dk_at dksX6_writes_0 8 rfl rfl)
theorem dX6_writes_9 : decode cX6_writes 9 = .ok (.iastore, 1) := dk_79 (dk_at dksX6_writes_0 9 rfl rfl)
theorem dX6_writes_10 : decode cX6_writes 10 = .ok (.aload_n 0, 1) := dk_42 (dk_at dksX6_writes_0 10 rfl rfl)
theorem dX6_writes_11 : decode cX6_writes 11 = .ok (.dup, 1) := dk_89 (dk_at dksX6_writes_0 11 rfl rfl)
theorem dX6_writes_12 : decode cX6_writes 12 = .ok (.getfield 350, 3) := dk_180 1 94 (dk_at dksX6_writes_0 12 rfl rfl)
theorem dX6_writes_15 : decode cX6_writes 15 = .ok (.iconst 1, 1) := dk_4 (dk_at dksX6_writes_0 15 rfl rfl)
theorem dX6_writes_16 : decode cX6_writes 16 = .ok (.iadd, 1) := dk_96 (dk_at dksX6_writes_0 16 rfl rfl)
theorem dX6_writes_17 : decode cX6_writes 17 = .ok (.putfield 350, 3) := dk_181 1 94 (dk_at dksX6_writes_0 17 rfl rfl)
theorem dX6_writes_20 : decode cX6_writes 20 = .ok (.return_, 1) := dk_177 (dk_at dksX6_writes_0 20 rfl rfl)
abbrev cX6_writeStep : ByteArray := prog_28_method_112_code
def yX6_writeStep : MethodName := ⟨RX6, "writeStep", "(CII)I"⟩
def dkwX6_writeStep_4 : List UInt8 := [172]
abbrev dktX6_writeStep_4 : List UInt8 := dkwX6_writeStep_4 ++ []
def dkwX6_writeStep_3 : List UInt8 := [46, 17, 3, 232, 108, 96, 182, 1, 97, 42, 42, 180, 0, 25, 21, 4, 46, 182, 1, 115, 42, 180, 1, 94]
abbrev dktX6_writeStep_3 : List UInt8 := dkwX6_writeStep_3 ++ dktX6_writeStep_4
def dkwX6_writeStep_2 : List UInt8 := [182, 1, 104, 42, 180, 1, 94, 172, 42, 19, 1, 113, 182, 1, 104, 42, 16, 48, 42, 180, 0, 25, 21, 4]
abbrev dktX6_writeStep_2 : List UInt8 := dkwX6_writeStep_2 ++ dktX6_writeStep_3
def dkwX6_writeStep_1 : List UInt8 := [181, 1, 94, 42, 21, 4, 182, 1, 108, 42, 180, 0, 25, 21, 4, 46, 156, 0, 15, 42, 19, 1, 111]
abbrev dktX6_writeStep_1 : List UInt8 := dkwX6_writeStep_1 ++ dktX6_writeStep_2
def dkwX6_writeStep_0 : List UInt8 := [42, 27, 28, 29, 182, 0, 221, 153, 0, 5, 3, 172, 27, 28, 29, 184, 0, 168, 54, 4, 42, 3]
abbrev dktX6_writeStep_0 : List UInt8 := dkwX6_writeStep_0 ++ dktX6_writeStep_1
theorem dksX6_writeStep_0 : cX6_writeStep.data.toList.drop 0 = dktX6_writeStep_0 := by decide +kernel
theorem dksX6_writeStep_1 : cX6_writeStep.data.toList.drop 22 = dktX6_writeStep_1 := dk_seg dksX6_writeStep_0 22 rfl rfl
theorem dksX6_writeStep_2 : cX6_writeStep.data.toList.drop 45 = dktX6_writeStep_2 := dk_seg dksX6_writeStep_1 23 rfl rfl
theorem dksX6_writeStep_3 : cX6_writeStep.data.toList.drop 69 = dktX6_writeStep_3 := dk_seg dksX6_writeStep_2 24 rfl rfl
theorem dksX6_writeStep_4 : cX6_writeStep.data.toList.drop 93 = dktX6_writeStep_4 := dk_seg dksX6_writeStep_3 24 rfl rfl
theorem dX6_writeStep_0 : decode cX6_writeStep 0 = .ok (.aload_n 0, 1) := dk_42 (dk_at dksX6_writeStep_0 0 rfl rfl)
theorem dX6_writeStep_1 : decode cX6_writeStep 1 = .ok (.iload_n 1, 1) := dk_27 (dk_at dksX6_writeStep_0 1 rfl rfl)
theorem dX6_writeStep_2 : decode cX6_writeStep 2 = .ok (.iload_n 2, 1) := dk_28 (dk_at dksX6_writeStep_0 2 rfl rfl)
theorem dX6_writeStep_3 : decode cX6_writeStep 3 = .ok (.iload_n 3, 1) := dk_29 (dk_at dksX6_writeStep_0 3 rfl rfl)
theorem dX6_writeStep_4 : decode cX6_writeStep 4 = .ok (.invokevirtual 221, 3) := dk_182 0 221 (dk_at dksX6_writeStep_0 4 rfl rfl)
theorem dX6_writeStep_7 : decode cX6_writeStep 7 = .ok (.ifCond .eq 5, 3) := dk_153 0 5 (dk_at dksX6_writeStep_0 7 rfl rfl)
theorem dX6_writeStep_10 : decode cX6_writeStep 10 = .ok (.iconst 0, 1) := dk_3 (dk_at dksX6_writeStep_0 10 rfl rfl)
theorem dX6_writeStep_11 : decode cX6_writeStep 11 = .ok (.ireturn, 1) := dk_172 (dk_at dksX6_writeStep_0 11 rfl rfl)
theorem dX6_writeStep_12 : decode cX6_writeStep 12 = .ok (.iload_n 1, 1) := dk_27 (dk_at dksX6_writeStep_0 12 rfl rfl)
theorem dX6_writeStep_13 : decode cX6_writeStep 13 = .ok (.iload_n 2, 1) := dk_28 (dk_at dksX6_writeStep_0 13 rfl rfl)
theorem dX6_writeStep_14 : decode cX6_writeStep 14 = .ok (.iload_n 3, 1) := dk_29 (dk_at dksX6_writeStep_0 14 rfl rfl)
theorem dX6_writeStep_15 : decode cX6_writeStep 15 = .ok (.invokestatic 168, 3) := dk_184 0 168 (dk_at dksX6_writeStep_0 15 rfl rfl)
theorem dX6_writeStep_18 : decode cX6_writeStep 18 = .ok (.istore 4, 2) := dk_54 4 (dk_at dksX6_writeStep_0 18 rfl rfl)
theorem dX6_writeStep_20 : decode cX6_writeStep 20 = .ok (.aload_n 0, 1) := dk_42 (dk_at dksX6_writeStep_0 20 rfl rfl)
theorem dX6_writeStep_21 : decode cX6_writeStep 21 = .ok (.iconst 0, 1) := dk_3 (dk_at dksX6_writeStep_0 21 rfl rfl)
theorem dX6_writeStep_22 : decode cX6_writeStep 22 = .ok (.putfield 350, 3) := dk_181 1 94 (dk_at dksX6_writeStep_1 0 rfl rfl)
theorem dX6_writeStep_25 : decode cX6_writeStep 25 = .ok (.aload_n 0, 1) := dk_42 (dk_at dksX6_writeStep_1 3 rfl rfl)
theorem dX6_writeStep_26 : decode cX6_writeStep 26 = .ok (.iload 4, 2) := dk_21 4 (dk_at dksX6_writeStep_1 4 rfl rfl)
theorem dX6_writeStep_28 : decode cX6_writeStep 28 = .ok (.invokevirtual 364, 3) := dk_182 1 108 (dk_at dksX6_writeStep_1 6 rfl rfl)
theorem dX6_writeStep_31 : decode cX6_writeStep 31 = .ok (.aload_n 0, 1) := dk_42 (dk_at dksX6_writeStep_1 9 rfl rfl)
theorem dX6_writeStep_32 : decode cX6_writeStep 32 = .ok (.getfield 25, 3) := dk_180 0 25 (dk_at dksX6_writeStep_1 10 rfl rfl)
theorem dX6_writeStep_35 : decode cX6_writeStep 35 = .ok (.iload 4, 2) := dk_21 4 (dk_at dksX6_writeStep_1 13 rfl rfl)
theorem dX6_writeStep_37 : decode cX6_writeStep 37 = .ok (.iaload, 1) := dk_46 (dk_at dksX6_writeStep_1 15 rfl rfl)
theorem dX6_writeStep_38 : decode cX6_writeStep 38 = .ok (.ifCond .ge 15, 3) := dk_156 0 15 (dk_at dksX6_writeStep_1 16 rfl rfl)
theorem dX6_writeStep_41 : decode cX6_writeStep 41 = .ok (.aload_n 0, 1) := dk_42 (dk_at dksX6_writeStep_1 19 rfl rfl)
theorem dX6_writeStep_42 : decode cX6_writeStep 42 = .ok (.ldc_w 367, 3) := dk_19 1 111 (dk_at dksX6_writeStep_1 20 rfl rfl)
theorem dX6_writeStep_45 : decode cX6_writeStep 45 = .ok (.invokevirtual 360, 3) := dk_182 1 104 (dk_at dksX6_writeStep_2 0 rfl rfl)
theorem dX6_writeStep_48 : decode cX6_writeStep 48 = .ok (.aload_n 0, 1) := dk_42 (dk_at dksX6_writeStep_2 3 rfl rfl)
theorem dX6_writeStep_49 : decode cX6_writeStep 49 = .ok (.getfield 350, 3) := dk_180 1 94 (dk_at dksX6_writeStep_2 4 rfl rfl)
theorem dX6_writeStep_52 : decode cX6_writeStep 52 = .ok (.ireturn, 1) := dk_172 (dk_at dksX6_writeStep_2 7 rfl rfl)
theorem dX6_writeStep_53 : decode cX6_writeStep 53 = .ok (.aload_n 0, 1) := dk_42 (dk_at dksX6_writeStep_2 8 rfl rfl)
theorem dX6_writeStep_54 : decode cX6_writeStep 54 = .ok (.ldc_w 369, 3) := dk_19 1 113 (dk_at dksX6_writeStep_2 9 rfl rfl)
theorem dX6_writeStep_57 : decode cX6_writeStep 57 = .ok (.invokevirtual 360, 3) := dk_182 1 104 (dk_at dksX6_writeStep_2 12 rfl rfl)
theorem dX6_writeStep_60 : decode cX6_writeStep 60 = .ok (.aload_n 0, 1) := dk_42 (dk_at dksX6_writeStep_2 15 rfl rfl)
theorem dX6_writeStep_61 : decode cX6_writeStep 61 = .ok (.bipush 48, 2) := dk_16 48 (dk_at dksX6_writeStep_2 16 rfl rfl)
theorem dX6_writeStep_63 : decode cX6_writeStep 63 = .ok (.aload_n 0, 1) := dk_42 (dk_at dksX6_writeStep_2 18 rfl rfl)
theorem dX6_writeStep_64 : decode cX6_writeStep 64 = .ok (.getfield 25, 3) := dk_180 0 25 (dk_at dksX6_writeStep_2 19 rfl rfl)
theorem dX6_writeStep_67 : decode cX6_writeStep 67 = .ok (.iload 4, 2) := dk_21 4 (dk_at dksX6_writeStep_2 22 rfl rfl)
theorem dX6_writeStep_69 : decode cX6_writeStep 69 = .ok (.iaload, 1) := dk_46 (dk_at dksX6_writeStep_3 0 rfl rfl)
theorem dX6_writeStep_70 : decode cX6_writeStep 70 = .ok (.sipush 1000, 3) := dk_17 3 232 (dk_at dksX6_writeStep_3 1 rfl rfl)
theorem dX6_writeStep_73 : decode cX6_writeStep 73 = .ok (.idiv, 1) := dk_108 (dk_at dksX6_writeStep_3 4 rfl rfl)
theorem dX6_writeStep_74 : decode cX6_writeStep 74 = .ok (.iadd, 1) := dk_96 (dk_at dksX6_writeStep_3 5 rfl rfl)
theorem dX6_writeStep_75 : decode cX6_writeStep 75 = .ok (.invokevirtual 353, 3) := dk_182 1 97 (dk_at dksX6_writeStep_3 6 rfl rfl)
theorem dX6_writeStep_78 : decode cX6_writeStep 78 = .ok (.aload_n 0, 1) := dk_42 (dk_at dksX6_writeStep_3 9 rfl rfl)
theorem dX6_writeStep_79 : decode cX6_writeStep 79 = .ok (.aload_n 0, 1) := dk_42 (dk_at dksX6_writeStep_3 10 rfl rfl)
theorem dX6_writeStep_80 : decode cX6_writeStep 80 = .ok (.getfield 25, 3) := dk_180 0 25 (dk_at dksX6_writeStep_3 11 rfl rfl)
theorem dX6_writeStep_83 : decode cX6_writeStep 83 = .ok (.iload 4, 2) := dk_21 4 (dk_at dksX6_writeStep_3 14 rfl rfl)
theorem dX6_writeStep_85 : decode cX6_writeStep 85 = .ok (.iaload, 1) := dk_46 (dk_at dksX6_writeStep_3 16 rfl rfl)
theorem dX6_writeStep_86 : decode cX6_writeStep 86 = .ok (.invokevirtual 371, 3) := dk_182 1 115 (dk_at dksX6_writeStep_3 17 rfl rfl)
theorem dX6_writeStep_89 : decode cX6_writeStep 89 = .ok (.aload_n 0, 1) := dk_42 (dk_at dksX6_writeStep_3 20 rfl rfl)
theorem dX6_writeStep_90 : decode cX6_writeStep 90 = .ok (.getfield 350, 3) := dk_180 1 94 (dk_at dksX6_writeStep_3 21 rfl rfl)
theorem dX6_writeStep_93 : decode cX6_writeStep 93 = .ok (.ireturn, 1) := dk_172 (dk_at dksX6_writeStep_4 0 rfl rfl)
abbrev cX6_writesFact : ByteArray := prog_28_method_109_code
def yX6_writesFact : MethodName := ⟨RX6, "writesFact", "(I)V"⟩
def dkwX6_writesFact_2 : List UInt8 := [16, 48, 27, 16, 10, 112, 96, 182, 1, 97, 42, 16, 41, 182, 1, 97, 177]
abbrev dktX6_writesFact_2 : List UInt8 := dkwX6_writesFact_2 ++ []
def dkwX6_writesFact_1 : List UInt8 := [153, 0, 23, 42, 16, 48, 27, 16, 10, 108, 16, 10, 112, 96, 182, 1, 97, 42, 16, 44, 182, 1, 97, 42]
abbrev dktX6_writesFact_1 : List UInt8 := dkwX6_writesFact_1 ++ dktX6_writesFact_2
def dkwX6_writesFact_0 : List UInt8 := [27, 184, 0, 236, 61, 42, 16, 97, 28, 96, 182, 1, 97, 42, 16, 40, 182, 1, 97, 28, 184, 0, 85]
abbrev dktX6_writesFact_0 : List UInt8 := dkwX6_writesFact_0 ++ dktX6_writesFact_1
theorem dksX6_writesFact_0 : cX6_writesFact.data.toList.drop 0 = dktX6_writesFact_0 := by decide +kernel
theorem dksX6_writesFact_1 : cX6_writesFact.data.toList.drop 23 = dktX6_writesFact_1 := dk_seg dksX6_writesFact_0 23 rfl rfl
theorem dksX6_writesFact_2 : cX6_writesFact.data.toList.drop 47 = dktX6_writesFact_2 := dk_seg dksX6_writesFact_1 24 rfl rfl
theorem dX6_writesFact_0 : decode cX6_writesFact 0 = .ok (.iload_n 1, 1) := dk_27 (dk_at dksX6_writesFact_0 0 rfl rfl)
theorem dX6_writesFact_1 : decode cX6_writesFact 1 = .ok (.invokestatic 236, 3) := dk_184 0 236 (dk_at dksX6_writesFact_0 1 rfl rfl)
theorem dX6_writesFact_4 : decode cX6_writesFact 4 = .ok (.istore_n 2, 1) := dk_61 (dk_at dksX6_writesFact_0 4 rfl rfl)
theorem dX6_writesFact_5 : decode cX6_writesFact 5 = .ok (.aload_n 0, 1) := dk_42 (dk_at dksX6_writesFact_0 5 rfl rfl)
theorem dX6_writesFact_6 : decode cX6_writesFact 6 = .ok (.bipush 97, 2) := dk_16 97 (dk_at dksX6_writesFact_0 6 rfl rfl)
theorem dX6_writesFact_8 : decode cX6_writesFact 8 = .ok (.iload_n 2, 1) := dk_28 (dk_at dksX6_writesFact_0 8 rfl rfl)
theorem dX6_writesFact_9 : decode cX6_writesFact 9 = .ok (.iadd, 1) := dk_96 (dk_at dksX6_writesFact_0 9 rfl rfl)
theorem dX6_writesFact_10 : decode cX6_writesFact 10 = .ok (.invokevirtual 353, 3) := dk_182 1 97 (dk_at dksX6_writesFact_0 10 rfl rfl)
theorem dX6_writesFact_13 : decode cX6_writesFact 13 = .ok (.aload_n 0, 1) := dk_42 (dk_at dksX6_writesFact_0 13 rfl rfl)
theorem dX6_writesFact_14 : decode cX6_writesFact 14 = .ok (.bipush 40, 2) := dk_16 40 (dk_at dksX6_writesFact_0 14 rfl rfl)
theorem dX6_writesFact_16 : decode cX6_writesFact 16 = .ok (.invokevirtual 353, 3) := dk_182 1 97 (dk_at dksX6_writesFact_0 16 rfl rfl)
theorem dX6_writesFact_19 : decode cX6_writesFact 19 = .ok (.iload_n 2, 1) := dk_28 (dk_at dksX6_writesFact_0 19 rfl rfl)
theorem dX6_writesFact_20 : decode cX6_writesFact 20 = .ok (.invokestatic 85, 3) := dk_184 0 85 (dk_at dksX6_writesFact_0 20 rfl rfl)
theorem dX6_writesFact_23 : decode cX6_writesFact 23 = .ok (.ifCond .eq 23, 3) := dk_153 0 23 (dk_at dksX6_writesFact_1 0 rfl rfl)
theorem dX6_writesFact_26 : decode cX6_writesFact 26 = .ok (.aload_n 0, 1) := dk_42 (dk_at dksX6_writesFact_1 3 rfl rfl)
theorem dX6_writesFact_27 : decode cX6_writesFact 27 = .ok (.bipush 48, 2) := dk_16 48 (dk_at dksX6_writesFact_1 4 rfl rfl)
theorem dX6_writesFact_29 : decode cX6_writesFact 29 = .ok (.iload_n 1, 1) := dk_27 (dk_at dksX6_writesFact_1 6 rfl rfl)
theorem dX6_writesFact_30 : decode cX6_writesFact 30 = .ok (.bipush 10, 2) := dk_16 10 (dk_at dksX6_writesFact_1 7 rfl rfl)
theorem dX6_writesFact_32 : decode cX6_writesFact 32 = .ok (.idiv, 1) := dk_108 (dk_at dksX6_writesFact_1 9 rfl rfl)
theorem dX6_writesFact_33 : decode cX6_writesFact 33 = .ok (.bipush 10, 2) := dk_16 10 (dk_at dksX6_writesFact_1 10 rfl rfl)
theorem dX6_writesFact_35 : decode cX6_writesFact 35 = .ok (.irem, 1) := dk_112 (dk_at dksX6_writesFact_1 12 rfl rfl)
theorem dX6_writesFact_36 : decode cX6_writesFact 36 = .ok (.iadd, 1) := dk_96 (dk_at dksX6_writesFact_1 13 rfl rfl)
theorem dX6_writesFact_37 : decode cX6_writesFact 37 = .ok (.invokevirtual 353, 3) := dk_182 1 97 (dk_at dksX6_writesFact_1 14 rfl rfl)
theorem dX6_writesFact_40 : decode cX6_writesFact 40 = .ok (.aload_n 0, 1) := dk_42 (dk_at dksX6_writesFact_1 17 rfl rfl)
theorem dX6_writesFact_41 : decode cX6_writesFact 41 = .ok (.bipush 44, 2) := dk_16 44 (dk_at dksX6_writesFact_1 18 rfl rfl)
theorem dX6_writesFact_43 : decode cX6_writesFact 43 = .ok (.invokevirtual 353, 3) := dk_182 1 97 (dk_at dksX6_writesFact_1 20 rfl rfl)
theorem dX6_writesFact_46 : decode cX6_writesFact 46 = .ok (.aload_n 0, 1) := dk_42 (dk_at dksX6_writesFact_1 23 rfl rfl)
theorem dX6_writesFact_47 : decode cX6_writesFact 47 = .ok (.bipush 48, 2) := dk_16 48 (dk_at dksX6_writesFact_2 0 rfl rfl)
theorem dX6_writesFact_49 : decode cX6_writesFact 49 = .ok (.iload_n 1, 1) := dk_27 (dk_at dksX6_writesFact_2 2 rfl rfl)
theorem dX6_writesFact_50 : decode cX6_writesFact 50 = .ok (.bipush 10, 2) := dk_16 10 (dk_at dksX6_writesFact_2 3 rfl rfl)
theorem dX6_writesFact_52 : decode cX6_writesFact 52 = .ok (.irem, 1) := dk_112 (dk_at dksX6_writesFact_2 5 rfl rfl)
theorem dX6_writesFact_53 : decode cX6_writesFact 53 = .ok (.iadd, 1) := dk_96 (dk_at dksX6_writesFact_2 6 rfl rfl)
theorem dX6_writesFact_54 : decode cX6_writesFact 54 = .ok (.invokevirtual 353, 3) := dk_182 1 97 (dk_at dksX6_writesFact_2 7 rfl rfl)
theorem dX6_writesFact_57 : decode cX6_writesFact 57 = .ok (.aload_n 0, 1) := dk_42 (dk_at dksX6_writesFact_2 10 rfl rfl)
theorem dX6_writesFact_58 : decode cX6_writesFact 58 = .ok (.bipush 41, 2) := dk_16 41 (dk_at dksX6_writesFact_2 11 rfl rfl)
theorem dX6_writesFact_60 : decode cX6_writesFact 60 = .ok (.invokevirtual 353, 3) := dk_182 1 97 (dk_at dksX6_writesFact_2 13 rfl rfl)
theorem dX6_writesFact_63 : decode cX6_writesFact 63 = .ok (.return_, 1) := dk_177 (dk_at dksX6_writesFact_2 16 rfl rfl)
abbrev cX6_writesAll : ByteArray := prog_28_method_108_code
def yX6_writesAll : MethodName := ⟨RX6, "writesAll", "(Ljava/lang/String;)V"⟩
def dkwX6_writesAll_1 : List UInt8 := [167, 255, 236, 177]
abbrev dktX6_writesAll_1 : List UInt8 := dkwX6_writesAll_1 ++ []
def dkwX6_writesAll_0 : List UInt8 := [3, 61, 28, 43, 182, 1, 12, 162, 0, 18, 42, 43, 28, 182, 1, 17, 182, 1, 97, 132, 2, 1]
abbrev dktX6_writesAll_0 : List UInt8 := dkwX6_writesAll_0 ++ dktX6_writesAll_1
theorem dksX6_writesAll_0 : cX6_writesAll.data.toList.drop 0 = dktX6_writesAll_0 := by decide +kernel
theorem dksX6_writesAll_1 : cX6_writesAll.data.toList.drop 22 = dktX6_writesAll_1 := dk_seg dksX6_writesAll_0 22 rfl rfl
theorem dX6_writesAll_0 : decode cX6_writesAll 0 = .ok (.iconst 0, 1) := dk_3 (dk_at dksX6_writesAll_0 0 rfl rfl)
theorem dX6_writesAll_1 : decode cX6_writesAll 1 = .ok (.istore_n 2, 1) := dk_61 (dk_at dksX6_writesAll_0 1 rfl rfl)
theorem dX6_writesAll_2 : decode cX6_writesAll 2 = .ok (.iload_n 2, 1) := dk_28 (dk_at dksX6_writesAll_0 2 rfl rfl)
theorem dX6_writesAll_3 : decode cX6_writesAll 3 = .ok (.aload_n 1, 1) := dk_43 (dk_at dksX6_writesAll_0 3 rfl rfl)
theorem dX6_writesAll_4 : decode cX6_writesAll 4 = .ok (.invokevirtual 268, 3) := dk_182 1 12 (dk_at dksX6_writesAll_0 4 rfl rfl)
theorem dX6_writesAll_7 : decode cX6_writesAll 7 = .ok (.if_icmp .ge 18, 3) := dk_162 0 18 (dk_at dksX6_writesAll_0 7 rfl rfl)
theorem dX6_writesAll_10 : decode cX6_writesAll 10 = .ok (.aload_n 0, 1) := dk_42 (dk_at dksX6_writesAll_0 10 rfl rfl)
theorem dX6_writesAll_11 : decode cX6_writesAll 11 = .ok (.aload_n 1, 1) := dk_43 (dk_at dksX6_writesAll_0 11 rfl rfl)
theorem dX6_writesAll_12 : decode cX6_writesAll 12 = .ok (.iload_n 2, 1) := dk_28 (dk_at dksX6_writesAll_0 12 rfl rfl)
theorem dX6_writesAll_13 : decode cX6_writesAll 13 = .ok (.invokevirtual 273, 3) := dk_182 1 17 (dk_at dksX6_writesAll_0 13 rfl rfl)
theorem dX6_writesAll_16 : decode cX6_writesAll 16 = .ok (.invokevirtual 353, 3) := dk_182 1 97 (dk_at dksX6_writesAll_0 16 rfl rfl)
theorem dX6_writesAll_19 : decode cX6_writesAll 19 = .ok (.iinc 2 1, 3) := dk_132 2 1 (dk_at dksX6_writesAll_0 19 rfl rfl)
theorem dX6_writesAll_22 : decode cX6_writesAll 22 = .ok (.goto (-20), 3) := dk_167 255 236 (dk_at dksX6_writesAll_1 0 rfl rfl)
theorem dX6_writesAll_25 : decode cX6_writesAll 25 = .ok (.return_, 1) := dk_177 (dk_at dksX6_writesAll_1 3 rfl rfl)
abbrev cX6_writesPremises : ByteArray := prog_28_method_111_code
def yX6_writesPremises : MethodName := ⟨RX6, "writesPremises", "(I)V"⟩
def dkwX6_writesPremises_3 : List UInt8 := [62, 132, 4, 1, 167, 255, 201, 177]
abbrev dktX6_writesPremises_3 : List UInt8 := dkwX6_writesPremises_3 ++ []
def dkwX6_writesPremises_2 : List UInt8 := [19, 1, 100, 167, 0, 6, 19, 1, 102, 182, 1, 104, 42, 42, 28, 21, 4, 182, 0, 114, 182, 1, 108, 3]
abbrev dktX6_writesPremises_2 : List UInt8 := dkwX6_writesPremises_2 ++ dktX6_writesPremises_3
def dkwX6_writesPremises_1 : List UInt8 := [6, 182, 0, 92, 162, 0, 50, 42, 28, 21, 4, 3, 182, 0, 96, 154, 0, 33, 42, 29, 153, 0, 9]
abbrev dktX6_writesPremises_1 : List UInt8 := dkwX6_writesPremises_1 ++ dktX6_writesPremises_2
def dkwX6_writesPremises_0 : List UInt8 := [27, 17, 3, 232, 108, 61, 42, 28, 27, 17, 3, 232, 112, 182, 0, 123, 62, 3, 54, 4, 21, 4, 42, 28]
abbrev dktX6_writesPremises_0 : List UInt8 := dkwX6_writesPremises_0 ++ dktX6_writesPremises_1
theorem dksX6_writesPremises_0 : cX6_writesPremises.data.toList.drop 0 = dktX6_writesPremises_0 := by decide +kernel
theorem dksX6_writesPremises_1 : cX6_writesPremises.data.toList.drop 24 = dktX6_writesPremises_1 := dk_seg dksX6_writesPremises_0 24 rfl rfl
theorem dksX6_writesPremises_2 : cX6_writesPremises.data.toList.drop 47 = dktX6_writesPremises_2 := dk_seg dksX6_writesPremises_1 23 rfl rfl
theorem dksX6_writesPremises_3 : cX6_writesPremises.data.toList.drop 71 = dktX6_writesPremises_3 := dk_seg dksX6_writesPremises_2 24 rfl rfl
theorem dX6_writesPremises_0 : decode cX6_writesPremises 0 = .ok (.iload_n 1, 1) := dk_27 (dk_at dksX6_writesPremises_0 0 rfl rfl)
theorem dX6_writesPremises_1 : decode cX6_writesPremises 1 = .ok (.sipush 1000, 3) := dk_17 3 232 (dk_at dksX6_writesPremises_0 1 rfl rfl)
theorem dX6_writesPremises_4 : decode cX6_writesPremises 4 = .ok (.idiv, 1) := dk_108 (dk_at dksX6_writesPremises_0 4 rfl rfl)
theorem dX6_writesPremises_5 : decode cX6_writesPremises 5 = .ok (.istore_n 2, 1) := dk_61 (dk_at dksX6_writesPremises_0 5 rfl rfl)
theorem dX6_writesPremises_6 : decode cX6_writesPremises 6 = .ok (.aload_n 0, 1) := dk_42 (dk_at dksX6_writesPremises_0 6 rfl rfl)
theorem dX6_writesPremises_7 : decode cX6_writesPremises 7 = .ok (.iload_n 2, 1) := dk_28 (dk_at dksX6_writesPremises_0 7 rfl rfl)
theorem dX6_writesPremises_8 : decode cX6_writesPremises 8 = .ok (.iload_n 1, 1) := dk_27 (dk_at dksX6_writesPremises_0 8 rfl rfl)
theorem dX6_writesPremises_9 : decode cX6_writesPremises 9 = .ok (.sipush 1000, 3) := dk_17 3 232 (dk_at dksX6_writesPremises_0 9 rfl rfl)
theorem dX6_writesPremises_12 : decode cX6_writesPremises 12 = .ok (.irem, 1) := dk_112 (dk_at dksX6_writesPremises_0 12 rfl rfl)
theorem dX6_writesPremises_13 : decode cX6_writesPremises 13 = .ok (.invokevirtual 123, 3) := dk_182 0 123 (dk_at dksX6_writesPremises_0 13 rfl rfl)
theorem dX6_writesPremises_16 : decode cX6_writesPremises 16 = .ok (.istore_n 3, 1) := dk_62 (dk_at dksX6_writesPremises_0 16 rfl rfl)
theorem dX6_writesPremises_17 : decode cX6_writesPremises 17 = .ok (.iconst 0, 1) := dk_3 (dk_at dksX6_writesPremises_0 17 rfl rfl)
theorem dX6_writesPremises_18 : decode cX6_writesPremises 18 = .ok (.istore 4, 2) := dk_54 4 (dk_at dksX6_writesPremises_0 18 rfl rfl)
theorem dX6_writesPremises_20 : decode cX6_writesPremises 20 = .ok (.iload 4, 2) := dk_21 4 (dk_at dksX6_writesPremises_0 20 rfl rfl)
theorem dX6_writesPremises_22 : decode cX6_writesPremises 22 = .ok (.aload_n 0, 1) := dk_42 (dk_at dksX6_writesPremises_0 22 rfl rfl)
theorem dX6_writesPremises_23 : decode cX6_writesPremises 23 = .ok (.iload_n 2, 1) := dk_28 (dk_at dksX6_writesPremises_0 23 rfl rfl)
theorem dX6_writesPremises_24 : decode cX6_writesPremises 24 = .ok (.iconst 3, 1) := dk_6 (dk_at dksX6_writesPremises_1 0 rfl rfl)
theorem dX6_writesPremises_25 : decode cX6_writesPremises 25 = .ok (.invokevirtual 92, 3) := dk_182 0 92 (dk_at dksX6_writesPremises_1 1 rfl rfl)
theorem dX6_writesPremises_28 : decode cX6_writesPremises 28 = .ok (.if_icmp .ge 50, 3) := dk_162 0 50 (dk_at dksX6_writesPremises_1 4 rfl rfl)
theorem dX6_writesPremises_31 : decode cX6_writesPremises 31 = .ok (.aload_n 0, 1) := dk_42 (dk_at dksX6_writesPremises_1 7 rfl rfl)
theorem dX6_writesPremises_32 : decode cX6_writesPremises 32 = .ok (.iload_n 2, 1) := dk_28 (dk_at dksX6_writesPremises_1 8 rfl rfl)
theorem dX6_writesPremises_33 : decode cX6_writesPremises 33 = .ok (.iload 4, 2) := dk_21 4 (dk_at dksX6_writesPremises_1 9 rfl rfl)
theorem dX6_writesPremises_35 : decode cX6_writesPremises 35 = .ok (.iconst 0, 1) := dk_3 (dk_at dksX6_writesPremises_1 11 rfl rfl)
theorem dX6_writesPremises_36 : decode cX6_writesPremises 36 = .ok (.invokevirtual 96, 3) := dk_182 0 96 (dk_at dksX6_writesPremises_1 12 rfl rfl)
theorem dX6_writesPremises_39 : decode cX6_writesPremises 39 = .ok (.ifCond .ne 33, 3) := dk_154 0 33 (dk_at dksX6_writesPremises_1 15 rfl rfl)
theorem dX6_writesPremises_42 : decode cX6_writesPremises 42 = .ok (.aload_n 0, 1) := dk_42 (dk_at dksX6_writesPremises_1 18 rfl rfl)
theorem dX6_writesPremises_43 : decode cX6_writesPremises 43 = .ok (.iload_n 3, 1) := dk_29 (dk_at dksX6_writesPremises_1 19 rfl rfl)
theorem dX6_writesPremises_44 : decode cX6_writesPremises 44 = .ok (.ifCond .eq 9, 3) := dk_153 0 9 (dk_at dksX6_writesPremises_1 20 rfl rfl)
theorem dX6_writesPremises_47 : decode cX6_writesPremises 47 = .ok (.ldc_w 356, 3) := dk_19 1 100 (dk_at dksX6_writesPremises_2 0 rfl rfl)
theorem dX6_writesPremises_50 : decode cX6_writesPremises 50 = .ok (.goto 6, 3) := dk_167 0 6 (dk_at dksX6_writesPremises_2 3 rfl rfl)
theorem dX6_writesPremises_53 : decode cX6_writesPremises 53 = .ok (.ldc_w 358, 3) := dk_19 1 102 (dk_at dksX6_writesPremises_2 6 rfl rfl)
theorem dX6_writesPremises_56 : decode cX6_writesPremises 56 = .ok (.invokevirtual 360, 3) := dk_182 1 104 (dk_at dksX6_writesPremises_2 9 rfl rfl)
theorem dX6_writesPremises_59 : decode cX6_writesPremises 59 = .ok (.aload_n 0, 1) := dk_42 (dk_at dksX6_writesPremises_2 12 rfl rfl)
theorem dX6_writesPremises_60 : decode cX6_writesPremises 60 = .ok (.aload_n 0, 1) := dk_42 (dk_at dksX6_writesPremises_2 13 rfl rfl)
theorem dX6_writesPremises_61 : decode cX6_writesPremises 61 = .ok (.iload_n 2, 1) := dk_28 (dk_at dksX6_writesPremises_2 14 rfl rfl)
theorem dX6_writesPremises_62 : decode cX6_writesPremises 62 = .ok (.iload 4, 2) := dk_21 4 (dk_at dksX6_writesPremises_2 15 rfl rfl)
theorem dX6_writesPremises_64 : decode cX6_writesPremises 64 = .ok (.invokevirtual 114, 3) := dk_182 0 114 (dk_at dksX6_writesPremises_2 17 rfl rfl)
theorem dX6_writesPremises_67 : decode cX6_writesPremises 67 = .ok (.invokevirtual 364, 3) := dk_182 1 108 (dk_at dksX6_writesPremises_2 20 rfl rfl)
theorem dX6_writesPremises_70 : decode cX6_writesPremises 70 = .ok (.iconst 0, 1) := dk_3 (dk_at dksX6_writesPremises_2 23 rfl rfl)
theorem dX6_writesPremises_71 : decode cX6_writesPremises 71 = .ok (.istore_n 3, 1) := dk_62 (dk_at dksX6_writesPremises_3 0 rfl rfl)
theorem dX6_writesPremises_72 : decode cX6_writesPremises 72 = .ok (.iinc 4 1, 3) := dk_132 4 1 (dk_at dksX6_writesPremises_3 1 rfl rfl)
theorem dX6_writesPremises_75 : decode cX6_writesPremises 75 = .ok (.goto (-55), 3) := dk_167 255 201 (dk_at dksX6_writesPremises_3 4 rfl rfl)
theorem dX6_writesPremises_78 : decode cX6_writesPremises 78 = .ok (.return_, 1) := dk_177 (dk_at dksX6_writesPremises_3 7 rfl rfl)
abbrev cX6_writeGiven : ByteArray := prog_28_method_113_code
def yX6_writeGiven : MethodName := ⟨RX6, "writeGiven", "()I"⟩
def dkwX6_writeGiven_2 : List UInt8 := [182, 1, 108, 132, 1, 1, 167, 255, 216, 42, 180, 1, 94, 172]
abbrev dktX6_writeGiven_2 : List UInt8 := dkwX6_writeGiven_2 ++ []
def dkwX6_writeGiven_1 : List UInt8 := [27, 96, 46, 4, 160, 0, 21, 42, 180, 1, 94, 158, 0, 9, 42, 16, 32, 182, 1, 97, 42, 27]
abbrev dktX6_writeGiven_1 : List UInt8 := dkwX6_writeGiven_1 ++ dktX6_writeGiven_2
def dkwX6_writeGiven_0 : List UInt8 := [42, 3, 181, 0, 63, 42, 3, 181, 1, 94, 3, 60, 27, 17, 1, 184, 162, 0, 39, 42, 180, 0, 9, 7]
abbrev dktX6_writeGiven_0 : List UInt8 := dkwX6_writeGiven_0 ++ dktX6_writeGiven_1
theorem dksX6_writeGiven_0 : cX6_writeGiven.data.toList.drop 0 = dktX6_writeGiven_0 := by decide +kernel
theorem dksX6_writeGiven_1 : cX6_writeGiven.data.toList.drop 24 = dktX6_writeGiven_1 := dk_seg dksX6_writeGiven_0 24 rfl rfl
theorem dksX6_writeGiven_2 : cX6_writeGiven.data.toList.drop 46 = dktX6_writeGiven_2 := dk_seg dksX6_writeGiven_1 22 rfl rfl
theorem dX6_writeGiven_0 : decode cX6_writeGiven 0 = .ok (.aload_n 0, 1) := dk_42 (dk_at dksX6_writeGiven_0 0 rfl rfl)
theorem dX6_writeGiven_1 : decode cX6_writeGiven 1 = .ok (.iconst 0, 1) := dk_3 (dk_at dksX6_writeGiven_0 1 rfl rfl)
theorem dX6_writeGiven_2 : decode cX6_writeGiven 2 = .ok (.putfield 63, 3) := dk_181 0 63 (dk_at dksX6_writeGiven_0 2 rfl rfl)
theorem dX6_writeGiven_5 : decode cX6_writeGiven 5 = .ok (.aload_n 0, 1) := dk_42 (dk_at dksX6_writeGiven_0 5 rfl rfl)
theorem dX6_writeGiven_6 : decode cX6_writeGiven 6 = .ok (.iconst 0, 1) := dk_3 (dk_at dksX6_writeGiven_0 6 rfl rfl)
theorem dX6_writeGiven_7 : decode cX6_writeGiven 7 = .ok (.putfield 350, 3) := dk_181 1 94 (dk_at dksX6_writeGiven_0 7 rfl rfl)
theorem dX6_writeGiven_10 : decode cX6_writeGiven 10 = .ok (.iconst 0, 1) := dk_3 (dk_at dksX6_writeGiven_0 10 rfl rfl)
theorem dX6_writeGiven_11 : decode cX6_writeGiven 11 = .ok (.istore_n 1, 1) := dk_60 (dk_at dksX6_writeGiven_0 11 rfl rfl)
theorem dX6_writeGiven_12 : decode cX6_writeGiven 12 = .ok (.iload_n 1, 1) := dk_27 (dk_at dksX6_writeGiven_0 12 rfl rfl)
theorem dX6_writeGiven_13 : decode cX6_writeGiven 13 = .ok (.sipush 440, 3) := dk_17 1 184 (dk_at dksX6_writeGiven_0 13 rfl rfl)
theorem dX6_writeGiven_16 : decode cX6_writeGiven 16 = .ok (.if_icmp .ge 39, 3) := dk_162 0 39 (dk_at dksX6_writeGiven_0 16 rfl rfl)
theorem dX6_writeGiven_19 : decode cX6_writeGiven 19 = .ok (.aload_n 0, 1) := dk_42 (dk_at dksX6_writeGiven_0 19 rfl rfl)
theorem dX6_writeGiven_20 : decode cX6_writeGiven 20 = .ok (.getfield 9, 3) := dk_180 0 9 (dk_at dksX6_writeGiven_0 20 rfl rfl)
theorem dX6_writeGiven_23 : decode cX6_writeGiven 23 = .ok (.iconst 4, 1) := dk_7 (dk_at dksX6_writeGiven_0 23 rfl rfl)
theorem dX6_writeGiven_24 : decode cX6_writeGiven 24 = .ok (.iload_n 1, 1) := dk_27 (dk_at dksX6_writeGiven_1 0 rfl rfl)
theorem dX6_writeGiven_25 : decode cX6_writeGiven 25 = .ok (.iadd, 1) := dk_96 (dk_at dksX6_writeGiven_1 1 rfl rfl)
theorem dX6_writeGiven_26 : decode cX6_writeGiven 26 = .ok (.iaload, 1) := dk_46 (dk_at dksX6_writeGiven_1 2 rfl rfl)
theorem dX6_writeGiven_27 : decode cX6_writeGiven 27 = .ok (.iconst 1, 1) := dk_4 (dk_at dksX6_writeGiven_1 3 rfl rfl)
theorem dX6_writeGiven_28 : decode cX6_writeGiven 28 = .ok (.if_icmp .ne 21, 3) := dk_160 0 21 (dk_at dksX6_writeGiven_1 4 rfl rfl)
theorem dX6_writeGiven_31 : decode cX6_writeGiven 31 = .ok (.aload_n 0, 1) := dk_42 (dk_at dksX6_writeGiven_1 7 rfl rfl)
theorem dX6_writeGiven_32 : decode cX6_writeGiven 32 = .ok (.getfield 350, 3) := dk_180 1 94 (dk_at dksX6_writeGiven_1 8 rfl rfl)
theorem dX6_writeGiven_35 : decode cX6_writeGiven 35 = .ok (.ifCond .le 9, 3) := dk_158 0 9 (dk_at dksX6_writeGiven_1 11 rfl rfl)
theorem dX6_writeGiven_38 : decode cX6_writeGiven 38 = .ok (.aload_n 0, 1) := dk_42 (dk_at dksX6_writeGiven_1 14 rfl rfl)
theorem dX6_writeGiven_39 : decode cX6_writeGiven 39 = .ok (.bipush 32, 2) := dk_16 32 (dk_at dksX6_writeGiven_1 15 rfl rfl)
theorem dX6_writeGiven_41 : decode cX6_writeGiven 41 = .ok (.invokevirtual 353, 3) := dk_182 1 97 (dk_at dksX6_writeGiven_1 17 rfl rfl)
theorem dX6_writeGiven_44 : decode cX6_writeGiven 44 = .ok (.aload_n 0, 1) := dk_42 (dk_at dksX6_writeGiven_1 20 rfl rfl)
theorem dX6_writeGiven_45 : decode cX6_writeGiven 45 = .ok (.iload_n 1, 1) := dk_27 (dk_at dksX6_writeGiven_1 21 rfl rfl)
theorem dX6_writeGiven_46 : decode cX6_writeGiven 46 = .ok (.invokevirtual 364, 3) := dk_182 1 108 (dk_at dksX6_writeGiven_2 0 rfl rfl)
theorem dX6_writeGiven_49 : decode cX6_writeGiven 49 = .ok (.iinc 1 1, 3) := dk_132 1 1 (dk_at dksX6_writeGiven_2 3 rfl rfl)
theorem dX6_writeGiven_52 : decode cX6_writeGiven 52 = .ok (.goto (-40), 3) := dk_167 255 216 (dk_at dksX6_writeGiven_2 6 rfl rfl)
theorem dX6_writeGiven_55 : decode cX6_writeGiven 55 = .ok (.aload_n 0, 1) := dk_42 (dk_at dksX6_writeGiven_2 9 rfl rfl)
theorem dX6_writeGiven_56 : decode cX6_writeGiven 56 = .ok (.getfield 350, 3) := dk_180 1 94 (dk_at dksX6_writeGiven_2 10 rfl rfl)
theorem dX6_writeGiven_59 : decode cX6_writeGiven 59 = .ok (.ireturn, 1) := dk_172 (dk_at dksX6_writeGiven_2 13 rfl rfl)
abbrev cX6_outputAt : ByteArray := prog_28_method_114_code
def yX6_outputAt : MethodName := ⟨RX6, "outputAt", "(I)C"⟩
def dkwX6_outputAt_1 : List UInt8 := [153, 0, 7, 3, 167, 0, 10, 42, 180, 0, 60, 27, 46, 146, 172]
abbrev dktX6_outputAt_1 : List UInt8 := dkwX6_outputAt_1 ++ []
def dkwX6_outputAt_0 : List UInt8 := [42, 27, 3, 42, 180, 1, 94, 4, 100, 184, 0, 77, 154, 0, 7, 4, 167, 0, 4, 3, 4, 182, 0, 164]
abbrev dktX6_outputAt_0 : List UInt8 := dkwX6_outputAt_0 ++ dktX6_outputAt_1
theorem dksX6_outputAt_0 : cX6_outputAt.data.toList.drop 0 = dktX6_outputAt_0 := by decide +kernel
theorem dksX6_outputAt_1 : cX6_outputAt.data.toList.drop 24 = dktX6_outputAt_1 := dk_seg dksX6_outputAt_0 24 rfl rfl
theorem dX6_outputAt_0 : decode cX6_outputAt 0 = .ok (.aload_n 0, 1) := dk_42 (dk_at dksX6_outputAt_0 0 rfl rfl)
theorem dX6_outputAt_1 : decode cX6_outputAt 1 = .ok (.iload_n 1, 1) := dk_27 (dk_at dksX6_outputAt_0 1 rfl rfl)
theorem dX6_outputAt_2 : decode cX6_outputAt 2 = .ok (.iconst 0, 1) := dk_3 (dk_at dksX6_outputAt_0 2 rfl rfl)
theorem dX6_outputAt_3 : decode cX6_outputAt 3 = .ok (.aload_n 0, 1) := dk_42 (dk_at dksX6_outputAt_0 3 rfl rfl)
theorem dX6_outputAt_4 : decode cX6_outputAt 4 = .ok (.getfield 350, 3) := dk_180 1 94 (dk_at dksX6_outputAt_0 4 rfl rfl)
theorem dX6_outputAt_7 : decode cX6_outputAt 7 = .ok (.iconst 1, 1) := dk_4 (dk_at dksX6_outputAt_0 7 rfl rfl)
theorem dX6_outputAt_8 : decode cX6_outputAt 8 = .ok (.isub, 1) := dk_100 (dk_at dksX6_outputAt_0 8 rfl rfl)
theorem dX6_outputAt_9 : decode cX6_outputAt 9 = .ok (.invokestatic 77, 3) := dk_184 0 77 (dk_at dksX6_outputAt_0 9 rfl rfl)
theorem dX6_outputAt_12 : decode cX6_outputAt 12 = .ok (.ifCond .ne 7, 3) := dk_154 0 7 (dk_at dksX6_outputAt_0 12 rfl rfl)
theorem dX6_outputAt_15 : decode cX6_outputAt 15 = .ok (.iconst 1, 1) := dk_4 (dk_at dksX6_outputAt_0 15 rfl rfl)
theorem dX6_outputAt_16 : decode cX6_outputAt 16 = .ok (.goto 4, 3) := dk_167 0 4 (dk_at dksX6_outputAt_0 16 rfl rfl)
theorem dX6_outputAt_19 : decode cX6_outputAt 19 = .ok (.iconst 0, 1) := dk_3 (dk_at dksX6_outputAt_0 19 rfl rfl)
theorem dX6_outputAt_20 : decode cX6_outputAt 20 = .ok (.iconst 1, 1) := dk_4 (dk_at dksX6_outputAt_0 20 rfl rfl)
theorem dX6_outputAt_21 : decode cX6_outputAt 21 = .ok (.invokevirtual 164, 3) := dk_182 0 164 (dk_at dksX6_outputAt_0 21 rfl rfl)
theorem dX6_outputAt_24 : decode cX6_outputAt 24 = .ok (.ifCond .eq 7, 3) := dk_153 0 7 (dk_at dksX6_outputAt_1 0 rfl rfl)
theorem dX6_outputAt_27 : decode cX6_outputAt 27 = .ok (.iconst 0, 1) := dk_3 (dk_at dksX6_outputAt_1 3 rfl rfl)
theorem dX6_outputAt_28 : decode cX6_outputAt 28 = .ok (.goto 10, 3) := dk_167 0 10 (dk_at dksX6_outputAt_1 4 rfl rfl)
theorem dX6_outputAt_31 : decode cX6_outputAt 31 = .ok (.aload_n 0, 1) := dk_42 (dk_at dksX6_outputAt_1 7 rfl rfl)
theorem dX6_outputAt_32 : decode cX6_outputAt 32 = .ok (.getfield 60, 3) := dk_180 0 60 (dk_at dksX6_outputAt_1 8 rfl rfl)
theorem dX6_outputAt_35 : decode cX6_outputAt 35 = .ok (.iload_n 1, 1) := dk_27 (dk_at dksX6_outputAt_1 11 rfl rfl)
theorem dX6_outputAt_36 : decode cX6_outputAt 36 = .ok (.iaload, 1) := dk_46 (dk_at dksX6_outputAt_1 12 rfl rfl)
theorem dX6_outputAt_37 : decode cX6_outputAt 37 = .ok (.i2c, 1) := dk_146 (dk_at dksX6_outputAt_1 13 rfl rfl)
theorem dX6_outputAt_38 : decode cX6_outputAt 38 = .ok (.ireturn, 1) := dk_172 (dk_at dksX6_outputAt_1 14 rfl rfl)
abbrev cX6_undo : ByteArray := prog_28_method_115_code
def yX6_undo : MethodName := ⟨RX6, "undo", "()I"⟩
def dkwX6_undo_2 : List UInt8 := [3, 184, 0, 66, 42, 3, 181, 0, 70, 42, 180, 0, 74, 172]
abbrev dktX6_undo_2 : List UInt8 := dkwX6_undo_2 ++ []
def dkwX6_undo_1 : List UInt8 := [180, 0, 74, 4, 100, 181, 0, 74, 42, 180, 0, 19, 17, 4, 104, 42, 180, 0, 74, 104, 42, 180, 0, 9]
abbrev dktX6_undo_1 : List UInt8 := dkwX6_undo_1 ++ dktX6_undo_2
def dkwX6_undo_0 : List UInt8 := [42, 42, 180, 0, 74, 154, 0, 7, 4, 167, 0, 4, 3, 4, 182, 0, 164, 153, 0, 5, 3, 172, 42, 89]
abbrev dktX6_undo_0 : List UInt8 := dkwX6_undo_0 ++ dktX6_undo_1
theorem dksX6_undo_0 : cX6_undo.data.toList.drop 0 = dktX6_undo_0 := by decide +kernel
theorem dksX6_undo_1 : cX6_undo.data.toList.drop 24 = dktX6_undo_1 := dk_seg dksX6_undo_0 24 rfl rfl
theorem dksX6_undo_2 : cX6_undo.data.toList.drop 48 = dktX6_undo_2 := dk_seg dksX6_undo_1 24 rfl rfl
theorem dX6_undo_0 : decode cX6_undo 0 = .ok (.aload_n 0, 1) := dk_42 (dk_at dksX6_undo_0 0 rfl rfl)
theorem dX6_undo_1 : decode cX6_undo 1 = .ok (.aload_n 0, 1) := dk_42 (dk_at dksX6_undo_0 1 rfl rfl)
theorem dX6_undo_2 : decode cX6_undo 2 = .ok (.getfield 74, 3) := dk_180 0 74 (dk_at dksX6_undo_0 2 rfl rfl)
theorem dX6_undo_5 : decode cX6_undo 5 = .ok (.ifCond .ne 7, 3) := dk_154 0 7 (dk_at dksX6_undo_0 5 rfl rfl)
theorem dX6_undo_8 : decode cX6_undo 8 = .ok (.iconst 1, 1) := dk_4 (dk_at dksX6_undo_0 8 rfl rfl)
theorem dX6_undo_9 : decode cX6_undo 9 = .ok (.goto 4, 3) := dk_167 0 4 (dk_at dksX6_undo_0 9 rfl rfl)
theorem dX6_undo_12 : decode cX6_undo 12 = .ok (.iconst 0, 1) := dk_3 (dk_at dksX6_undo_0 12 rfl rfl)
theorem dX6_undo_13 : decode cX6_undo 13 = .ok (.iconst 1, 1) := dk_4 (dk_at dksX6_undo_0 13 rfl rfl)
theorem dX6_undo_14 : decode cX6_undo 14 = .ok (.invokevirtual 164, 3) := dk_182 0 164 (dk_at dksX6_undo_0 14 rfl rfl)
theorem dX6_undo_17 : decode cX6_undo 17 = .ok (.ifCond .eq 5, 3) := dk_153 0 5 (dk_at dksX6_undo_0 17 rfl rfl)
theorem dX6_undo_20 : decode cX6_undo 20 = .ok (.iconst 0, 1) := dk_3 (dk_at dksX6_undo_0 20 rfl rfl)
theorem dX6_undo_21 : decode cX6_undo 21 = .ok (.ireturn, 1) := dk_172 (dk_at dksX6_undo_0 21 rfl rfl)
theorem dX6_undo_22 : decode cX6_undo 22 = .ok (.aload_n 0, 1) := dk_42 (dk_at dksX6_undo_0 22 rfl rfl)
theorem dX6_undo_23 : decode cX6_undo 23 = .ok (.dup, 1) := dk_89 (dk_at dksX6_undo_0 23 rfl rfl)
theorem dX6_undo_24 : decode cX6_undo 24 = .ok (.getfield 74, 3) := dk_180 0 74 (dk_at dksX6_undo_1 0 rfl rfl)
theorem dX6_undo_27 : decode cX6_undo 27 = .ok (.iconst 1, 1) := dk_4 (dk_at dksX6_undo_1 3 rfl rfl)
theorem dX6_undo_28 : decode cX6_undo 28 = .ok (.isub, 1) := dk_100 (dk_at dksX6_undo_1 4 rfl rfl)
theorem dX6_undo_29 : decode cX6_undo 29 = .ok (.putfield 74, 3) := dk_181 0 74 (dk_at dksX6_undo_1 5 rfl rfl)
theorem dX6_undo_32 : decode cX6_undo 32 = .ok (.aload_n 0, 1) := dk_42 (dk_at dksX6_undo_1 8 rfl rfl)
theorem dX6_undo_33 : decode cX6_undo 33 = .ok (.getfield 19, 3) := dk_180 0 19 (dk_at dksX6_undo_1 9 rfl rfl)
theorem dX6_undo_36 : decode cX6_undo 36 = .ok (.sipush 1128, 3) := dk_17 4 104 (dk_at dksX6_undo_1 12 rfl rfl)
theorem dX6_undo_39 : decode cX6_undo 39 = .ok (.aload_n 0, 1) := dk_42 (dk_at dksX6_undo_1 15 rfl rfl)
theorem dX6_undo_40 : decode cX6_undo 40 = .ok (.getfield 74, 3) := dk_180 0 74 (dk_at dksX6_undo_1 16 rfl rfl)
theorem dX6_undo_43 : decode cX6_undo 43 = .ok (.imul, 1) := dk_104 (dk_at dksX6_undo_1 19 rfl rfl)
theorem dX6_undo_44 : decode cX6_undo 44 = .ok (.aload_n 0, 1) := dk_42 (dk_at dksX6_undo_1 20 rfl rfl)
theorem dX6_undo_45 : decode cX6_undo 45 = .ok (.getfield 9, 3) := dk_180 0 9 (dk_at dksX6_undo_1 21 rfl rfl)
theorem dX6_undo_48 : decode cX6_undo 48 = .ok (.iconst 0, 1) := dk_3 (dk_at dksX6_undo_2 0 rfl rfl)
theorem dX6_undo_49 : decode cX6_undo 49 = .ok (.invokestatic 66, 3) := dk_184 0 66 (dk_at dksX6_undo_2 1 rfl rfl)
theorem dX6_undo_52 : decode cX6_undo 52 = .ok (.aload_n 0, 1) := dk_42 (dk_at dksX6_undo_2 4 rfl rfl)
theorem dX6_undo_53 : decode cX6_undo 53 = .ok (.iconst 0, 1) := dk_3 (dk_at dksX6_undo_2 5 rfl rfl)
theorem dX6_undo_54 : decode cX6_undo 54 = .ok (.putfield 70, 3) := dk_181 0 70 (dk_at dksX6_undo_2 6 rfl rfl)
theorem dX6_undo_57 : decode cX6_undo 57 = .ok (.aload_n 0, 1) := dk_42 (dk_at dksX6_undo_2 9 rfl rfl)
theorem dX6_undo_58 : decode cX6_undo 58 = .ok (.getfield 74, 3) := dk_180 0 74 (dk_at dksX6_undo_2 10 rfl rfl)
theorem dX6_undo_61 : decode cX6_undo 61 = .ok (.ireturn, 1) := dk_172 (dk_at dksX6_undo_2 13 rfl rfl)
abbrev cX6_save : ByteArray := prog_28_method_116_code
def yX6_save : MethodName := ⟨RX6, "save", "()V"⟩
def dkwX6_save_0 : List UInt8 := [42, 3, 181, 0, 63, 42, 180, 0, 9, 3, 42, 180, 0, 16, 3, 184, 0, 66, 42, 4, 181, 1, 118, 177]
abbrev dktX6_save_0 : List UInt8 := dkwX6_save_0 ++ []
theorem dksX6_save_0 : cX6_save.data.toList.drop 0 = dktX6_save_0 := by decide +kernel
theorem dX6_save_0 : decode cX6_save 0 = .ok (.aload_n 0, 1) := dk_42 (dk_at dksX6_save_0 0 rfl rfl)
theorem dX6_save_1 : decode cX6_save 1 = .ok (.iconst 0, 1) := dk_3 (dk_at dksX6_save_0 1 rfl rfl)
theorem dX6_save_2 : decode cX6_save 2 = .ok (.putfield 63, 3) := dk_181 0 63 (dk_at dksX6_save_0 2 rfl rfl)
theorem dX6_save_5 : decode cX6_save 5 = .ok (.aload_n 0, 1) := dk_42 (dk_at dksX6_save_0 5 rfl rfl)
theorem dX6_save_6 : decode cX6_save 6 = .ok (.getfield 9, 3) := dk_180 0 9 (dk_at dksX6_save_0 6 rfl rfl)
theorem dX6_save_9 : decode cX6_save 9 = .ok (.iconst 0, 1) := dk_3 (dk_at dksX6_save_0 9 rfl rfl)
theorem dX6_save_10 : decode cX6_save 10 = .ok (.aload_n 0, 1) := dk_42 (dk_at dksX6_save_0 10 rfl rfl)
theorem dX6_save_11 : decode cX6_save 11 = .ok (.getfield 16, 3) := dk_180 0 16 (dk_at dksX6_save_0 11 rfl rfl)
theorem dX6_save_14 : decode cX6_save 14 = .ok (.iconst 0, 1) := dk_3 (dk_at dksX6_save_0 14 rfl rfl)
theorem dX6_save_15 : decode cX6_save 15 = .ok (.invokestatic 66, 3) := dk_184 0 66 (dk_at dksX6_save_0 15 rfl rfl)
theorem dX6_save_18 : decode cX6_save 18 = .ok (.aload_n 0, 1) := dk_42 (dk_at dksX6_save_0 18 rfl rfl)
theorem dX6_save_19 : decode cX6_save 19 = .ok (.iconst 1, 1) := dk_4 (dk_at dksX6_save_0 19 rfl rfl)
theorem dX6_save_20 : decode cX6_save 20 = .ok (.putfield 374, 3) := dk_181 1 118 (dk_at dksX6_save_0 20 rfl rfl)
theorem dX6_save_23 : decode cX6_save 23 = .ok (.return_, 1) := dk_177 (dk_at dksX6_save_0 23 rfl rfl)
abbrev cX6_restore : ByteArray := prog_28_method_117_code
def yX6_restore : MethodName := ⟨RX6, "restore", "()V"⟩
def dkwX6_restore_1 : List UInt8 := [180, 0, 16, 3, 42, 180, 0, 9, 3, 184, 0, 66, 42, 3, 181, 0, 74, 42, 3, 181, 0, 70, 177]
abbrev dktX6_restore_1 : List UInt8 := dkwX6_restore_1 ++ []
def dkwX6_restore_0 : List UInt8 := [42, 42, 180, 1, 118, 154, 0, 7, 4, 167, 0, 4, 3, 4, 182, 0, 164, 153, 0, 4, 177, 42]
abbrev dktX6_restore_0 : List UInt8 := dkwX6_restore_0 ++ dktX6_restore_1
theorem dksX6_restore_0 : cX6_restore.data.toList.drop 0 = dktX6_restore_0 := by decide +kernel
theorem dksX6_restore_1 : cX6_restore.data.toList.drop 22 = dktX6_restore_1 := dk_seg dksX6_restore_0 22 rfl rfl
theorem dX6_restore_0 : decode cX6_restore 0 = .ok (.aload_n 0, 1) := dk_42 (dk_at dksX6_restore_0 0 rfl rfl)
theorem dX6_restore_1 : decode cX6_restore 1 = .ok (.aload_n 0, 1) := dk_42 (dk_at dksX6_restore_0 1 rfl rfl)
theorem dX6_restore_2 : decode cX6_restore 2 = .ok (.getfield 374, 3) := dk_180 1 118 (dk_at dksX6_restore_0 2 rfl rfl)
theorem dX6_restore_5 : decode cX6_restore 5 = .ok (.ifCond .ne 7, 3) := dk_154 0 7 (dk_at dksX6_restore_0 5 rfl rfl)
theorem dX6_restore_8 : decode cX6_restore 8 = .ok (.iconst 1, 1) := dk_4 (dk_at dksX6_restore_0 8 rfl rfl)
theorem dX6_restore_9 : decode cX6_restore 9 = .ok (.goto 4, 3) := dk_167 0 4 (dk_at dksX6_restore_0 9 rfl rfl)
theorem dX6_restore_12 : decode cX6_restore 12 = .ok (.iconst 0, 1) := dk_3 (dk_at dksX6_restore_0 12 rfl rfl)
theorem dX6_restore_13 : decode cX6_restore 13 = .ok (.iconst 1, 1) := dk_4 (dk_at dksX6_restore_0 13 rfl rfl)
theorem dX6_restore_14 : decode cX6_restore 14 = .ok (.invokevirtual 164, 3) := dk_182 0 164 (dk_at dksX6_restore_0 14 rfl rfl)
theorem dX6_restore_17 : decode cX6_restore 17 = .ok (.ifCond .eq 4, 3) := dk_153 0 4 (dk_at dksX6_restore_0 17 rfl rfl)
theorem dX6_restore_20 : decode cX6_restore 20 = .ok (.return_, 1) := dk_177 (dk_at dksX6_restore_0 20 rfl rfl)
theorem dX6_restore_21 : decode cX6_restore 21 = .ok (.aload_n 0, 1) := dk_42 (dk_at dksX6_restore_0 21 rfl rfl)
theorem dX6_restore_22 : decode cX6_restore 22 = .ok (.getfield 16, 3) := dk_180 0 16 (dk_at dksX6_restore_1 0 rfl rfl)
theorem dX6_restore_25 : decode cX6_restore 25 = .ok (.iconst 0, 1) := dk_3 (dk_at dksX6_restore_1 3 rfl rfl)
theorem dX6_restore_26 : decode cX6_restore 26 = .ok (.aload_n 0, 1) := dk_42 (dk_at dksX6_restore_1 4 rfl rfl)
theorem dX6_restore_27 : decode cX6_restore 27 = .ok (.getfield 9, 3) := dk_180 0 9 (dk_at dksX6_restore_1 5 rfl rfl)
theorem dX6_restore_30 : decode cX6_restore 30 = .ok (.iconst 0, 1) := dk_3 (dk_at dksX6_restore_1 8 rfl rfl)
theorem dX6_restore_31 : decode cX6_restore 31 = .ok (.invokestatic 66, 3) := dk_184 0 66 (dk_at dksX6_restore_1 9 rfl rfl)
theorem dX6_restore_34 : decode cX6_restore 34 = .ok (.aload_n 0, 1) := dk_42 (dk_at dksX6_restore_1 12 rfl rfl)
theorem dX6_restore_35 : decode cX6_restore 35 = .ok (.iconst 0, 1) := dk_3 (dk_at dksX6_restore_1 13 rfl rfl)
theorem dX6_restore_36 : decode cX6_restore 36 = .ok (.putfield 74, 3) := dk_181 0 74 (dk_at dksX6_restore_1 14 rfl rfl)
theorem dX6_restore_39 : decode cX6_restore 39 = .ok (.aload_n 0, 1) := dk_42 (dk_at dksX6_restore_1 17 rfl rfl)
theorem dX6_restore_40 : decode cX6_restore 40 = .ok (.iconst 0, 1) := dk_3 (dk_at dksX6_restore_1 18 rfl rfl)
theorem dX6_restore_41 : decode cX6_restore 41 = .ok (.putfield 70, 3) := dk_181 0 70 (dk_at dksX6_restore_1 19 rfl rfl)
theorem dX6_restore_44 : decode cX6_restore 44 = .ok (.return_, 1) := dk_177 (dk_at dksX6_restore_1 22 rfl rfl)
theorem q121 : (Jvm.Cond.initialized "BrambleLogicModel") ∈ lw_all := lw_g (lw_at lw_m1 14 rfl) rfl
theorem q716 : (Jvm.Cond.selects "BrambleLogicModel" ({ cls := "java/lang/Object", name := "getClass", desc := "()Ljava/lang/Class;" } : Jvm.MethodName) ({ cls := "java/lang/Object", name := "getClass", desc := "()Ljava/lang/Class;" } : Jvm.MethodName)) ∈ lw_all := lw_g (lw_at lw_m3 129 rfl) rfl
theorem q2780 : (Jvm.Cond.instantiable "BrambleLogicModel" (28 : Nat)) ∈ lw_all := lw_g (lw_at lw_m12 33 rfl) rfl
theorem q2782 : (Jvm.Cond.instanceMethod ({ cls := "BrambleLogicModel", name := "<init>", desc := "()V" } : Jvm.MethodName)) ∈ lw_all := lw_g (lw_at lw_m12 35 rfl) rfl
theorem q2783 : (Jvm.Cond.code ({ cls := "BrambleLogicModel", name := "<init>", desc := "()V" } : Jvm.MethodName) prog_28_method_1_code (1 : Nat) (Option.none : Option Jvm.ClassFile.FieldType)) ∈ lw_all := lw_g (lw_at lw_m12 36 rfl) rfl
theorem q2784 : (Jvm.Cond.methodLink "BrambleLogicModel" (3 : Nat) ({ cls := "java/lang/Object", name := "<init>", desc := "()V" } : Jvm.MethodName)) ∈ lw_all := lw_g (lw_at lw_m12 37 rfl) rfl
theorem q2785 : (Jvm.Cond.fieldLink "BrambleLogicModel" (9 : Nat) "BrambleLogicModel" "s" "[I") ∈ lw_all := lw_g (lw_at lw_m12 38 rfl) rfl
theorem q2786 : (Jvm.Cond.fieldLink "BrambleLogicModel" (13 : Nat) "BrambleLogicModel" "was" "[I") ∈ lw_all := lw_g (lw_at lw_m12 39 rfl) rfl
theorem q2787 : (Jvm.Cond.fieldLink "BrambleLogicModel" (16 : Nat) "BrambleLogicModel" "saved" "[I") ∈ lw_all := lw_g (lw_at lw_m12 40 rfl) rfl
theorem q2788 : (Jvm.Cond.fieldLink "BrambleLogicModel" (19 : Nat) "BrambleLogicModel" "past" "[I") ∈ lw_all := lw_g (lw_at lw_m12 41 rfl) rfl
theorem q2789 : (Jvm.Cond.fieldLink "BrambleLogicModel" (22 : Nat) "BrambleLogicModel" "height" "[I") ∈ lw_all := lw_g (lw_at lw_m12 42 rfl) rfl
theorem q2790 : (Jvm.Cond.fieldLink "BrambleLogicModel" (25 : Nat) "BrambleLogicModel" "by" "[I") ∈ lw_all := lw_g (lw_at lw_m12 43 rfl) rfl
theorem q2791 : (Jvm.Cond.fieldLink "BrambleLogicModel" (28 : Nat) "BrambleLogicModel" "size" "[I") ∈ lw_all := lw_g (lw_at lw_m12 44 rfl) rfl
theorem q2792 : (Jvm.Cond.fieldLink "BrambleLogicModel" (31 : Nat) "BrambleLogicModel" "layer" "[I") ∈ lw_all := lw_g (lw_at lw_m12 45 rfl) rfl
theorem q2793 : (Jvm.Cond.fieldLink "BrambleLogicModel" (34 : Nat) "BrambleLogicModel" "bound" "[I") ∈ lw_all := lw_g (lw_at lw_m12 46 rfl) rfl
theorem q2794 : (Jvm.Cond.fieldLink "BrambleLogicModel" (37 : Nat) "BrambleLogicModel" "isTrue" "[Z") ∈ lw_all := lw_g (lw_at lw_m12 47 rfl) rfl
theorem q2795 : (Jvm.Cond.fieldLink "BrambleLogicModel" (41 : Nat) "BrambleLogicModel" "before" "[Z") ∈ lw_all := lw_g (lw_at lw_m12 48 rfl) rfl
theorem q2796 : (Jvm.Cond.fieldLink "BrambleLogicModel" (44 : Nat) "BrambleLogicModel" "needs" "[Z") ∈ lw_all := lw_g (lw_at lw_m12 49 rfl) rfl
theorem q2797 : (Jvm.Cond.fieldLink "BrambleLogicModel" (74 : Nat) "BrambleLogicModel" "changes" "I") ∈ lw_all := lw_g (lw_at lw_m12 50 rfl) rfl
theorem q2798 : (Jvm.Cond.fieldLink "BrambleLogicModel" (63 : Nat) "BrambleLogicModel" "thrown" "I") ∈ lw_all := lw_g (lw_at lw_m12 51 rfl) rfl
theorem q2799 : (Jvm.Cond.fieldLink "BrambleLogicModel" (47 : Nat) "BrambleLogicModel" "errorAt" "I") ∈ lw_all := lw_g (lw_at lw_m12 52 rfl) rfl
theorem q2800 : (Jvm.Cond.fieldLink "BrambleLogicModel" (51 : Nat) "BrambleLogicModel" "failedAt" "I") ∈ lw_all := lw_g (lw_at lw_m12 53 rfl) rfl
theorem q2801 : (Jvm.Cond.fieldLink "BrambleLogicModel" (189 : Nat) "BrambleLogicModel" "answer" "I") ∈ lw_all := lw_g (lw_at lw_m12 54 rfl) rfl
theorem q2802 : (Jvm.Cond.fieldLink "BrambleLogicModel" (252 : Nat) "BrambleLogicModel" "reason" "I") ∈ lw_all := lw_g (lw_at lw_m12 55 rfl) rfl
theorem q2803 : (Jvm.Cond.fieldLink "BrambleLogicModel" (255 : Nat) "BrambleLogicModel" "detail" "I") ∈ lw_all := lw_g (lw_at lw_m12 56 rfl) rfl
theorem q2804 : (Jvm.Cond.fieldLink "BrambleLogicModel" (374 : Nat) "BrambleLogicModel" "isSaved" "Z") ∈ lw_all := lw_g (lw_at lw_m12 57 rfl) rfl
theorem q2805 : (Jvm.Cond.fieldLink "BrambleLogicModel" (70 : Nat) "BrambleLogicModel" "isFresh" "Z") ∈ lw_all := lw_g (lw_at lw_m12 58 rfl) rfl
theorem q2806 : (Jvm.Cond.fieldLink "BrambleLogicModel" (54 : Nat) "BrambleLogicModel" "tape" "[I") ∈ lw_all := lw_g (lw_at lw_m12 59 rfl) rfl
theorem q2807 : (Jvm.Cond.fieldLink "BrambleLogicModel" (57 : Nat) "BrambleLogicModel" "commands" "[I") ∈ lw_all := lw_g (lw_at lw_m12 60 rfl) rfl
theorem q2808 : (Jvm.Cond.fieldLink "BrambleLogicModel" (258 : Nat) "BrambleLogicModel" "taped" "I") ∈ lw_all := lw_g (lw_at lw_m12 61 rfl) rfl
theorem q2809 : (Jvm.Cond.fieldLink "BrambleLogicModel" (261 : Nat) "BrambleLogicModel" "here" "I") ∈ lw_all := lw_g (lw_at lw_m12 62 rfl) rfl
theorem q2810 : (Jvm.Cond.fieldLink "BrambleLogicModel" (308 : Nat) "BrambleLogicModel" "commandMany" "I") ∈ lw_all := lw_g (lw_at lw_m12 63 rfl) rfl
theorem q2811 : (Jvm.Cond.fieldLink "BrambleLogicModel" (60 : Nat) "BrambleLogicModel" "line" "[I") ∈ lw_all := lw_g (lw_at lw_m12 64 rfl) rfl
theorem q2812 : (Jvm.Cond.fieldLink "BrambleLogicModel" (350 : Nat) "BrambleLogicModel" "lined" "I") ∈ lw_all := lw_g (lw_at lw_m12 65 rfl) rfl
theorem q2813 : (Jvm.Cond.laysFinal "BrambleLogicModel" "BrambleLogicModel" "s" "[I") ∈ lw_all := lw_g (lw_at lw_m12 66 rfl) rfl
theorem q2814 : (Jvm.Cond.soleField "BrambleLogicModel" "s") ∈ lw_all := lw_g (lw_at lw_m12 67 rfl) rfl
theorem q2815 : (Jvm.Cond.laysFinal "BrambleLogicModel" "BrambleLogicModel" "was" "[I") ∈ lw_all := lw_g (lw_at lw_m12 68 rfl) rfl
theorem q2816 : (Jvm.Cond.soleField "BrambleLogicModel" "was") ∈ lw_all := lw_g (lw_at lw_m12 69 rfl) rfl
theorem q2817 : (Jvm.Cond.laysFinal "BrambleLogicModel" "BrambleLogicModel" "saved" "[I") ∈ lw_all := lw_g (lw_at lw_m12 70 rfl) rfl
theorem q2818 : (Jvm.Cond.soleField "BrambleLogicModel" "saved") ∈ lw_all := lw_g (lw_at lw_m12 71 rfl) rfl
theorem q2819 : (Jvm.Cond.laysFinal "BrambleLogicModel" "BrambleLogicModel" "past" "[I") ∈ lw_all := lw_g (lw_at lw_m12 72 rfl) rfl
theorem q2820 : (Jvm.Cond.soleField "BrambleLogicModel" "past") ∈ lw_all := lw_g (lw_at lw_m12 73 rfl) rfl
theorem q2821 : (Jvm.Cond.laysFinal "BrambleLogicModel" "BrambleLogicModel" "height" "[I") ∈ lw_all := lw_g (lw_at lw_m12 74 rfl) rfl
theorem q2822 : (Jvm.Cond.soleField "BrambleLogicModel" "height") ∈ lw_all := lw_g (lw_at lw_m12 75 rfl) rfl
theorem q2823 : (Jvm.Cond.laysFinal "BrambleLogicModel" "BrambleLogicModel" "by" "[I") ∈ lw_all := lw_g (lw_at lw_m12 76 rfl) rfl
theorem q2824 : (Jvm.Cond.soleField "BrambleLogicModel" "by") ∈ lw_all := lw_g (lw_at lw_m12 77 rfl) rfl
theorem q2825 : (Jvm.Cond.laysFinal "BrambleLogicModel" "BrambleLogicModel" "size" "[I") ∈ lw_all := lw_g (lw_at lw_m12 78 rfl) rfl
theorem q2826 : (Jvm.Cond.soleField "BrambleLogicModel" "size") ∈ lw_all := lw_g (lw_at lw_m12 79 rfl) rfl
theorem q2827 : (Jvm.Cond.laysFinal "BrambleLogicModel" "BrambleLogicModel" "layer" "[I") ∈ lw_all := lw_g (lw_at lw_m12 80 rfl) rfl
theorem q2828 : (Jvm.Cond.soleField "BrambleLogicModel" "layer") ∈ lw_all := lw_g (lw_at lw_m12 81 rfl) rfl
theorem q2829 : (Jvm.Cond.laysFinal "BrambleLogicModel" "BrambleLogicModel" "bound" "[I") ∈ lw_all := lw_g (lw_at lw_m12 82 rfl) rfl
theorem q2830 : (Jvm.Cond.soleField "BrambleLogicModel" "bound") ∈ lw_all := lw_g (lw_at lw_m12 83 rfl) rfl
theorem q2831 : (Jvm.Cond.laysFinal "BrambleLogicModel" "BrambleLogicModel" "isTrue" "[Z") ∈ lw_all := lw_g (lw_at lw_m12 84 rfl) rfl
theorem q2832 : (Jvm.Cond.soleField "BrambleLogicModel" "isTrue") ∈ lw_all := lw_g (lw_at lw_m12 85 rfl) rfl
theorem q2833 : (Jvm.Cond.laysFinal "BrambleLogicModel" "BrambleLogicModel" "before" "[Z") ∈ lw_all := lw_g (lw_at lw_m12 86 rfl) rfl
theorem q2834 : (Jvm.Cond.soleField "BrambleLogicModel" "before") ∈ lw_all := lw_g (lw_at lw_m12 87 rfl) rfl
theorem q2835 : (Jvm.Cond.laysFinal "BrambleLogicModel" "BrambleLogicModel" "needs" "[Z") ∈ lw_all := lw_g (lw_at lw_m12 88 rfl) rfl
theorem q2836 : (Jvm.Cond.soleField "BrambleLogicModel" "needs") ∈ lw_all := lw_g (lw_at lw_m12 89 rfl) rfl
theorem q2837 : (Jvm.Cond.lays "BrambleLogicModel" "BrambleLogicModel" "changes" "I") ∈ lw_all := lw_g (lw_at lw_m12 90 rfl) rfl
theorem q2838 : (Jvm.Cond.soleField "BrambleLogicModel" "changes") ∈ lw_all := lw_g (lw_at lw_m12 91 rfl) rfl
theorem q2839 : (Jvm.Cond.lays "BrambleLogicModel" "BrambleLogicModel" "thrown" "I") ∈ lw_all := lw_g (lw_at lw_m12 92 rfl) rfl
theorem q2840 : (Jvm.Cond.soleField "BrambleLogicModel" "thrown") ∈ lw_all := lw_g (lw_at lw_m12 93 rfl) rfl
theorem q2841 : (Jvm.Cond.lays "BrambleLogicModel" "BrambleLogicModel" "errorAt" "I") ∈ lw_all := lw_g (lw_at lw_m12 94 rfl) rfl
theorem q2842 : (Jvm.Cond.soleField "BrambleLogicModel" "errorAt") ∈ lw_all := lw_g (lw_at lw_m12 95 rfl) rfl
theorem q2843 : (Jvm.Cond.lays "BrambleLogicModel" "BrambleLogicModel" "failedAt" "I") ∈ lw_all := lw_g (lw_at lw_m12 96 rfl) rfl
theorem q2844 : (Jvm.Cond.soleField "BrambleLogicModel" "failedAt") ∈ lw_all := lw_g (lw_at lw_m12 97 rfl) rfl
theorem q2845 : (Jvm.Cond.lays "BrambleLogicModel" "BrambleLogicModel" "answer" "I") ∈ lw_all := lw_g (lw_at lw_m12 98 rfl) rfl
theorem q2846 : (Jvm.Cond.soleField "BrambleLogicModel" "answer") ∈ lw_all := lw_g (lw_at lw_m12 99 rfl) rfl
theorem q2847 : (Jvm.Cond.lays "BrambleLogicModel" "BrambleLogicModel" "reason" "I") ∈ lw_all := lw_g (lw_at lw_m12 100 rfl) rfl
theorem q2848 : (Jvm.Cond.soleField "BrambleLogicModel" "reason") ∈ lw_all := lw_g (lw_at lw_m12 101 rfl) rfl
theorem q2849 : (Jvm.Cond.lays "BrambleLogicModel" "BrambleLogicModel" "detail" "I") ∈ lw_all := lw_g (lw_at lw_m12 102 rfl) rfl
theorem q2850 : (Jvm.Cond.soleField "BrambleLogicModel" "detail") ∈ lw_all := lw_g (lw_at lw_m12 103 rfl) rfl
theorem q2851 : (Jvm.Cond.lays "BrambleLogicModel" "BrambleLogicModel" "isSaved" "Z") ∈ lw_all := lw_g (lw_at lw_m12 104 rfl) rfl
theorem q2852 : (Jvm.Cond.soleField "BrambleLogicModel" "isSaved") ∈ lw_all := lw_g (lw_at lw_m12 105 rfl) rfl
theorem q2853 : (Jvm.Cond.lays "BrambleLogicModel" "BrambleLogicModel" "isFresh" "Z") ∈ lw_all := lw_g (lw_at lw_m12 106 rfl) rfl
theorem q2854 : (Jvm.Cond.soleField "BrambleLogicModel" "isFresh") ∈ lw_all := lw_g (lw_at lw_m12 107 rfl) rfl
theorem q2855 : (Jvm.Cond.laysFinal "BrambleLogicModel" "BrambleLogicModel" "tape" "[I") ∈ lw_all := lw_g (lw_at lw_m12 108 rfl) rfl
theorem q2856 : (Jvm.Cond.soleField "BrambleLogicModel" "tape") ∈ lw_all := lw_g (lw_at lw_m12 109 rfl) rfl
theorem q2857 : (Jvm.Cond.laysFinal "BrambleLogicModel" "BrambleLogicModel" "commands" "[I") ∈ lw_all := lw_g (lw_at lw_m12 110 rfl) rfl
theorem q2858 : (Jvm.Cond.soleField "BrambleLogicModel" "commands") ∈ lw_all := lw_g (lw_at lw_m12 111 rfl) rfl
theorem q2859 : (Jvm.Cond.lays "BrambleLogicModel" "BrambleLogicModel" "taped" "I") ∈ lw_all := lw_g (lw_at lw_m12 112 rfl) rfl
theorem q2860 : (Jvm.Cond.soleField "BrambleLogicModel" "taped") ∈ lw_all := lw_g (lw_at lw_m12 113 rfl) rfl
theorem q2861 : (Jvm.Cond.lays "BrambleLogicModel" "BrambleLogicModel" "here" "I") ∈ lw_all := lw_g (lw_at lw_m12 114 rfl) rfl
theorem q2862 : (Jvm.Cond.soleField "BrambleLogicModel" "here") ∈ lw_all := lw_g (lw_at lw_m12 115 rfl) rfl
theorem q2863 : (Jvm.Cond.lays "BrambleLogicModel" "BrambleLogicModel" "commandMany" "I") ∈ lw_all := lw_g (lw_at lw_m12 116 rfl) rfl
theorem q2864 : (Jvm.Cond.soleField "BrambleLogicModel" "commandMany") ∈ lw_all := lw_g (lw_at lw_m12 117 rfl) rfl
theorem q2865 : (Jvm.Cond.laysFinal "BrambleLogicModel" "BrambleLogicModel" "line" "[I") ∈ lw_all := lw_g (lw_at lw_m12 118 rfl) rfl
theorem q2866 : (Jvm.Cond.soleField "BrambleLogicModel" "line") ∈ lw_all := lw_g (lw_at lw_m12 119 rfl) rfl
theorem q2867 : (Jvm.Cond.lays "BrambleLogicModel" "BrambleLogicModel" "lined" "I") ∈ lw_all := lw_g (lw_at lw_m12 120 rfl) rfl
theorem q2868 : (Jvm.Cond.soleField "BrambleLogicModel" "lined") ∈ lw_all := lw_g (lw_at lw_m12 121 rfl) rfl
theorem q2869 : (Jvm.Cond.superclass "BrambleLogicModel" "java/lang/Object") ∈ lw_all := lw_g (lw_at lw_m12 122 rfl) rfl
theorem q2871 : (Jvm.Cond.instanceMethod ({ cls := "BrambleLogicModel", name := "thrown", desc := "()I" } : Jvm.MethodName)) ∈ lw_all := lw_g (lw_at lw_m12 124 rfl) rfl
theorem q2872 : (Jvm.Cond.selects "BrambleLogicModel" ({ cls := "BrambleLogicModel", name := "thrown", desc := "()I" } : Jvm.MethodName) ({ cls := "BrambleLogicModel", name := "thrown", desc := "()I" } : Jvm.MethodName)) ∈ lw_all := lw_g (lw_at lw_m12 125 rfl) rfl
theorem q2873 : (Jvm.Cond.code ({ cls := "BrambleLogicModel", name := "thrown", desc := "()I" } : Jvm.MethodName) prog_28_method_2_code (1 : Nat) (Option.some Jvm.ClassFile.FieldType.int)) ∈ lw_all := lw_g (lw_at lw_m12 126 rfl) rfl
theorem q2875 : (Jvm.Cond.instanceMethod ({ cls := "BrambleLogicModel", name := "addFact", desc := "(CII)I" } : Jvm.MethodName)) ∈ lw_all := lw_g (lw_at lw_m12 128 rfl) rfl
theorem q2876 : (Jvm.Cond.selects "BrambleLogicModel" ({ cls := "BrambleLogicModel", name := "addFact", desc := "(CII)I" } : Jvm.MethodName) ({ cls := "BrambleLogicModel", name := "addFact", desc := "(CII)I" } : Jvm.MethodName)) ∈ lw_all := lw_g (lw_at lw_m12 129 rfl) rfl
theorem q2877 : (Jvm.Cond.code ({ cls := "BrambleLogicModel", name := "addFact", desc := "(CII)I" } : Jvm.MethodName) prog_28_method_41_code (4 : Nat) (Option.some Jvm.ClassFile.FieldType.int)) ∈ lw_all := lw_g (lw_at lw_m12 130 rfl) rfl
theorem q2878 : (Jvm.Cond.methodLink "BrambleLogicModel" (171 : Nat) ({ cls := "BrambleLogicModel", name := "keeps", desc := "()V" } : Jvm.MethodName)) ∈ lw_all := lw_g (lw_at lw_m12 131 rfl) rfl
theorem q2879 : (Jvm.Cond.privateMethod ({ cls := "BrambleLogicModel", name := "keeps", desc := "()V" } : Jvm.MethodName)) ∈ lw_tbl := lw_at lw_m12 132 rfl
theorem q2880 : (Jvm.Cond.instanceMethod ({ cls := "BrambleLogicModel", name := "keeps", desc := "()V" } : Jvm.MethodName)) ∈ lw_all := lw_g (lw_at lw_m12 133 rfl) rfl
theorem q2881 : (Jvm.Cond.code ({ cls := "BrambleLogicModel", name := "keeps", desc := "()V" } : Jvm.MethodName) prog_28_method_5_code (1 : Nat) (Option.none : Option Jvm.ClassFile.FieldType)) ∈ lw_all := lw_g (lw_at lw_m12 134 rfl) rfl
theorem q2882 : (Jvm.Cond.methodLink "BrambleLogicModel" (66 : Nat) ({ cls := "BrambleLogicModel", name := "copies", desc := "([II[II)V" } : Jvm.MethodName)) ∈ lw_all := lw_g (lw_at lw_m12 135 rfl) rfl
theorem q2883 : (Jvm.Cond.static ({ cls := "BrambleLogicModel", name := "copies", desc := "([II[II)V" } : Jvm.MethodName)) ∈ lw_all := lw_g (lw_at lw_m12 136 rfl) rfl
theorem q2884 : (Jvm.Cond.code ({ cls := "BrambleLogicModel", name := "copies", desc := "([II[II)V" } : Jvm.MethodName) prog_28_method_4_code (5 : Nat) (Option.none : Option Jvm.ClassFile.FieldType)) ∈ lw_all := lw_g (lw_at lw_m12 137 rfl) rfl
theorem q2885 : (Jvm.Cond.methodLink "BrambleLogicModel" (174 : Nat) ({ cls := "BrambleLogicModel", name := "adds", desc := "(III)I" } : Jvm.MethodName)) ∈ lw_all := lw_g (lw_at lw_m12 138 rfl) rfl
theorem q2886 : (Jvm.Cond.privateMethod ({ cls := "BrambleLogicModel", name := "adds", desc := "(III)I" } : Jvm.MethodName)) ∈ lw_tbl := lw_at lw_m12 139 rfl
theorem q2887 : (Jvm.Cond.instanceMethod ({ cls := "BrambleLogicModel", name := "adds", desc := "(III)I" } : Jvm.MethodName)) ∈ lw_all := lw_g (lw_at lw_m12 140 rfl) rfl
theorem q2888 : (Jvm.Cond.code ({ cls := "BrambleLogicModel", name := "adds", desc := "(III)I" } : Jvm.MethodName) prog_28_method_40_code (5 : Nat) (Option.some Jvm.ClassFile.FieldType.int)) ∈ lw_all := lw_g (lw_at lw_m12 141 rfl) rfl
theorem q2889 : (Jvm.Cond.methodLink "BrambleLogicModel" (161 : Nat) ({ cls := "BrambleLogicModel", name := "isFact", desc := "(III)Z" } : Jvm.MethodName)) ∈ lw_all := lw_g (lw_at lw_m12 142 rfl) rfl
theorem q2890 : (Jvm.Cond.static ({ cls := "BrambleLogicModel", name := "isFact", desc := "(III)Z" } : Jvm.MethodName)) ∈ lw_all := lw_g (lw_at lw_m12 143 rfl) rfl
theorem q2891 : (Jvm.Cond.code ({ cls := "BrambleLogicModel", name := "isFact", desc := "(III)Z" } : Jvm.MethodName) prog_28_method_10_code (4 : Nat) (Option.some Jvm.ClassFile.FieldType.boolean)) ∈ lw_all := lw_g (lw_at lw_m12 144 rfl) rfl
theorem q2892 : (Jvm.Cond.methodLink "BrambleLogicModel" (81 : Nat) ({ cls := "BrambleLogicModel", name := "isPredicate", desc := "(I)Z" } : Jvm.MethodName)) ∈ lw_all := lw_g (lw_at lw_m12 145 rfl) rfl
theorem q2893 : (Jvm.Cond.static ({ cls := "BrambleLogicModel", name := "isPredicate", desc := "(I)Z" } : Jvm.MethodName)) ∈ lw_all := lw_g (lw_at lw_m12 146 rfl) rfl
theorem q2894 : (Jvm.Cond.code ({ cls := "BrambleLogicModel", name := "isPredicate", desc := "(I)Z" } : Jvm.MethodName) prog_28_method_8_code (1 : Nat) (Option.some Jvm.ClassFile.FieldType.boolean)) ∈ lw_all := lw_g (lw_at lw_m12 147 rfl) rfl
theorem q2895 : (Jvm.Cond.methodLink "BrambleLogicModel" (77 : Nat) ({ cls := "BrambleLogicModel", name := "isIn", desc := "(III)Z" } : Jvm.MethodName)) ∈ lw_all := lw_g (lw_at lw_m12 148 rfl) rfl
theorem q2896 : (Jvm.Cond.static ({ cls := "BrambleLogicModel", name := "isIn", desc := "(III)Z" } : Jvm.MethodName)) ∈ lw_all := lw_g (lw_at lw_m12 149 rfl) rfl
theorem q2897 : (Jvm.Cond.code ({ cls := "BrambleLogicModel", name := "isIn", desc := "(III)Z" } : Jvm.MethodName) prog_28_method_3_code (3 : Nat) (Option.some Jvm.ClassFile.FieldType.boolean)) ∈ lw_all := lw_g (lw_at lw_m12 150 rfl) rfl
theorem q2898 : (Jvm.Cond.methodLink "BrambleLogicModel" (164 : Nat) ({ cls := "BrambleLogicModel", name := "isThrown", desc := "(ZI)Z" } : Jvm.MethodName)) ∈ lw_all := lw_g (lw_at lw_m12 151 rfl) rfl
theorem q2899 : (Jvm.Cond.privateMethod ({ cls := "BrambleLogicModel", name := "isThrown", desc := "(ZI)Z" } : Jvm.MethodName)) ∈ lw_tbl := lw_at lw_m12 152 rfl
theorem q2900 : (Jvm.Cond.instanceMethod ({ cls := "BrambleLogicModel", name := "isThrown", desc := "(ZI)Z" } : Jvm.MethodName)) ∈ lw_all := lw_g (lw_at lw_m12 153 rfl) rfl
theorem q2901 : (Jvm.Cond.code ({ cls := "BrambleLogicModel", name := "isThrown", desc := "(ZI)Z" } : Jvm.MethodName) prog_28_method_7_code (3 : Nat) (Option.some Jvm.ClassFile.FieldType.boolean)) ∈ lw_all := lw_g (lw_at lw_m12 154 rfl) rfl
theorem q2902 : (Jvm.Cond.methodLink "BrambleLogicModel" (168 : Nat) ({ cls := "BrambleLogicModel", name := "factOf", desc := "(III)I" } : Jvm.MethodName)) ∈ lw_all := lw_g (lw_at lw_m12 155 rfl) rfl
theorem q2903 : (Jvm.Cond.static ({ cls := "BrambleLogicModel", name := "factOf", desc := "(III)I" } : Jvm.MethodName)) ∈ lw_all := lw_g (lw_at lw_m12 156 rfl) rfl
theorem q2904 : (Jvm.Cond.code ({ cls := "BrambleLogicModel", name := "factOf", desc := "(III)I" } : Jvm.MethodName) prog_28_method_12_code (3 : Nat) (Option.some Jvm.ClassFile.FieldType.int)) ∈ lw_all := lw_g (lw_at lw_m12 157 rfl) rfl
theorem q2905 : (Jvm.Cond.methodLink "BrambleLogicModel" (88 : Nat) ({ cls := "BrambleLogicModel", name := "fact", desc := "(III)I" } : Jvm.MethodName)) ∈ lw_all := lw_g (lw_at lw_m12 158 rfl) rfl
theorem q2906 : (Jvm.Cond.static ({ cls := "BrambleLogicModel", name := "fact", desc := "(III)I" } : Jvm.MethodName)) ∈ lw_all := lw_g (lw_at lw_m12 159 rfl) rfl
theorem q2907 : (Jvm.Cond.code ({ cls := "BrambleLogicModel", name := "fact", desc := "(III)I" } : Jvm.MethodName) prog_28_method_11_code (3 : Nat) (Option.some Jvm.ClassFile.FieldType.int)) ∈ lw_all := lw_g (lw_at lw_m12 160 rfl) rfl
theorem q2908 : (Jvm.Cond.methodLink "BrambleLogicModel" (85 : Nat) ({ cls := "BrambleLogicModel", name := "isPair", desc := "(I)Z" } : Jvm.MethodName)) ∈ lw_all := lw_g (lw_at lw_m12 161 rfl) rfl
theorem q2909 : (Jvm.Cond.static ({ cls := "BrambleLogicModel", name := "isPair", desc := "(I)Z" } : Jvm.MethodName)) ∈ lw_all := lw_g (lw_at lw_m12 162 rfl) rfl
theorem q2910 : (Jvm.Cond.code ({ cls := "BrambleLogicModel", name := "isPair", desc := "(I)Z" } : Jvm.MethodName) prog_28_method_9_code (1 : Nat) (Option.some Jvm.ClassFile.FieldType.boolean)) ∈ lw_all := lw_g (lw_at lw_m12 163 rfl) rfl
theorem q2911 : (Jvm.Cond.methodLink "BrambleLogicModel" (177 : Nat) ({ cls := "BrambleLogicModel", name := "ends", desc := "(I)I" } : Jvm.MethodName)) ∈ lw_all := lw_g (lw_at lw_m12 164 rfl) rfl
theorem q2912 : (Jvm.Cond.privateMethod ({ cls := "BrambleLogicModel", name := "ends", desc := "(I)I" } : Jvm.MethodName)) ∈ lw_tbl := lw_at lw_m12 165 rfl
theorem q2913 : (Jvm.Cond.instanceMethod ({ cls := "BrambleLogicModel", name := "ends", desc := "(I)I" } : Jvm.MethodName)) ∈ lw_all := lw_g (lw_at lw_m12 166 rfl) rfl
theorem q2914 : (Jvm.Cond.code ({ cls := "BrambleLogicModel", name := "ends", desc := "(I)I" } : Jvm.MethodName) prog_28_method_6_code (3 : Nat) (Option.some Jvm.ClassFile.FieldType.int)) ∈ lw_all := lw_g (lw_at lw_m12 167 rfl) rfl
theorem q2916 : (Jvm.Cond.instanceMethod ({ cls := "BrambleLogicModel", name := "takeFact", desc := "(CII)I" } : Jvm.MethodName)) ∈ lw_all := lw_g (lw_at lw_m12 169 rfl) rfl
theorem q2917 : (Jvm.Cond.selects "BrambleLogicModel" ({ cls := "BrambleLogicModel", name := "takeFact", desc := "(CII)I" } : Jvm.MethodName) ({ cls := "BrambleLogicModel", name := "takeFact", desc := "(CII)I" } : Jvm.MethodName)) ∈ lw_all := lw_g (lw_at lw_m12 170 rfl) rfl
theorem q2918 : (Jvm.Cond.code ({ cls := "BrambleLogicModel", name := "takeFact", desc := "(CII)I" } : Jvm.MethodName) prog_28_method_46_code (4 : Nat) (Option.some Jvm.ClassFile.FieldType.int)) ∈ lw_all := lw_g (lw_at lw_m12 171 rfl) rfl
theorem q2919 : (Jvm.Cond.methodLink "BrambleLogicModel" (183 : Nat) ({ cls := "BrambleLogicModel", name := "remembers", desc := "()V" } : Jvm.MethodName)) ∈ lw_all := lw_g (lw_at lw_m12 172 rfl) rfl
theorem q2920 : (Jvm.Cond.privateMethod ({ cls := "BrambleLogicModel", name := "remembers", desc := "()V" } : Jvm.MethodName)) ∈ lw_tbl := lw_at lw_m12 173 rfl
theorem q2921 : (Jvm.Cond.instanceMethod ({ cls := "BrambleLogicModel", name := "remembers", desc := "()V" } : Jvm.MethodName)) ∈ lw_all := lw_g (lw_at lw_m12 174 rfl) rfl
theorem q2922 : (Jvm.Cond.code ({ cls := "BrambleLogicModel", name := "remembers", desc := "()V" } : Jvm.MethodName) prog_28_method_44_code (2 : Nat) (Option.none : Option Jvm.ClassFile.FieldType)) ∈ lw_all := lw_g (lw_at lw_m12 175 rfl) rfl
theorem q2923 : (Jvm.Cond.methodLink "BrambleLogicModel" (158 : Nat) ({ cls := "BrambleLogicModel", name := "finds", desc := "()V" } : Jvm.MethodName)) ∈ lw_all := lw_g (lw_at lw_m12 176 rfl) rfl
theorem q2924 : (Jvm.Cond.privateMethod ({ cls := "BrambleLogicModel", name := "finds", desc := "()V" } : Jvm.MethodName)) ∈ lw_tbl := lw_at lw_m12 177 rfl
theorem q2925 : (Jvm.Cond.instanceMethod ({ cls := "BrambleLogicModel", name := "finds", desc := "()V" } : Jvm.MethodName)) ∈ lw_all := lw_g (lw_at lw_m12 178 rfl) rfl
theorem q2926 : (Jvm.Cond.code ({ cls := "BrambleLogicModel", name := "finds", desc := "()V" } : Jvm.MethodName) prog_28_method_38_code (1 : Nat) (Option.none : Option Jvm.ClassFile.FieldType)) ∈ lw_all := lw_g (lw_at lw_m12 179 rfl) rfl
theorem q2927 : (Jvm.Cond.methodLink "BrambleLogicModel" (152 : Nat) ({ cls := "BrambleLogicModel", name := "derives", desc := "()V" } : Jvm.MethodName)) ∈ lw_all := lw_g (lw_at lw_m12 180 rfl) rfl
theorem q2928 : (Jvm.Cond.privateMethod ({ cls := "BrambleLogicModel", name := "derives", desc := "()V" } : Jvm.MethodName)) ∈ lw_tbl := lw_at lw_m12 181 rfl
theorem q2929 : (Jvm.Cond.instanceMethod ({ cls := "BrambleLogicModel", name := "derives", desc := "()V" } : Jvm.MethodName)) ∈ lw_all := lw_g (lw_at lw_m12 182 rfl) rfl
theorem q2930 : (Jvm.Cond.code ({ cls := "BrambleLogicModel", name := "derives", desc := "()V" } : Jvm.MethodName) prog_28_method_33_code (4 : Nat) (Option.none : Option Jvm.ClassFile.FieldType)) ∈ lw_all := lw_g (lw_at lw_m12 183 rfl) rfl
theorem q2931 : (Jvm.Cond.methodLink "BrambleLogicModel" (135 : Nat) ({ cls := "BrambleLogicModel", name := "layers", desc := "()V" } : Jvm.MethodName)) ∈ lw_all := lw_g (lw_at lw_m12 184 rfl) rfl
theorem q2932 : (Jvm.Cond.privateMethod ({ cls := "BrambleLogicModel", name := "layers", desc := "()V" } : Jvm.MethodName)) ∈ lw_tbl := lw_at lw_m12 185 rfl
theorem q2933 : (Jvm.Cond.instanceMethod ({ cls := "BrambleLogicModel", name := "layers", desc := "()V" } : Jvm.MethodName)) ∈ lw_all := lw_g (lw_at lw_m12 186 rfl) rfl
theorem q2934 : (Jvm.Cond.code ({ cls := "BrambleLogicModel", name := "layers", desc := "()V" } : Jvm.MethodName) prog_28_method_25_code (5 : Nat) (Option.none : Option Jvm.ClassFile.FieldType)) ∈ lw_all := lw_g (lw_at lw_m12 187 rfl) rfl
theorem q2935 : (Jvm.Cond.methodLink "BrambleLogicModel" (103 : Nat) ({ cls := "BrambleLogicModel", name := "needsBy", desc := "(IIZ)Z" } : Jvm.MethodName)) ∈ lw_all := lw_g (lw_at lw_m12 188 rfl) rfl
theorem q2936 : (Jvm.Cond.privateMethod ({ cls := "BrambleLogicModel", name := "needsBy", desc := "(IIZ)Z" } : Jvm.MethodName)) ∈ lw_tbl := lw_at lw_m12 189 rfl
theorem q2937 : (Jvm.Cond.instanceMethod ({ cls := "BrambleLogicModel", name := "needsBy", desc := "(IIZ)Z" } : Jvm.MethodName)) ∈ lw_all := lw_g (lw_at lw_m12 190 rfl) rfl
theorem q2938 : (Jvm.Cond.code ({ cls := "BrambleLogicModel", name := "needsBy", desc := "(IIZ)Z" } : Jvm.MethodName) prog_28_method_22_code (6 : Nat) (Option.some Jvm.ClassFile.FieldType.boolean)) ∈ lw_all := lw_g (lw_at lw_m12 191 rfl) rfl
theorem q2939 : (Jvm.Cond.methodLink "BrambleLogicModel" (92 : Nat) ({ cls := "BrambleLogicModel", name := "of", desc := "(II)I" } : Jvm.MethodName)) ∈ lw_all := lw_g (lw_at lw_m12 192 rfl) rfl
theorem q2940 : (Jvm.Cond.privateMethod ({ cls := "BrambleLogicModel", name := "of", desc := "(II)I" } : Jvm.MethodName)) ∈ lw_tbl := lw_at lw_m12 193 rfl
theorem q2941 : (Jvm.Cond.instanceMethod ({ cls := "BrambleLogicModel", name := "of", desc := "(II)I" } : Jvm.MethodName)) ∈ lw_all := lw_g (lw_at lw_m12 194 rfl) rfl
theorem q2942 : (Jvm.Cond.code ({ cls := "BrambleLogicModel", name := "of", desc := "(II)I" } : Jvm.MethodName) prog_28_method_16_code (3 : Nat) (Option.some Jvm.ClassFile.FieldType.int)) ∈ lw_all := lw_g (lw_at lw_m12 195 rfl) rfl
theorem q2943 : (Jvm.Cond.methodLink "BrambleLogicModel" (96 : Nat) ({ cls := "BrambleLogicModel", name := "literal", desc := "(III)I" } : Jvm.MethodName)) ∈ lw_all := lw_g (lw_at lw_m12 196 rfl) rfl
theorem q2944 : (Jvm.Cond.privateMethod ({ cls := "BrambleLogicModel", name := "literal", desc := "(III)I" } : Jvm.MethodName)) ∈ lw_tbl := lw_at lw_m12 197 rfl
theorem q2945 : (Jvm.Cond.instanceMethod ({ cls := "BrambleLogicModel", name := "literal", desc := "(III)I" } : Jvm.MethodName)) ∈ lw_all := lw_g (lw_at lw_m12 198 rfl) rfl
theorem q2946 : (Jvm.Cond.code ({ cls := "BrambleLogicModel", name := "literal", desc := "(III)I" } : Jvm.MethodName) prog_28_method_17_code (4 : Nat) (Option.some Jvm.ClassFile.FieldType.int)) ∈ lw_all := lw_g (lw_at lw_m12 199 rfl) rfl
theorem q2947 : (Jvm.Cond.methodLink "BrambleLogicModel" (138 : Nat) ({ cls := "BrambleLogicModel", name := "makes", desc := "(I)Z" } : Jvm.MethodName)) ∈ lw_all := lw_g (lw_at lw_m12 200 rfl) rfl
theorem q2948 : (Jvm.Cond.privateMethod ({ cls := "BrambleLogicModel", name := "makes", desc := "(I)Z" } : Jvm.MethodName)) ∈ lw_tbl := lw_at lw_m12 201 rfl
theorem q2949 : (Jvm.Cond.instanceMethod ({ cls := "BrambleLogicModel", name := "makes", desc := "(I)Z" } : Jvm.MethodName)) ∈ lw_all := lw_g (lw_at lw_m12 202 rfl) rfl
theorem q2950 : (Jvm.Cond.code ({ cls := "BrambleLogicModel", name := "makes", desc := "(I)Z" } : Jvm.MethodName) prog_28_method_32_code (4 : Nat) (Option.some Jvm.ClassFile.FieldType.boolean)) ∈ lw_all := lw_g (lw_at lw_m12 203 rfl) rfl
theorem q2951 : (Jvm.Cond.methodLink "BrambleLogicModel" (123 : Nat) ({ cls := "BrambleLogicModel", name := "isStep", desc := "(II)Z" } : Jvm.MethodName)) ∈ lw_all := lw_g (lw_at lw_m12 204 rfl) rfl
theorem q2952 : (Jvm.Cond.privateMethod ({ cls := "BrambleLogicModel", name := "isStep", desc := "(II)Z" } : Jvm.MethodName)) ∈ lw_tbl := lw_at lw_m12 205 rfl
theorem q2953 : (Jvm.Cond.instanceMethod ({ cls := "BrambleLogicModel", name := "isStep", desc := "(II)Z" } : Jvm.MethodName)) ∈ lw_all := lw_g (lw_at lw_m12 206 rfl) rfl
theorem q2954 : (Jvm.Cond.code ({ cls := "BrambleLogicModel", name := "isStep", desc := "(II)Z" } : Jvm.MethodName) prog_28_method_30_code (3 : Nat) (Option.some Jvm.ClassFile.FieldType.boolean)) ∈ lw_all := lw_g (lw_at lw_m12 207 rfl) rfl
theorem q2955 : (Jvm.Cond.methodLink "BrambleLogicModel" (120 : Nat) ({ cls := "BrambleLogicModel", name := "lastOf", desc := "(II)I" } : Jvm.MethodName)) ∈ lw_all := lw_g (lw_at lw_m12 208 rfl) rfl
theorem q2956 : (Jvm.Cond.privateMethod ({ cls := "BrambleLogicModel", name := "lastOf", desc := "(II)I" } : Jvm.MethodName)) ∈ lw_tbl := lw_at lw_m12 209 rfl
theorem q2957 : (Jvm.Cond.instanceMethod ({ cls := "BrambleLogicModel", name := "lastOf", desc := "(II)I" } : Jvm.MethodName)) ∈ lw_all := lw_g (lw_at lw_m12 210 rfl) rfl
theorem q2958 : (Jvm.Cond.code ({ cls := "BrambleLogicModel", name := "lastOf", desc := "(II)I" } : Jvm.MethodName) prog_28_method_21_code (3 : Nat) (Option.some Jvm.ClassFile.FieldType.int)) ∈ lw_all := lw_g (lw_at lw_m12 211 rfl) rfl
theorem q2959 : (Jvm.Cond.methodLink "BrambleLogicModel" (99 : Nat) ({ cls := "BrambleLogicModel", name := "hasVariable", desc := "(II)Z" } : Jvm.MethodName)) ∈ lw_all := lw_g (lw_at lw_m12 212 rfl) rfl
theorem q2960 : (Jvm.Cond.privateMethod ({ cls := "BrambleLogicModel", name := "hasVariable", desc := "(II)Z" } : Jvm.MethodName)) ∈ lw_tbl := lw_at lw_m12 213 rfl
theorem q2961 : (Jvm.Cond.instanceMethod ({ cls := "BrambleLogicModel", name := "hasVariable", desc := "(II)Z" } : Jvm.MethodName)) ∈ lw_all := lw_g (lw_at lw_m12 214 rfl) rfl
theorem q2962 : (Jvm.Cond.code ({ cls := "BrambleLogicModel", name := "hasVariable", desc := "(II)Z" } : Jvm.MethodName) prog_28_method_20_code (5 : Nat) (Option.some Jvm.ClassFile.FieldType.boolean)) ∈ lw_all := lw_g (lw_at lw_m12 215 rfl) rfl
theorem q2963 : (Jvm.Cond.methodLink "BrambleLogicModel" (126 : Nat) ({ cls := "BrambleLogicModel", name := "holdsAll", desc := "(I)Z" } : Jvm.MethodName)) ∈ lw_all := lw_g (lw_at lw_m12 216 rfl) rfl
theorem q2964 : (Jvm.Cond.privateMethod ({ cls := "BrambleLogicModel", name := "holdsAll", desc := "(I)Z" } : Jvm.MethodName)) ∈ lw_tbl := lw_at lw_m12 217 rfl
theorem q2965 : (Jvm.Cond.instanceMethod ({ cls := "BrambleLogicModel", name := "holdsAll", desc := "(I)Z" } : Jvm.MethodName)) ∈ lw_all := lw_g (lw_at lw_m12 218 rfl) rfl
theorem q2966 : (Jvm.Cond.code ({ cls := "BrambleLogicModel", name := "holdsAll", desc := "(I)Z" } : Jvm.MethodName) prog_28_method_29_code (3 : Nat) (Option.some Jvm.ClassFile.FieldType.boolean)) ∈ lw_all := lw_g (lw_at lw_m12 219 rfl) rfl
theorem q2967 : (Jvm.Cond.methodLink "BrambleLogicModel" (117 : Nat) ({ cls := "BrambleLogicModel", name := "holds", desc := "(II)Z" } : Jvm.MethodName)) ∈ lw_all := lw_g (lw_at lw_m12 220 rfl) rfl
theorem q2968 : (Jvm.Cond.privateMethod ({ cls := "BrambleLogicModel", name := "holds", desc := "(II)Z" } : Jvm.MethodName)) ∈ lw_tbl := lw_at lw_m12 221 rfl
theorem q2969 : (Jvm.Cond.instanceMethod ({ cls := "BrambleLogicModel", name := "holds", desc := "(II)Z" } : Jvm.MethodName)) ∈ lw_all := lw_g (lw_at lw_m12 222 rfl) rfl
theorem q2970 : (Jvm.Cond.code ({ cls := "BrambleLogicModel", name := "holds", desc := "(II)Z" } : Jvm.MethodName) prog_28_method_28_code (5 : Nat) (Option.some Jvm.ClassFile.FieldType.boolean)) ∈ lw_all := lw_g (lw_at lw_m12 223 rfl) rfl
theorem q2971 : (Jvm.Cond.methodLink "BrambleLogicModel" (110 : Nat) ({ cls := "BrambleLogicModel", name := "constant", desc := "(I)I" } : Jvm.MethodName)) ∈ lw_all := lw_g (lw_at lw_m12 224 rfl) rfl
theorem q2972 : (Jvm.Cond.privateMethod ({ cls := "BrambleLogicModel", name := "constant", desc := "(I)I" } : Jvm.MethodName)) ∈ lw_tbl := lw_at lw_m12 225 rfl
theorem q2973 : (Jvm.Cond.instanceMethod ({ cls := "BrambleLogicModel", name := "constant", desc := "(I)I" } : Jvm.MethodName)) ∈ lw_all := lw_g (lw_at lw_m12 226 rfl) rfl
theorem q2974 : (Jvm.Cond.code ({ cls := "BrambleLogicModel", name := "constant", desc := "(I)I" } : Jvm.MethodName) prog_28_method_18_code (2 : Nat) (Option.some Jvm.ClassFile.FieldType.int)) ∈ lw_all := lw_g (lw_at lw_m12 227 rfl) rfl
theorem q2975 : (Jvm.Cond.methodLink "BrambleLogicModel" (114 : Nat) ({ cls := "BrambleLogicModel", name := "factOfLiteral", desc := "(II)I" } : Jvm.MethodName)) ∈ lw_all := lw_g (lw_at lw_m12 228 rfl) rfl
theorem q2976 : (Jvm.Cond.privateMethod ({ cls := "BrambleLogicModel", name := "factOfLiteral", desc := "(II)I" } : Jvm.MethodName)) ∈ lw_tbl := lw_at lw_m12 229 rfl
theorem q2977 : (Jvm.Cond.instanceMethod ({ cls := "BrambleLogicModel", name := "factOfLiteral", desc := "(II)I" } : Jvm.MethodName)) ∈ lw_all := lw_g (lw_at lw_m12 230 rfl) rfl
theorem q2978 : (Jvm.Cond.code ({ cls := "BrambleLogicModel", name := "factOfLiteral", desc := "(II)I" } : Jvm.MethodName) prog_28_method_26_code (3 : Nat) (Option.some Jvm.ClassFile.FieldType.int)) ∈ lw_all := lw_g (lw_at lw_m12 231 rfl) rfl
theorem q2979 : (Jvm.Cond.methodLink "BrambleLogicModel" (129 : Nat) ({ cls := "BrambleLogicModel", name := "head", desc := "(I)I" } : Jvm.MethodName)) ∈ lw_all := lw_g (lw_at lw_m12 232 rfl) rfl
theorem q2980 : (Jvm.Cond.privateMethod ({ cls := "BrambleLogicModel", name := "head", desc := "(I)I" } : Jvm.MethodName)) ∈ lw_tbl := lw_at lw_m12 233 rfl
theorem q2981 : (Jvm.Cond.instanceMethod ({ cls := "BrambleLogicModel", name := "head", desc := "(I)I" } : Jvm.MethodName)) ∈ lw_all := lw_g (lw_at lw_m12 234 rfl) rfl
theorem q2982 : (Jvm.Cond.code ({ cls := "BrambleLogicModel", name := "head", desc := "(I)I" } : Jvm.MethodName) prog_28_method_27_code (2 : Nat) (Option.some Jvm.ClassFile.FieldType.int)) ∈ lw_all := lw_g (lw_at lw_m12 235 rfl) rfl
theorem q2983 : (Jvm.Cond.methodLink "BrambleLogicModel" (132 : Nat) ({ cls := "BrambleLogicModel", name := "next", desc := "(II)I" } : Jvm.MethodName)) ∈ lw_all := lw_g (lw_at lw_m12 236 rfl) rfl
theorem q2984 : (Jvm.Cond.privateMethod ({ cls := "BrambleLogicModel", name := "next", desc := "(II)I" } : Jvm.MethodName)) ∈ lw_tbl := lw_at lw_m12 237 rfl
theorem q2985 : (Jvm.Cond.instanceMethod ({ cls := "BrambleLogicModel", name := "next", desc := "(II)I" } : Jvm.MethodName)) ∈ lw_all := lw_g (lw_at lw_m12 238 rfl) rfl
theorem q2986 : (Jvm.Cond.code ({ cls := "BrambleLogicModel", name := "next", desc := "(II)I" } : Jvm.MethodName) prog_28_method_31_code (5 : Nat) (Option.some Jvm.ClassFile.FieldType.int)) ∈ lw_all := lw_g (lw_at lw_m12 239 rfl) rfl
theorem q2987 : (Jvm.Cond.methodLink "BrambleLogicModel" (155 : Nat) ({ cls := "BrambleLogicModel", name := "measures", desc := "()V" } : Jvm.MethodName)) ∈ lw_all := lw_g (lw_at lw_m13 0 rfl) rfl
theorem q2988 : (Jvm.Cond.privateMethod ({ cls := "BrambleLogicModel", name := "measures", desc := "()V" } : Jvm.MethodName)) ∈ lw_tbl := lw_at lw_m13 1 rfl
theorem q2989 : (Jvm.Cond.instanceMethod ({ cls := "BrambleLogicModel", name := "measures", desc := "()V" } : Jvm.MethodName)) ∈ lw_all := lw_g (lw_at lw_m13 2 rfl) rfl
theorem q2990 : (Jvm.Cond.code ({ cls := "BrambleLogicModel", name := "measures", desc := "()V" } : Jvm.MethodName) prog_28_method_37_code (3 : Nat) (Option.none : Option Jvm.ClassFile.FieldType)) ∈ lw_all := lw_g (lw_at lw_m13 3 rfl) rfl
theorem q2991 : (Jvm.Cond.constant "BrambleLogicModel" (144 : Nat) (1000000 : Int32)) ∈ lw_all := lw_g (lw_at lw_m13 4 rfl) rfl
theorem q2992 : (Jvm.Cond.methodLink "BrambleLogicModel" (145 : Nat) ({ cls := "BrambleLogicModel", name := "lowers", desc := "(I)Z" } : Jvm.MethodName)) ∈ lw_all := lw_g (lw_at lw_m13 5 rfl) rfl
theorem q2993 : (Jvm.Cond.privateMethod ({ cls := "BrambleLogicModel", name := "lowers", desc := "(I)Z" } : Jvm.MethodName)) ∈ lw_tbl := lw_at lw_m13 6 rfl
theorem q2994 : (Jvm.Cond.instanceMethod ({ cls := "BrambleLogicModel", name := "lowers", desc := "(I)Z" } : Jvm.MethodName)) ∈ lw_all := lw_g (lw_at lw_m13 7 rfl) rfl
theorem q2995 : (Jvm.Cond.code ({ cls := "BrambleLogicModel", name := "lowers", desc := "(I)Z" } : Jvm.MethodName) prog_28_method_35_code (4 : Nat) (Option.some Jvm.ClassFile.FieldType.boolean)) ∈ lw_all := lw_g (lw_at lw_m13 8 rfl) rfl
theorem q2996 : (Jvm.Cond.methodLink "BrambleLogicModel" (141 : Nat) ({ cls := "BrambleLogicModel", name := "heightBy", desc := "(I)I" } : Jvm.MethodName)) ∈ lw_all := lw_g (lw_at lw_m13 9 rfl) rfl
theorem q2997 : (Jvm.Cond.privateMethod ({ cls := "BrambleLogicModel", name := "heightBy", desc := "(I)I" } : Jvm.MethodName)) ∈ lw_tbl := lw_at lw_m13 10 rfl
theorem q2998 : (Jvm.Cond.instanceMethod ({ cls := "BrambleLogicModel", name := "heightBy", desc := "(I)I" } : Jvm.MethodName)) ∈ lw_all := lw_g (lw_at lw_m13 11 rfl) rfl
theorem q2999 : (Jvm.Cond.code ({ cls := "BrambleLogicModel", name := "heightBy", desc := "(I)I" } : Jvm.MethodName) prog_28_method_34_code (5 : Nat) (Option.some Jvm.ClassFile.FieldType.int)) ∈ lw_all := lw_g (lw_at lw_m13 12 rfl) rfl
theorem q3000 : (Jvm.Cond.methodLink "BrambleLogicModel" (148 : Nat) ({ cls := "BrambleLogicModel", name := "chooses", desc := "(I)V" } : Jvm.MethodName)) ∈ lw_all := lw_g (lw_at lw_m13 13 rfl) rfl
theorem q3001 : (Jvm.Cond.privateMethod ({ cls := "BrambleLogicModel", name := "chooses", desc := "(I)V" } : Jvm.MethodName)) ∈ lw_tbl := lw_at lw_m13 14 rfl
theorem q3002 : (Jvm.Cond.instanceMethod ({ cls := "BrambleLogicModel", name := "chooses", desc := "(I)V" } : Jvm.MethodName)) ∈ lw_all := lw_g (lw_at lw_m13 15 rfl) rfl
theorem q3003 : (Jvm.Cond.code ({ cls := "BrambleLogicModel", name := "chooses", desc := "(I)V" } : Jvm.MethodName) prog_28_method_36_code (4 : Nat) (Option.none : Option Jvm.ClassFile.FieldType)) ∈ lw_all := lw_g (lw_at lw_m13 16 rfl) rfl
theorem q3004 : (Jvm.Cond.methodLink "BrambleLogicModel" (186 : Nat) ({ cls := "BrambleLogicModel", name := "takes", desc := "(III)I" } : Jvm.MethodName)) ∈ lw_all := lw_g (lw_at lw_m13 17 rfl) rfl
theorem q3005 : (Jvm.Cond.privateMethod ({ cls := "BrambleLogicModel", name := "takes", desc := "(III)I" } : Jvm.MethodName)) ∈ lw_tbl := lw_at lw_m13 18 rfl
theorem q3006 : (Jvm.Cond.instanceMethod ({ cls := "BrambleLogicModel", name := "takes", desc := "(III)I" } : Jvm.MethodName)) ∈ lw_all := lw_g (lw_at lw_m13 19 rfl) rfl
theorem q3007 : (Jvm.Cond.code ({ cls := "BrambleLogicModel", name := "takes", desc := "(III)I" } : Jvm.MethodName) prog_28_method_43_code (4 : Nat) (Option.some Jvm.ClassFile.FieldType.int)) ∈ lw_all := lw_g (lw_at lw_m13 20 rfl) rfl
theorem q3008 : (Jvm.Cond.methodLink "BrambleLogicModel" (180 : Nat) ({ cls := "BrambleLogicModel", name := "isNotGiven", desc := "(III)Z" } : Jvm.MethodName)) ∈ lw_all := lw_g (lw_at lw_m13 21 rfl) rfl
theorem q3009 : (Jvm.Cond.privateMethod ({ cls := "BrambleLogicModel", name := "isNotGiven", desc := "(III)Z" } : Jvm.MethodName)) ∈ lw_tbl := lw_at lw_m13 22 rfl
theorem q3010 : (Jvm.Cond.instanceMethod ({ cls := "BrambleLogicModel", name := "isNotGiven", desc := "(III)Z" } : Jvm.MethodName)) ∈ lw_all := lw_g (lw_at lw_m13 23 rfl) rfl
theorem q3011 : (Jvm.Cond.code ({ cls := "BrambleLogicModel", name := "isNotGiven", desc := "(III)Z" } : Jvm.MethodName) prog_28_method_42_code (4 : Nat) (Option.some Jvm.ClassFile.FieldType.boolean)) ∈ lw_all := lw_g (lw_at lw_m13 24 rfl) rfl
theorem q3012 : (Jvm.Cond.methodLink "BrambleLogicModel" (192 : Nat) ({ cls := "BrambleLogicModel", name := "unlike", desc := "(Z)I" } : Jvm.MethodName)) ∈ lw_all := lw_g (lw_at lw_m13 25 rfl) rfl
theorem q3013 : (Jvm.Cond.privateMethod ({ cls := "BrambleLogicModel", name := "unlike", desc := "(Z)I" } : Jvm.MethodName)) ∈ lw_tbl := lw_at lw_m13 26 rfl
theorem q3014 : (Jvm.Cond.instanceMethod ({ cls := "BrambleLogicModel", name := "unlike", desc := "(Z)I" } : Jvm.MethodName)) ∈ lw_all := lw_g (lw_at lw_m13 27 rfl) rfl
theorem q3015 : (Jvm.Cond.code ({ cls := "BrambleLogicModel", name := "unlike", desc := "(Z)I" } : Jvm.MethodName) prog_28_method_45_code (4 : Nat) (Option.some Jvm.ClassFile.FieldType.int)) ∈ lw_all := lw_g (lw_at lw_m13 28 rfl) rfl
theorem q3017 : (Jvm.Cond.instanceMethod ({ cls := "BrambleLogicModel", name := "dropRule", desc := "(I)I" } : Jvm.MethodName)) ∈ lw_all := lw_g (lw_at lw_m13 30 rfl) rfl
theorem q3018 : (Jvm.Cond.selects "BrambleLogicModel" ({ cls := "BrambleLogicModel", name := "dropRule", desc := "(I)I" } : Jvm.MethodName) ({ cls := "BrambleLogicModel", name := "dropRule", desc := "(I)I" } : Jvm.MethodName)) ∈ lw_all := lw_g (lw_at lw_m13 31 rfl) rfl
theorem q3019 : (Jvm.Cond.code ({ cls := "BrambleLogicModel", name := "dropRule", desc := "(I)I" } : Jvm.MethodName) prog_28_method_48_code (2 : Nat) (Option.some Jvm.ClassFile.FieldType.int)) ∈ lw_all := lw_g (lw_at lw_m13 32 rfl) rfl
theorem q3020 : (Jvm.Cond.methodLink "BrambleLogicModel" (199 : Nat) ({ cls := "BrambleLogicModel", name := "drops", desc := "(I)I" } : Jvm.MethodName)) ∈ lw_all := lw_g (lw_at lw_m13 33 rfl) rfl
theorem q3021 : (Jvm.Cond.privateMethod ({ cls := "BrambleLogicModel", name := "drops", desc := "(I)I" } : Jvm.MethodName)) ∈ lw_tbl := lw_at lw_m13 34 rfl
theorem q3022 : (Jvm.Cond.instanceMethod ({ cls := "BrambleLogicModel", name := "drops", desc := "(I)I" } : Jvm.MethodName)) ∈ lw_all := lw_g (lw_at lw_m13 35 rfl) rfl
theorem q3023 : (Jvm.Cond.code ({ cls := "BrambleLogicModel", name := "drops", desc := "(I)I" } : Jvm.MethodName) prog_28_method_47_code (3 : Nat) (Option.some Jvm.ClassFile.FieldType.int)) ∈ lw_all := lw_g (lw_at lw_m13 36 rfl) rfl
theorem q3024 : (Jvm.Cond.methodLink "BrambleLogicModel" (196 : Nat) ({ cls := "BrambleLogicModel", name := "isRule", desc := "(I)Z" } : Jvm.MethodName)) ∈ lw_all := lw_g (lw_at lw_m13 37 rfl) rfl
theorem q3025 : (Jvm.Cond.privateMethod ({ cls := "BrambleLogicModel", name := "isRule", desc := "(I)Z" } : Jvm.MethodName)) ∈ lw_tbl := lw_at lw_m13 38 rfl
theorem q3026 : (Jvm.Cond.instanceMethod ({ cls := "BrambleLogicModel", name := "isRule", desc := "(I)Z" } : Jvm.MethodName)) ∈ lw_all := lw_g (lw_at lw_m13 39 rfl) rfl
theorem q3027 : (Jvm.Cond.code ({ cls := "BrambleLogicModel", name := "isRule", desc := "(I)Z" } : Jvm.MethodName) prog_28_method_19_code (2 : Nat) (Option.some Jvm.ClassFile.FieldType.boolean)) ∈ lw_all := lw_g (lw_at lw_m13 40 rfl) rfl
theorem q3029 : (Jvm.Cond.instanceMethod ({ cls := "BrambleLogicModel", name := "givenCount", desc := "()I" } : Jvm.MethodName)) ∈ lw_all := lw_g (lw_at lw_m13 42 rfl) rfl
theorem q3030 : (Jvm.Cond.selects "BrambleLogicModel" ({ cls := "BrambleLogicModel", name := "givenCount", desc := "()I" } : Jvm.MethodName) ({ cls := "BrambleLogicModel", name := "givenCount", desc := "()I" } : Jvm.MethodName)) ∈ lw_all := lw_g (lw_at lw_m13 43 rfl) rfl
theorem q3031 : (Jvm.Cond.code ({ cls := "BrambleLogicModel", name := "givenCount", desc := "()I" } : Jvm.MethodName) prog_28_method_49_code (1 : Nat) (Option.some Jvm.ClassFile.FieldType.int)) ∈ lw_all := lw_g (lw_at lw_m13 44 rfl) rfl
theorem q3033 : (Jvm.Cond.instanceMethod ({ cls := "BrambleLogicModel", name := "isGiven", desc := "(CII)Z" } : Jvm.MethodName)) ∈ lw_all := lw_g (lw_at lw_m13 46 rfl) rfl
theorem q3034 : (Jvm.Cond.selects "BrambleLogicModel" ({ cls := "BrambleLogicModel", name := "isGiven", desc := "(CII)Z" } : Jvm.MethodName) ({ cls := "BrambleLogicModel", name := "isGiven", desc := "(CII)Z" } : Jvm.MethodName)) ∈ lw_all := lw_g (lw_at lw_m13 47 rfl) rfl
theorem q3035 : (Jvm.Cond.code ({ cls := "BrambleLogicModel", name := "isGiven", desc := "(CII)Z" } : Jvm.MethodName) prog_28_method_50_code (4 : Nat) (Option.some Jvm.ClassFile.FieldType.boolean)) ∈ lw_all := lw_g (lw_at lw_m13 48 rfl) rfl
theorem q3037 : (Jvm.Cond.instanceMethod ({ cls := "BrambleLogicModel", name := "isTrue", desc := "(CII)Z" } : Jvm.MethodName)) ∈ lw_all := lw_g (lw_at lw_m13 50 rfl) rfl
theorem q3038 : (Jvm.Cond.selects "BrambleLogicModel" ({ cls := "BrambleLogicModel", name := "isTrue", desc := "(CII)Z" } : Jvm.MethodName) ({ cls := "BrambleLogicModel", name := "isTrue", desc := "(CII)Z" } : Jvm.MethodName)) ∈ lw_all := lw_g (lw_at lw_m13 51 rfl) rfl
theorem q3039 : (Jvm.Cond.code ({ cls := "BrambleLogicModel", name := "isTrue", desc := "(CII)Z" } : Jvm.MethodName) prog_28_method_51_code (4 : Nat) (Option.some Jvm.ClassFile.FieldType.boolean)) ∈ lw_all := lw_g (lw_at lw_m13 52 rfl) rfl
theorem q3041 : (Jvm.Cond.instanceMethod ({ cls := "BrambleLogicModel", name := "isTrueByTrying", desc := "(CII)Z" } : Jvm.MethodName)) ∈ lw_all := lw_g (lw_at lw_m13 54 rfl) rfl
theorem q3042 : (Jvm.Cond.selects "BrambleLogicModel" ({ cls := "BrambleLogicModel", name := "isTrueByTrying", desc := "(CII)Z" } : Jvm.MethodName) ({ cls := "BrambleLogicModel", name := "isTrueByTrying", desc := "(CII)Z" } : Jvm.MethodName)) ∈ lw_all := lw_g (lw_at lw_m13 55 rfl) rfl
theorem q3043 : (Jvm.Cond.code ({ cls := "BrambleLogicModel", name := "isTrueByTrying", desc := "(CII)Z" } : Jvm.MethodName) prog_28_method_52_code (4 : Nat) (Option.some Jvm.ClassFile.FieldType.boolean)) ∈ lw_all := lw_g (lw_at lw_m13 56 rfl) rfl
theorem q3044 : (Jvm.Cond.methodLink "BrambleLogicModel" (202 : Nat) ({ cls := "BrambleLogicModel", name := "isTrue", desc := "(CII)Z" } : Jvm.MethodName)) ∈ lw_all := lw_g (lw_at lw_m13 57 rfl) rfl
theorem q3046 : (Jvm.Cond.instanceMethod ({ cls := "BrambleLogicModel", name := "trueCount", desc := "(C)I" } : Jvm.MethodName)) ∈ lw_all := lw_g (lw_at lw_m13 59 rfl) rfl
theorem q3047 : (Jvm.Cond.selects "BrambleLogicModel" ({ cls := "BrambleLogicModel", name := "trueCount", desc := "(C)I" } : Jvm.MethodName) ({ cls := "BrambleLogicModel", name := "trueCount", desc := "(C)I" } : Jvm.MethodName)) ∈ lw_all := lw_g (lw_at lw_m13 60 rfl) rfl
theorem q3048 : (Jvm.Cond.code ({ cls := "BrambleLogicModel", name := "trueCount", desc := "(C)I" } : Jvm.MethodName) prog_28_method_53_code (2 : Nat) (Option.some Jvm.ClassFile.FieldType.int)) ∈ lw_all := lw_g (lw_at lw_m13 61 rfl) rfl
theorem q3049 : (Jvm.Cond.methodLink "BrambleLogicModel" (205 : Nat) ({ cls := "BrambleLogicModel", name := "begin", desc := "(I)I" } : Jvm.MethodName)) ∈ lw_all := lw_g (lw_at lw_m13 62 rfl) rfl
theorem q3050 : (Jvm.Cond.static ({ cls := "BrambleLogicModel", name := "begin", desc := "(I)I" } : Jvm.MethodName)) ∈ lw_all := lw_g (lw_at lw_m13 63 rfl) rfl
theorem q3051 : (Jvm.Cond.code ({ cls := "BrambleLogicModel", name := "begin", desc := "(I)I" } : Jvm.MethodName) prog_28_method_14_code (1 : Nat) (Option.some Jvm.ClassFile.FieldType.int)) ∈ lw_all := lw_g (lw_at lw_m13 64 rfl) rfl
theorem q3052 : (Jvm.Cond.methodLink "BrambleLogicModel" (208 : Nat) ({ cls := "BrambleLogicModel", name := "end", desc := "(I)I" } : Jvm.MethodName)) ∈ lw_all := lw_g (lw_at lw_m13 65 rfl) rfl
theorem q3053 : (Jvm.Cond.static ({ cls := "BrambleLogicModel", name := "end", desc := "(I)I" } : Jvm.MethodName)) ∈ lw_all := lw_g (lw_at lw_m13 66 rfl) rfl
theorem q3054 : (Jvm.Cond.code ({ cls := "BrambleLogicModel", name := "end", desc := "(I)I" } : Jvm.MethodName) prog_28_method_15_code (1 : Nat) (Option.some Jvm.ClassFile.FieldType.int)) ∈ lw_all := lw_g (lw_at lw_m13 67 rfl) rfl
theorem q3055 : (Jvm.Cond.methodLink "BrambleLogicModel" (211 : Nat) ({ cls := "BrambleLogicModel", name := "trueMany", desc := "(II)I" } : Jvm.MethodName)) ∈ lw_all := lw_g (lw_at lw_m13 68 rfl) rfl
theorem q3056 : (Jvm.Cond.privateMethod ({ cls := "BrambleLogicModel", name := "trueMany", desc := "(II)I" } : Jvm.MethodName)) ∈ lw_tbl := lw_at lw_m13 69 rfl
theorem q3057 : (Jvm.Cond.instanceMethod ({ cls := "BrambleLogicModel", name := "trueMany", desc := "(II)I" } : Jvm.MethodName)) ∈ lw_all := lw_g (lw_at lw_m13 70 rfl) rfl
theorem q3058 : (Jvm.Cond.code ({ cls := "BrambleLogicModel", name := "trueMany", desc := "(II)I" } : Jvm.MethodName) prog_28_method_39_code (5 : Nat) (Option.some Jvm.ClassFile.FieldType.int)) ∈ lw_all := lw_g (lw_at lw_m13 71 rfl) rfl
theorem q3060 : (Jvm.Cond.instanceMethod ({ cls := "BrambleLogicModel", name := "allTrue", desc := "()I" } : Jvm.MethodName)) ∈ lw_all := lw_g (lw_at lw_m13 73 rfl) rfl
theorem q3061 : (Jvm.Cond.selects "BrambleLogicModel" ({ cls := "BrambleLogicModel", name := "allTrue", desc := "()I" } : Jvm.MethodName) ({ cls := "BrambleLogicModel", name := "allTrue", desc := "()I" } : Jvm.MethodName)) ∈ lw_all := lw_g (lw_at lw_m13 74 rfl) rfl
theorem q3062 : (Jvm.Cond.code ({ cls := "BrambleLogicModel", name := "allTrue", desc := "()I" } : Jvm.MethodName) prog_28_method_54_code (1 : Nat) (Option.some Jvm.ClassFile.FieldType.int)) ∈ lw_all := lw_g (lw_at lw_m13 75 rfl) rfl
theorem q3064 : (Jvm.Cond.instanceMethod ({ cls := "BrambleLogicModel", name := "gainedWithout", desc := "(CII)I" } : Jvm.MethodName)) ∈ lw_all := lw_g (lw_at lw_m13 77 rfl) rfl
theorem q3065 : (Jvm.Cond.selects "BrambleLogicModel" ({ cls := "BrambleLogicModel", name := "gainedWithout", desc := "(CII)I" } : Jvm.MethodName) ({ cls := "BrambleLogicModel", name := "gainedWithout", desc := "(CII)I" } : Jvm.MethodName)) ∈ lw_all := lw_g (lw_at lw_m13 78 rfl) rfl
theorem q3066 : (Jvm.Cond.code ({ cls := "BrambleLogicModel", name := "gainedWithout", desc := "(CII)I" } : Jvm.MethodName) prog_28_method_55_code (6 : Nat) (Option.some Jvm.ClassFile.FieldType.int)) ∈ lw_all := lw_g (lw_at lw_m13 79 rfl) rfl
theorem q3068 : (Jvm.Cond.instanceMethod ({ cls := "BrambleLogicModel", name := "constantAtRank", desc := "(CI)I" } : Jvm.MethodName)) ∈ lw_all := lw_g (lw_at lw_m13 81 rfl) rfl
theorem q3069 : (Jvm.Cond.selects "BrambleLogicModel" ({ cls := "BrambleLogicModel", name := "constantAtRank", desc := "(CI)I" } : Jvm.MethodName) ({ cls := "BrambleLogicModel", name := "constantAtRank", desc := "(CI)I" } : Jvm.MethodName)) ∈ lw_all := lw_g (lw_at lw_m13 82 rfl) rfl
theorem q3070 : (Jvm.Cond.code ({ cls := "BrambleLogicModel", name := "constantAtRank", desc := "(CI)I" } : Jvm.MethodName) prog_28_method_57_code (7 : Nat) (Option.some Jvm.ClassFile.FieldType.int)) ∈ lw_all := lw_g (lw_at lw_m13 83 rfl) rfl
theorem q3071 : (Jvm.Cond.methodLink "BrambleLogicModel" (214 : Nat) ({ cls := "BrambleLogicModel", name := "trueWith", desc := "(II)I" } : Jvm.MethodName)) ∈ lw_all := lw_g (lw_at lw_m13 84 rfl) rfl
theorem q3072 : (Jvm.Cond.privateMethod ({ cls := "BrambleLogicModel", name := "trueWith", desc := "(II)I" } : Jvm.MethodName)) ∈ lw_tbl := lw_at lw_m13 85 rfl
theorem q3073 : (Jvm.Cond.instanceMethod ({ cls := "BrambleLogicModel", name := "trueWith", desc := "(II)I" } : Jvm.MethodName)) ∈ lw_all := lw_g (lw_at lw_m13 86 rfl) rfl
theorem q3074 : (Jvm.Cond.code ({ cls := "BrambleLogicModel", name := "trueWith", desc := "(II)I" } : Jvm.MethodName) prog_28_method_56_code (3 : Nat) (Option.some Jvm.ClassFile.FieldType.int)) ∈ lw_all := lw_g (lw_at lw_m13 87 rfl) rfl
theorem q3076 : (Jvm.Cond.instanceMethod ({ cls := "BrambleLogicModel", name := "greatest", desc := "(C)I" } : Jvm.MethodName)) ∈ lw_all := lw_g (lw_at lw_m13 89 rfl) rfl
theorem q3077 : (Jvm.Cond.selects "BrambleLogicModel" ({ cls := "BrambleLogicModel", name := "greatest", desc := "(C)I" } : Jvm.MethodName) ({ cls := "BrambleLogicModel", name := "greatest", desc := "(C)I" } : Jvm.MethodName)) ∈ lw_all := lw_g (lw_at lw_m13 90 rfl) rfl
theorem q3078 : (Jvm.Cond.code ({ cls := "BrambleLogicModel", name := "greatest", desc := "(C)I" } : Jvm.MethodName) prog_28_method_58_code (4 : Nat) (Option.some Jvm.ClassFile.FieldType.int)) ∈ lw_all := lw_g (lw_at lw_m13 91 rfl) rfl
theorem q3079 : (Jvm.Cond.methodLink "BrambleLogicModel" (217 : Nat) ({ cls := "BrambleLogicModel", name := "trueCount", desc := "(C)I" } : Jvm.MethodName)) ∈ lw_all := lw_g (lw_at lw_m13 92 rfl) rfl
theorem q3081 : (Jvm.Cond.instanceMethod ({ cls := "BrambleLogicModel", name := "height", desc := "(CII)I" } : Jvm.MethodName)) ∈ lw_all := lw_g (lw_at lw_m13 94 rfl) rfl
theorem q3082 : (Jvm.Cond.selects "BrambleLogicModel" ({ cls := "BrambleLogicModel", name := "height", desc := "(CII)I" } : Jvm.MethodName) ({ cls := "BrambleLogicModel", name := "height", desc := "(CII)I" } : Jvm.MethodName)) ∈ lw_all := lw_g (lw_at lw_m13 95 rfl) rfl
theorem q3083 : (Jvm.Cond.code ({ cls := "BrambleLogicModel", name := "height", desc := "(CII)I" } : Jvm.MethodName) prog_28_method_60_code (4 : Nat) (Option.some Jvm.ClassFile.FieldType.int)) ∈ lw_all := lw_g (lw_at lw_m13 96 rfl) rfl
theorem q3084 : (Jvm.Cond.methodLink "BrambleLogicModel" (221 : Nat) ({ cls := "BrambleLogicModel", name := "isNotTrue", desc := "(III)Z" } : Jvm.MethodName)) ∈ lw_all := lw_g (lw_at lw_m13 97 rfl) rfl
theorem q3085 : (Jvm.Cond.privateMethod ({ cls := "BrambleLogicModel", name := "isNotTrue", desc := "(III)Z" } : Jvm.MethodName)) ∈ lw_tbl := lw_at lw_m13 98 rfl
theorem q3086 : (Jvm.Cond.instanceMethod ({ cls := "BrambleLogicModel", name := "isNotTrue", desc := "(III)Z" } : Jvm.MethodName)) ∈ lw_all := lw_g (lw_at lw_m13 99 rfl) rfl
theorem q3087 : (Jvm.Cond.code ({ cls := "BrambleLogicModel", name := "isNotTrue", desc := "(III)Z" } : Jvm.MethodName) prog_28_method_59_code (4 : Nat) (Option.some Jvm.ClassFile.FieldType.boolean)) ∈ lw_all := lw_g (lw_at lw_m13 100 rfl) rfl
theorem q3089 : (Jvm.Cond.instanceMethod ({ cls := "BrambleLogicModel", name := "heightByLevels", desc := "(CII)I" } : Jvm.MethodName)) ∈ lw_all := lw_g (lw_at lw_m13 102 rfl) rfl
theorem q3090 : (Jvm.Cond.selects "BrambleLogicModel" ({ cls := "BrambleLogicModel", name := "heightByLevels", desc := "(CII)I" } : Jvm.MethodName) ({ cls := "BrambleLogicModel", name := "heightByLevels", desc := "(CII)I" } : Jvm.MethodName)) ∈ lw_all := lw_g (lw_at lw_m13 103 rfl) rfl
theorem q3091 : (Jvm.Cond.code ({ cls := "BrambleLogicModel", name := "heightByLevels", desc := "(CII)I" } : Jvm.MethodName) prog_28_method_61_code (4 : Nat) (Option.some Jvm.ClassFile.FieldType.int)) ∈ lw_all := lw_g (lw_at lw_m13 104 rfl) rfl
theorem q3092 : (Jvm.Cond.methodLink "BrambleLogicModel" (224 : Nat) ({ cls := "BrambleLogicModel", name := "height", desc := "(CII)I" } : Jvm.MethodName)) ∈ lw_all := lw_g (lw_at lw_m13 105 rfl) rfl
theorem q3094 : (Jvm.Cond.instanceMethod ({ cls := "BrambleLogicModel", name := "ruleOf", desc := "(CII)I" } : Jvm.MethodName)) ∈ lw_all := lw_g (lw_at lw_m13 107 rfl) rfl
theorem q3095 : (Jvm.Cond.selects "BrambleLogicModel" ({ cls := "BrambleLogicModel", name := "ruleOf", desc := "(CII)I" } : Jvm.MethodName) ({ cls := "BrambleLogicModel", name := "ruleOf", desc := "(CII)I" } : Jvm.MethodName)) ∈ lw_all := lw_g (lw_at lw_m13 108 rfl) rfl
theorem q3096 : (Jvm.Cond.code ({ cls := "BrambleLogicModel", name := "ruleOf", desc := "(CII)I" } : Jvm.MethodName) prog_28_method_62_code (5 : Nat) (Option.some Jvm.ClassFile.FieldType.int)) ∈ lw_all := lw_g (lw_at lw_m13 109 rfl) rfl
theorem q3098 : (Jvm.Cond.instanceMethod ({ cls := "BrambleLogicModel", name := "proofSize", desc := "(CII)J" } : Jvm.MethodName)) ∈ lw_all := lw_g (lw_at lw_m13 111 rfl) rfl
theorem q3099 : (Jvm.Cond.selects "BrambleLogicModel" ({ cls := "BrambleLogicModel", name := "proofSize", desc := "(CII)J" } : Jvm.MethodName) ({ cls := "BrambleLogicModel", name := "proofSize", desc := "(CII)J" } : Jvm.MethodName)) ∈ lw_all := lw_g (lw_at lw_m13 112 rfl) rfl
theorem q3100 : (Jvm.Cond.code ({ cls := "BrambleLogicModel", name := "proofSize", desc := "(CII)J" } : Jvm.MethodName) prog_28_method_65_code (4 : Nat) (Option.some Jvm.ClassFile.FieldType.long)) ∈ lw_all := lw_g (lw_at lw_m13 113 rfl) rfl
theorem q3101 : (Jvm.Cond.methodLink "BrambleLogicModel" (233 : Nat) ({ cls := "BrambleLogicModel", name := "sizes", desc := "()V" } : Jvm.MethodName)) ∈ lw_all := lw_g (lw_at lw_m13 114 rfl) rfl
theorem q3102 : (Jvm.Cond.privateMethod ({ cls := "BrambleLogicModel", name := "sizes", desc := "()V" } : Jvm.MethodName)) ∈ lw_tbl := lw_at lw_m13 115 rfl
theorem q3103 : (Jvm.Cond.instanceMethod ({ cls := "BrambleLogicModel", name := "sizes", desc := "()V" } : Jvm.MethodName)) ∈ lw_all := lw_g (lw_at lw_m13 116 rfl) rfl
theorem q3104 : (Jvm.Cond.code ({ cls := "BrambleLogicModel", name := "sizes", desc := "()V" } : Jvm.MethodName) prog_28_method_63_code (3 : Nat) (Option.none : Option Jvm.ClassFile.FieldType)) ∈ lw_all := lw_g (lw_at lw_m13 117 rfl) rfl
theorem q3105 : (Jvm.Cond.methodLink "BrambleLogicModel" (227 : Nat) ({ cls := "BrambleLogicModel", name := "sizeBy", desc := "(I)I" } : Jvm.MethodName)) ∈ lw_all := lw_g (lw_at lw_m13 118 rfl) rfl
theorem q3106 : (Jvm.Cond.privateMethod ({ cls := "BrambleLogicModel", name := "sizeBy", desc := "(I)I" } : Jvm.MethodName)) ∈ lw_tbl := lw_at lw_m13 119 rfl
theorem q3107 : (Jvm.Cond.instanceMethod ({ cls := "BrambleLogicModel", name := "sizeBy", desc := "(I)I" } : Jvm.MethodName)) ∈ lw_all := lw_g (lw_at lw_m13 120 rfl) rfl
theorem q3108 : (Jvm.Cond.code ({ cls := "BrambleLogicModel", name := "sizeBy", desc := "(I)I" } : Jvm.MethodName) prog_28_method_64_code (7 : Nat) (Option.some Jvm.ClassFile.FieldType.int)) ∈ lw_all := lw_g (lw_at lw_m13 121 rfl) rfl
theorem q3109 : (Jvm.Cond.constantLong "BrambleLogicModel" (230 : Nat) (1000000000 : Int64)) ∈ lw_all := lw_g (lw_at lw_m13 122 rfl) rfl
theorem q3110 : (Jvm.Cond.constant "BrambleLogicModel" (232 : Nat) (1000000000 : Int32)) ∈ lw_all := lw_g (lw_at lw_m13 123 rfl) rfl
theorem q3112 : (Jvm.Cond.instanceMethod ({ cls := "BrambleLogicModel", name := "answers", desc := "(CII)I" } : Jvm.MethodName)) ∈ lw_all := lw_g (lw_at lw_m13 125 rfl) rfl
theorem q3113 : (Jvm.Cond.selects "BrambleLogicModel" ({ cls := "BrambleLogicModel", name := "answers", desc := "(CII)I" } : Jvm.MethodName) ({ cls := "BrambleLogicModel", name := "answers", desc := "(CII)I" } : Jvm.MethodName)) ∈ lw_all := lw_g (lw_at lw_m13 126 rfl) rfl
theorem q3114 : (Jvm.Cond.code ({ cls := "BrambleLogicModel", name := "answers", desc := "(CII)I" } : Jvm.MethodName) prog_28_method_68_code (6 : Nat) (Option.some Jvm.ClassFile.FieldType.int)) ∈ lw_all := lw_g (lw_at lw_m13 127 rfl) rfl
theorem q3115 : (Jvm.Cond.methodLink "BrambleLogicModel" (239 : Nat) ({ cls := "BrambleLogicModel", name := "isGoal", desc := "(III)Z" } : Jvm.MethodName)) ∈ lw_all := lw_g (lw_at lw_m13 128 rfl) rfl
theorem q3116 : (Jvm.Cond.static ({ cls := "BrambleLogicModel", name := "isGoal", desc := "(III)Z" } : Jvm.MethodName)) ∈ lw_all := lw_g (lw_at lw_m13 129 rfl) rfl
theorem q3117 : (Jvm.Cond.code ({ cls := "BrambleLogicModel", name := "isGoal", desc := "(III)Z" } : Jvm.MethodName) prog_28_method_66_code (4 : Nat) (Option.some Jvm.ClassFile.FieldType.boolean)) ∈ lw_all := lw_g (lw_at lw_m13 130 rfl) rfl
theorem q3118 : (Jvm.Cond.methodLink "BrambleLogicModel" (242 : Nat) ({ cls := "BrambleLogicModel", name := "isAnswer", desc := "(IIII)Z" } : Jvm.MethodName)) ∈ lw_all := lw_g (lw_at lw_m13 131 rfl) rfl
theorem q3119 : (Jvm.Cond.privateMethod ({ cls := "BrambleLogicModel", name := "isAnswer", desc := "(IIII)Z" } : Jvm.MethodName)) ∈ lw_tbl := lw_at lw_m13 132 rfl
theorem q3120 : (Jvm.Cond.instanceMethod ({ cls := "BrambleLogicModel", name := "isAnswer", desc := "(IIII)Z" } : Jvm.MethodName)) ∈ lw_all := lw_g (lw_at lw_m13 133 rfl) rfl
theorem q3121 : (Jvm.Cond.code ({ cls := "BrambleLogicModel", name := "isAnswer", desc := "(IIII)Z" } : Jvm.MethodName) prog_28_method_67_code (5 : Nat) (Option.some Jvm.ClassFile.FieldType.boolean)) ∈ lw_all := lw_g (lw_at lw_m13 134 rfl) rfl
theorem q3122 : (Jvm.Cond.methodLink "BrambleLogicModel" (236 : Nat) ({ cls := "BrambleLogicModel", name := "predicate", desc := "(I)I" } : Jvm.MethodName)) ∈ lw_all := lw_g (lw_at lw_m13 135 rfl) rfl
theorem q3123 : (Jvm.Cond.static ({ cls := "BrambleLogicModel", name := "predicate", desc := "(I)I" } : Jvm.MethodName)) ∈ lw_all := lw_g (lw_at lw_m13 136 rfl) rfl
theorem q3124 : (Jvm.Cond.code ({ cls := "BrambleLogicModel", name := "predicate", desc := "(I)I" } : Jvm.MethodName) prog_28_method_13_code (1 : Nat) (Option.some Jvm.ClassFile.FieldType.int)) ∈ lw_all := lw_g (lw_at lw_m13 137 rfl) rfl
theorem q3126 : (Jvm.Cond.instanceMethod ({ cls := "BrambleLogicModel", name := "answersByGoals", desc := "(CII)I" } : Jvm.MethodName)) ∈ lw_all := lw_g (lw_at lw_m13 139 rfl) rfl
theorem q3127 : (Jvm.Cond.selects "BrambleLogicModel" ({ cls := "BrambleLogicModel", name := "answersByGoals", desc := "(CII)I" } : Jvm.MethodName) ({ cls := "BrambleLogicModel", name := "answersByGoals", desc := "(CII)I" } : Jvm.MethodName)) ∈ lw_all := lw_g (lw_at lw_m13 140 rfl) rfl
theorem q3128 : (Jvm.Cond.code ({ cls := "BrambleLogicModel", name := "answersByGoals", desc := "(CII)I" } : Jvm.MethodName) prog_28_method_69_code (4 : Nat) (Option.some Jvm.ClassFile.FieldType.int)) ∈ lw_all := lw_g (lw_at lw_m13 141 rfl) rfl
theorem q3129 : (Jvm.Cond.methodLink "BrambleLogicModel" (246 : Nat) ({ cls := "BrambleLogicModel", name := "answers", desc := "(CII)I" } : Jvm.MethodName)) ∈ lw_all := lw_g (lw_at lw_m13 142 rfl) rfl
theorem q3131 : (Jvm.Cond.instanceMethod ({ cls := "BrambleLogicModel", name := "answerAt", desc := "(CIII)I" } : Jvm.MethodName)) ∈ lw_all := lw_g (lw_at lw_m13 144 rfl) rfl
theorem q3132 : (Jvm.Cond.selects "BrambleLogicModel" ({ cls := "BrambleLogicModel", name := "answerAt", desc := "(CIII)I" } : Jvm.MethodName) ({ cls := "BrambleLogicModel", name := "answerAt", desc := "(CIII)I" } : Jvm.MethodName)) ∈ lw_all := lw_g (lw_at lw_m13 145 rfl) rfl
theorem q3133 : (Jvm.Cond.code ({ cls := "BrambleLogicModel", name := "answerAt", desc := "(CIII)I" } : Jvm.MethodName) prog_28_method_70_code (7 : Nat) (Option.some Jvm.ClassFile.FieldType.int)) ∈ lw_all := lw_g (lw_at lw_m13 146 rfl) rfl
theorem q3135 : (Jvm.Cond.instanceMethod ({ cls := "BrambleLogicModel", name := "ruleCount", desc := "()I" } : Jvm.MethodName)) ∈ lw_all := lw_g (lw_at lw_m13 148 rfl) rfl
theorem q3136 : (Jvm.Cond.selects "BrambleLogicModel" ({ cls := "BrambleLogicModel", name := "ruleCount", desc := "()I" } : Jvm.MethodName) ({ cls := "BrambleLogicModel", name := "ruleCount", desc := "()I" } : Jvm.MethodName)) ∈ lw_all := lw_g (lw_at lw_m13 149 rfl) rfl
theorem q3137 : (Jvm.Cond.code ({ cls := "BrambleLogicModel", name := "ruleCount", desc := "()I" } : Jvm.MethodName) prog_28_method_71_code (1 : Nat) (Option.some Jvm.ClassFile.FieldType.int)) ∈ lw_all := lw_g (lw_at lw_m13 150 rfl) rfl
theorem q3139 : (Jvm.Cond.instanceMethod ({ cls := "BrambleLogicModel", name := "variables", desc := "(I)I" } : Jvm.MethodName)) ∈ lw_all := lw_g (lw_at lw_m13 152 rfl) rfl
theorem q3140 : (Jvm.Cond.selects "BrambleLogicModel" ({ cls := "BrambleLogicModel", name := "variables", desc := "(I)I" } : Jvm.MethodName) ({ cls := "BrambleLogicModel", name := "variables", desc := "(I)I" } : Jvm.MethodName)) ∈ lw_all := lw_g (lw_at lw_m13 153 rfl) rfl
theorem q3141 : (Jvm.Cond.code ({ cls := "BrambleLogicModel", name := "variables", desc := "(I)I" } : Jvm.MethodName) prog_28_method_72_code (4 : Nat) (Option.some Jvm.ClassFile.FieldType.int)) ∈ lw_all := lw_g (lw_at lw_m13 154 rfl) rfl
theorem q3143 : (Jvm.Cond.instanceMethod ({ cls := "BrambleLogicModel", name := "isRecursive", desc := "(I)Z" } : Jvm.MethodName)) ∈ lw_all := lw_g (lw_at lw_m13 156 rfl) rfl
theorem q3144 : (Jvm.Cond.selects "BrambleLogicModel" ({ cls := "BrambleLogicModel", name := "isRecursive", desc := "(I)Z" } : Jvm.MethodName) ({ cls := "BrambleLogicModel", name := "isRecursive", desc := "(I)Z" } : Jvm.MethodName)) ∈ lw_all := lw_g (lw_at lw_m13 157 rfl) rfl
theorem q3145 : (Jvm.Cond.code ({ cls := "BrambleLogicModel", name := "isRecursive", desc := "(I)Z" } : Jvm.MethodName) prog_28_method_73_code (5 : Nat) (Option.some Jvm.ClassFile.FieldType.boolean)) ∈ lw_all := lw_g (lw_at lw_m13 158 rfl) rfl
theorem q3146 : (Jvm.Cond.methodLink "BrambleLogicModel" (107 : Nat) ({ cls := "BrambleLogicModel", name := "depends", desc := "()V" } : Jvm.MethodName)) ∈ lw_all := lw_g (lw_at lw_m13 159 rfl) rfl
theorem q3147 : (Jvm.Cond.privateMethod ({ cls := "BrambleLogicModel", name := "depends", desc := "()V" } : Jvm.MethodName)) ∈ lw_tbl := lw_at lw_m13 160 rfl
theorem q3148 : (Jvm.Cond.instanceMethod ({ cls := "BrambleLogicModel", name := "depends", desc := "()V" } : Jvm.MethodName)) ∈ lw_all := lw_g (lw_at lw_m13 161 rfl) rfl
theorem q3149 : (Jvm.Cond.code ({ cls := "BrambleLogicModel", name := "depends", desc := "()V" } : Jvm.MethodName) prog_28_method_23_code (3 : Nat) (Option.none : Option Jvm.ClassFile.FieldType)) ∈ lw_all := lw_g (lw_at lw_m13 162 rfl) rfl
theorem q3151 : (Jvm.Cond.instanceMethod ({ cls := "BrambleLogicModel", name := "stepsOf", desc := "(I)I" } : Jvm.MethodName)) ∈ lw_all := lw_g (lw_at lw_m13 164 rfl) rfl
theorem q3152 : (Jvm.Cond.selects "BrambleLogicModel" ({ cls := "BrambleLogicModel", name := "stepsOf", desc := "(I)I" } : Jvm.MethodName) ({ cls := "BrambleLogicModel", name := "stepsOf", desc := "(I)I" } : Jvm.MethodName)) ∈ lw_all := lw_g (lw_at lw_m13 165 rfl) rfl
theorem q3153 : (Jvm.Cond.code ({ cls := "BrambleLogicModel", name := "stepsOf", desc := "(I)I" } : Jvm.MethodName) prog_28_method_74_code (4 : Nat) (Option.some Jvm.ClassFile.FieldType.int)) ∈ lw_all := lw_g (lw_at lw_m13 166 rfl) rfl
theorem q3155 : (Jvm.Cond.instanceMethod ({ cls := "BrambleLogicModel", name := "layerOf", desc := "(C)I" } : Jvm.MethodName)) ∈ lw_all := lw_g (lw_at lw_m13 168 rfl) rfl
theorem q3156 : (Jvm.Cond.selects "BrambleLogicModel" ({ cls := "BrambleLogicModel", name := "layerOf", desc := "(C)I" } : Jvm.MethodName) ({ cls := "BrambleLogicModel", name := "layerOf", desc := "(C)I" } : Jvm.MethodName)) ∈ lw_all := lw_g (lw_at lw_m13 169 rfl) rfl
theorem q3157 : (Jvm.Cond.code ({ cls := "BrambleLogicModel", name := "layerOf", desc := "(C)I" } : Jvm.MethodName) prog_28_method_75_code (2 : Nat) (Option.some Jvm.ClassFile.FieldType.int)) ∈ lw_all := lw_g (lw_at lw_m13 170 rfl) rfl
theorem q3159 : (Jvm.Cond.instanceMethod ({ cls := "BrambleLogicModel", name := "layerByChains", desc := "(C)I" } : Jvm.MethodName)) ∈ lw_all := lw_g (lw_at lw_m13 172 rfl) rfl
theorem q3160 : (Jvm.Cond.selects "BrambleLogicModel" ({ cls := "BrambleLogicModel", name := "layerByChains", desc := "(C)I" } : Jvm.MethodName) ({ cls := "BrambleLogicModel", name := "layerByChains", desc := "(C)I" } : Jvm.MethodName)) ∈ lw_all := lw_g (lw_at lw_m13 173 rfl) rfl
theorem q3161 : (Jvm.Cond.code ({ cls := "BrambleLogicModel", name := "layerByChains", desc := "(C)I" } : Jvm.MethodName) prog_28_method_76_code (2 : Nat) (Option.some Jvm.ClassFile.FieldType.int)) ∈ lw_all := lw_g (lw_at lw_m13 174 rfl) rfl
theorem q3162 : (Jvm.Cond.methodLink "BrambleLogicModel" (249 : Nat) ({ cls := "BrambleLogicModel", name := "layerOf", desc := "(C)I" } : Jvm.MethodName)) ∈ lw_all := lw_g (lw_at lw_m13 175 rfl) rfl
theorem q3164 : (Jvm.Cond.instanceMethod ({ cls := "BrambleLogicModel", name := "dependsOn", desc := "(CC)Z" } : Jvm.MethodName)) ∈ lw_all := lw_g (lw_at lw_m13 177 rfl) rfl
theorem q3165 : (Jvm.Cond.selects "BrambleLogicModel" ({ cls := "BrambleLogicModel", name := "dependsOn", desc := "(CC)Z" } : Jvm.MethodName) ({ cls := "BrambleLogicModel", name := "dependsOn", desc := "(CC)Z" } : Jvm.MethodName)) ∈ lw_all := lw_g (lw_at lw_m13 178 rfl) rfl
theorem q3166 : (Jvm.Cond.code ({ cls := "BrambleLogicModel", name := "dependsOn", desc := "(CC)Z" } : Jvm.MethodName) prog_28_method_77_code (3 : Nat) (Option.some Jvm.ClassFile.FieldType.boolean)) ∈ lw_all := lw_g (lw_at lw_m13 179 rfl) rfl
theorem q3168 : (Jvm.Cond.instanceMethod ({ cls := "BrambleLogicModel", name := "givenByAccounts", desc := "()I" } : Jvm.MethodName)) ∈ lw_all := lw_g (lw_at lw_m13 181 rfl) rfl
theorem q3169 : (Jvm.Cond.selects "BrambleLogicModel" ({ cls := "BrambleLogicModel", name := "givenByAccounts", desc := "()I" } : Jvm.MethodName) ({ cls := "BrambleLogicModel", name := "givenByAccounts", desc := "()I" } : Jvm.MethodName)) ∈ lw_all := lw_g (lw_at lw_m13 182 rfl) rfl
theorem q3170 : (Jvm.Cond.code ({ cls := "BrambleLogicModel", name := "givenByAccounts", desc := "()I" } : Jvm.MethodName) prog_28_method_78_code (1 : Nat) (Option.some Jvm.ClassFile.FieldType.int)) ∈ lw_all := lw_g (lw_at lw_m13 183 rfl) rfl
theorem q3172 : (Jvm.Cond.instanceMethod ({ cls := "BrambleLogicModel", name := "reason", desc := "()I" } : Jvm.MethodName)) ∈ lw_all := lw_g (lw_at lw_m13 185 rfl) rfl
theorem q3173 : (Jvm.Cond.selects "BrambleLogicModel" ({ cls := "BrambleLogicModel", name := "reason", desc := "()I" } : Jvm.MethodName) ({ cls := "BrambleLogicModel", name := "reason", desc := "()I" } : Jvm.MethodName)) ∈ lw_all := lw_g (lw_at lw_m13 186 rfl) rfl
theorem q3174 : (Jvm.Cond.code ({ cls := "BrambleLogicModel", name := "reason", desc := "()I" } : Jvm.MethodName) prog_28_method_79_code (1 : Nat) (Option.some Jvm.ClassFile.FieldType.int)) ∈ lw_all := lw_g (lw_at lw_m13 187 rfl) rfl
theorem q3176 : (Jvm.Cond.instanceMethod ({ cls := "BrambleLogicModel", name := "detail", desc := "()I" } : Jvm.MethodName)) ∈ lw_all := lw_g (lw_at lw_m13 189 rfl) rfl
theorem q3177 : (Jvm.Cond.selects "BrambleLogicModel" ({ cls := "BrambleLogicModel", name := "detail", desc := "()I" } : Jvm.MethodName) ({ cls := "BrambleLogicModel", name := "detail", desc := "()I" } : Jvm.MethodName)) ∈ lw_all := lw_g (lw_at lw_m13 190 rfl) rfl
theorem q3178 : (Jvm.Cond.code ({ cls := "BrambleLogicModel", name := "detail", desc := "()I" } : Jvm.MethodName) prog_28_method_80_code (1 : Nat) (Option.some Jvm.ClassFile.FieldType.int)) ∈ lw_all := lw_g (lw_at lw_m13 191 rfl) rfl
theorem q3180 : (Jvm.Cond.instanceMethod ({ cls := "BrambleLogicModel", name := "meanHeight", desc := "()D" } : Jvm.MethodName)) ∈ lw_all := lw_g (lw_at lw_m13 193 rfl) rfl
theorem q3181 : (Jvm.Cond.selects "BrambleLogicModel" ({ cls := "BrambleLogicModel", name := "meanHeight", desc := "()D" } : Jvm.MethodName) ({ cls := "BrambleLogicModel", name := "meanHeight", desc := "()D" } : Jvm.MethodName)) ∈ lw_all := lw_g (lw_at lw_m13 194 rfl) rfl
theorem q3182 : (Jvm.Cond.code ({ cls := "BrambleLogicModel", name := "meanHeight", desc := "()D" } : Jvm.MethodName) prog_28_method_81_code (4 : Nat) (Option.some Jvm.ClassFile.FieldType.double)) ∈ lw_all := lw_g (lw_at lw_m13 195 rfl) rfl
theorem q3184 : (Jvm.Cond.instanceMethod ({ cls := "BrambleLogicModel", name := "derivedShare", desc := "()F" } : Jvm.MethodName)) ∈ lw_all := lw_g (lw_at lw_m13 197 rfl) rfl
theorem q3185 : (Jvm.Cond.selects "BrambleLogicModel" ({ cls := "BrambleLogicModel", name := "derivedShare", desc := "()F" } : Jvm.MethodName) ({ cls := "BrambleLogicModel", name := "derivedShare", desc := "()F" } : Jvm.MethodName)) ∈ lw_all := lw_g (lw_at lw_m13 198 rfl) rfl
theorem q3186 : (Jvm.Cond.code ({ cls := "BrambleLogicModel", name := "derivedShare", desc := "()F" } : Jvm.MethodName) prog_28_method_82_code (2 : Nat) (Option.some Jvm.ClassFile.FieldType.float)) ∈ lw_all := lw_g (lw_at lw_m13 199 rfl) rfl
theorem q3188 : (Jvm.Cond.instanceMethod ({ cls := "BrambleLogicModel", name := "isConsistent", desc := "()Z" } : Jvm.MethodName)) ∈ lw_all := lw_g (lw_at lw_m13 201 rfl) rfl
theorem q3189 : (Jvm.Cond.selects "BrambleLogicModel" ({ cls := "BrambleLogicModel", name := "isConsistent", desc := "()Z" } : Jvm.MethodName) ({ cls := "BrambleLogicModel", name := "isConsistent", desc := "()Z" } : Jvm.MethodName)) ∈ lw_all := lw_g (lw_at lw_m13 202 rfl) rfl
theorem q3190 : (Jvm.Cond.code ({ cls := "BrambleLogicModel", name := "isConsistent", desc := "()Z" } : Jvm.MethodName) prog_28_method_83_code (1 : Nat) (Option.some Jvm.ClassFile.FieldType.boolean)) ∈ lw_all := lw_g (lw_at lw_m13 203 rfl) rfl
theorem q3192 : (Jvm.Cond.instanceMethod ({ cls := "BrambleLogicModel", name := "append", desc := "(C)I" } : Jvm.MethodName)) ∈ lw_all := lw_g (lw_at lw_m13 205 rfl) rfl
theorem q3193 : (Jvm.Cond.selects "BrambleLogicModel" ({ cls := "BrambleLogicModel", name := "append", desc := "(C)I" } : Jvm.MethodName) ({ cls := "BrambleLogicModel", name := "append", desc := "(C)I" } : Jvm.MethodName)) ∈ lw_all := lw_g (lw_at lw_m13 206 rfl) rfl
theorem q3194 : (Jvm.Cond.code ({ cls := "BrambleLogicModel", name := "append", desc := "(C)I" } : Jvm.MethodName) prog_28_method_84_code (2 : Nat) (Option.some Jvm.ClassFile.FieldType.int)) ∈ lw_all := lw_g (lw_at lw_m13 207 rfl) rfl
theorem q3196 : (Jvm.Cond.instanceMethod ({ cls := "BrambleLogicModel", name := "run", desc := "()I" } : Jvm.MethodName)) ∈ lw_all := lw_g (lw_at lw_m13 209 rfl) rfl
theorem q3197 : (Jvm.Cond.selects "BrambleLogicModel" ({ cls := "BrambleLogicModel", name := "run", desc := "()I" } : Jvm.MethodName) ({ cls := "BrambleLogicModel", name := "run", desc := "()I" } : Jvm.MethodName)) ∈ lw_all := lw_g (lw_at lw_m13 210 rfl) rfl
theorem q3198 : (Jvm.Cond.code ({ cls := "BrambleLogicModel", name := "run", desc := "()I" } : Jvm.MethodName) prog_28_method_104_code (3 : Nat) (Option.some Jvm.ClassFile.FieldType.int)) ∈ lw_all := lw_g (lw_at lw_m13 211 rfl) rfl
theorem q3199 : (Jvm.Cond.methodLink "BrambleLogicModel" (344 : Nat) ({ cls := "BrambleLogicModel", name := "isProgram", desc := "()Z" } : Jvm.MethodName)) ∈ lw_all := lw_g (lw_at lw_m13 212 rfl) rfl
theorem q3200 : (Jvm.Cond.privateMethod ({ cls := "BrambleLogicModel", name := "isProgram", desc := "()Z" } : Jvm.MethodName)) ∈ lw_tbl := lw_at lw_m13 213 rfl
theorem q3201 : (Jvm.Cond.instanceMethod ({ cls := "BrambleLogicModel", name := "isProgram", desc := "()Z" } : Jvm.MethodName)) ∈ lw_all := lw_g (lw_at lw_m13 214 rfl) rfl
theorem q3202 : (Jvm.Cond.code ({ cls := "BrambleLogicModel", name := "isProgram", desc := "()Z" } : Jvm.MethodName) prog_28_method_95_code (2 : Nat) (Option.some Jvm.ClassFile.FieldType.boolean)) ∈ lw_all := lw_g (lw_at lw_m13 215 rfl) rfl
theorem q3203 : (Jvm.Cond.methodLink "BrambleLogicModel" (314 : Nat) ({ cls := "BrambleLogicModel", name := "readsCommand", desc := "()Z" } : Jvm.MethodName)) ∈ lw_all := lw_g (lw_at lw_m13 216 rfl) rfl
theorem q3204 : (Jvm.Cond.privateMethod ({ cls := "BrambleLogicModel", name := "readsCommand", desc := "()Z" } : Jvm.MethodName)) ∈ lw_tbl := lw_at lw_m13 217 rfl
theorem q3205 : (Jvm.Cond.instanceMethod ({ cls := "BrambleLogicModel", name := "readsCommand", desc := "()Z" } : Jvm.MethodName)) ∈ lw_all := lw_g (lw_at lw_m13 218 rfl) rfl
theorem q3206 : (Jvm.Cond.code ({ cls := "BrambleLogicModel", name := "readsCommand", desc := "()Z" } : Jvm.MethodName) prog_28_method_94_code (4 : Nat) (Option.some Jvm.ClassFile.FieldType.boolean)) ∈ lw_all := lw_g (lw_at lw_m13 219 rfl) rfl
theorem q3207 : (Jvm.Cond.methodLink "BrambleLogicModel" (264 : Nat) ({ cls := "BrambleLogicModel", name := "now", desc := "()I" } : Jvm.MethodName)) ∈ lw_all := lw_g (lw_at lw_m13 220 rfl) rfl
theorem q3208 : (Jvm.Cond.privateMethod ({ cls := "BrambleLogicModel", name := "now", desc := "()I" } : Jvm.MethodName)) ∈ lw_tbl := lw_at lw_m13 221 rfl
theorem q3209 : (Jvm.Cond.instanceMethod ({ cls := "BrambleLogicModel", name := "now", desc := "()I" } : Jvm.MethodName)) ∈ lw_all := lw_g (lw_at lw_m13 222 rfl) rfl
theorem q3210 : (Jvm.Cond.code ({ cls := "BrambleLogicModel", name := "now", desc := "()I" } : Jvm.MethodName) prog_28_method_85_code (1 : Nat) (Option.some Jvm.ClassFile.FieldType.int)) ∈ lw_all := lw_g (lw_at lw_m13 223 rfl) rfl
theorem q3211 : (Jvm.Cond.methodLink "BrambleLogicModel" (311 : Nat) ({ cls := "BrambleLogicModel", name := "readsRest", desc := "(II)Z" } : Jvm.MethodName)) ∈ lw_all := lw_g (lw_at lw_m13 224 rfl) rfl
theorem q3212 : (Jvm.Cond.privateMethod ({ cls := "BrambleLogicModel", name := "readsRest", desc := "(II)Z" } : Jvm.MethodName)) ∈ lw_tbl := lw_at lw_m13 225 rfl
theorem q3213 : (Jvm.Cond.instanceMethod ({ cls := "BrambleLogicModel", name := "readsRest", desc := "(II)Z" } : Jvm.MethodName)) ∈ lw_all := lw_g (lw_at lw_m13 226 rfl) rfl
theorem q3214 : (Jvm.Cond.code ({ cls := "BrambleLogicModel", name := "readsRest", desc := "(II)Z" } : Jvm.MethodName) prog_28_method_93_code (3 : Nat) (Option.some Jvm.ClassFile.FieldType.boolean)) ∈ lw_all := lw_g (lw_at lw_m13 227 rfl) rfl
theorem q3215 : (Jvm.Cond.stringRef "BrambleLogicModel" (293 : Nat) "act ") ∈ lw_tbl := lw_at lw_m13 228 rfl
theorem q3216 : (Jvm.Cond.methodLink "BrambleLogicModel" (295 : Nat) ({ cls := "BrambleLogicModel", name := "isWord", desc := "(Ljava/lang/String;)Z" } : Jvm.MethodName)) ∈ lw_all := lw_g (lw_at lw_m13 229 rfl) rfl
theorem q3217 : (Jvm.Cond.privateMethod ({ cls := "BrambleLogicModel", name := "isWord", desc := "(Ljava/lang/String;)Z" } : Jvm.MethodName)) ∈ lw_tbl := lw_at lw_m13 230 rfl
theorem q3218 : (Jvm.Cond.instanceMethod ({ cls := "BrambleLogicModel", name := "isWord", desc := "(Ljava/lang/String;)Z" } : Jvm.MethodName)) ∈ lw_all := lw_g (lw_at lw_m13 231 rfl) rfl
theorem q3219 : (Jvm.Cond.code ({ cls := "BrambleLogicModel", name := "isWord", desc := "(Ljava/lang/String;)Z" } : Jvm.MethodName) prog_28_method_87_code (3 : Nat) (Option.some Jvm.ClassFile.FieldType.boolean)) ∈ lw_all := lw_g (lw_at lw_m13 232 rfl) rfl
theorem q3220 : (Jvm.Cond.methodLink "BrambleLogicModel" (268 : Nat) ({ cls := "java/lang/String", name := "length", desc := "()I" } : Jvm.MethodName)) ∈ lw_all := lw_g (lw_at lw_m13 233 rfl) rfl
theorem q3221 : (Jvm.Cond.methodLink "BrambleLogicModel" (273 : Nat) ({ cls := "java/lang/String", name := "charAt", desc := "(I)C" } : Jvm.MethodName)) ∈ lw_all := lw_g (lw_at lw_m13 234 rfl) rfl
theorem q3222 : (Jvm.Cond.methodLink "BrambleLogicModel" (277 : Nat) ({ cls := "BrambleLogicModel", name := "isSign", desc := "(I)Z" } : Jvm.MethodName)) ∈ lw_all := lw_g (lw_at lw_m13 235 rfl) rfl
theorem q3223 : (Jvm.Cond.privateMethod ({ cls := "BrambleLogicModel", name := "isSign", desc := "(I)Z" } : Jvm.MethodName)) ∈ lw_tbl := lw_at lw_m13 236 rfl
theorem q3224 : (Jvm.Cond.instanceMethod ({ cls := "BrambleLogicModel", name := "isSign", desc := "(I)Z" } : Jvm.MethodName)) ∈ lw_all := lw_g (lw_at lw_m13 237 rfl) rfl
theorem q3225 : (Jvm.Cond.code ({ cls := "BrambleLogicModel", name := "isSign", desc := "(I)Z" } : Jvm.MethodName) prog_28_method_86_code (3 : Nat) (Option.some Jvm.ClassFile.FieldType.boolean)) ∈ lw_all := lw_g (lw_at lw_m13 238 rfl) rfl
theorem q3226 : (Jvm.Cond.methodLink "BrambleLogicModel" (286 : Nat) ({ cls := "BrambleLogicModel", name := "isAtom", desc := "(IZ)Z" } : Jvm.MethodName)) ∈ lw_all := lw_g (lw_at lw_m13 239 rfl) rfl
theorem q3227 : (Jvm.Cond.privateMethod ({ cls := "BrambleLogicModel", name := "isAtom", desc := "(IZ)Z" } : Jvm.MethodName)) ∈ lw_tbl := lw_at lw_m14 0 rfl
theorem q3228 : (Jvm.Cond.instanceMethod ({ cls := "BrambleLogicModel", name := "isAtom", desc := "(IZ)Z" } : Jvm.MethodName)) ∈ lw_all := lw_g (lw_at lw_m14 1 rfl) rfl
theorem q3229 : (Jvm.Cond.code ({ cls := "BrambleLogicModel", name := "isAtom", desc := "(IZ)Z" } : Jvm.MethodName) prog_28_method_90_code (4 : Nat) (Option.some Jvm.ClassFile.FieldType.boolean)) ∈ lw_all := lw_g (lw_at lw_m14 2 rfl) rfl
theorem q3230 : (Jvm.Cond.methodLink "BrambleLogicModel" (280 : Nat) ({ cls := "BrambleLogicModel", name := "isDigit", desc := "(I)Z" } : Jvm.MethodName)) ∈ lw_all := lw_g (lw_at lw_m14 3 rfl) rfl
theorem q3231 : (Jvm.Cond.privateMethod ({ cls := "BrambleLogicModel", name := "isDigit", desc := "(I)Z" } : Jvm.MethodName)) ∈ lw_tbl := lw_at lw_m14 4 rfl
theorem q3232 : (Jvm.Cond.instanceMethod ({ cls := "BrambleLogicModel", name := "isDigit", desc := "(I)Z" } : Jvm.MethodName)) ∈ lw_all := lw_g (lw_at lw_m14 5 rfl) rfl
theorem q3233 : (Jvm.Cond.code ({ cls := "BrambleLogicModel", name := "isDigit", desc := "(I)Z" } : Jvm.MethodName) prog_28_method_88_code (3 : Nat) (Option.some Jvm.ClassFile.FieldType.boolean)) ∈ lw_all := lw_g (lw_at lw_m14 6 rfl) rfl
theorem q3234 : (Jvm.Cond.methodLink "BrambleLogicModel" (283 : Nat) ({ cls := "BrambleLogicModel", name := "isTerm", desc := "(I)Z" } : Jvm.MethodName)) ∈ lw_all := lw_g (lw_at lw_m14 7 rfl) rfl
theorem q3235 : (Jvm.Cond.privateMethod ({ cls := "BrambleLogicModel", name := "isTerm", desc := "(I)Z" } : Jvm.MethodName)) ∈ lw_tbl := lw_at lw_m14 8 rfl
theorem q3236 : (Jvm.Cond.instanceMethod ({ cls := "BrambleLogicModel", name := "isTerm", desc := "(I)Z" } : Jvm.MethodName)) ∈ lw_all := lw_g (lw_at lw_m14 9 rfl) rfl
theorem q3237 : (Jvm.Cond.code ({ cls := "BrambleLogicModel", name := "isTerm", desc := "(I)Z" } : Jvm.MethodName) prog_28_method_89_code (3 : Nat) (Option.some Jvm.ClassFile.FieldType.boolean)) ∈ lw_all := lw_g (lw_at lw_m14 10 rfl) rfl
theorem q3238 : (Jvm.Cond.stringRef "BrambleLogicModel" (299 : Nat) "ake ") ∈ lw_tbl := lw_at lw_m14 11 rfl
theorem q3239 : (Jvm.Cond.stringRef "BrambleLogicModel" (301 : Nat) "ule ") ∈ lw_tbl := lw_at lw_m14 12 rfl
theorem q3240 : (Jvm.Cond.methodLink "BrambleLogicModel" (303 : Nat) ({ cls := "BrambleLogicModel", name := "readsRule", desc := "(I)Z" } : Jvm.MethodName)) ∈ lw_all := lw_g (lw_at lw_m14 13 rfl) rfl
theorem q3241 : (Jvm.Cond.privateMethod ({ cls := "BrambleLogicModel", name := "readsRule", desc := "(I)Z" } : Jvm.MethodName)) ∈ lw_tbl := lw_at lw_m14 14 rfl
theorem q3242 : (Jvm.Cond.instanceMethod ({ cls := "BrambleLogicModel", name := "readsRule", desc := "(I)Z" } : Jvm.MethodName)) ∈ lw_all := lw_g (lw_at lw_m14 15 rfl) rfl
theorem q3243 : (Jvm.Cond.code ({ cls := "BrambleLogicModel", name := "readsRule", desc := "(I)Z" } : Jvm.MethodName) prog_28_method_92_code (5 : Nat) (Option.some Jvm.ClassFile.FieldType.boolean)) ∈ lw_all := lw_g (lw_at lw_m14 16 rfl) rfl
theorem q3244 : (Jvm.Cond.methodLink "BrambleLogicModel" (290 : Nat) ({ cls := "BrambleLogicModel", name := "isLiteral", desc := "(I)Z" } : Jvm.MethodName)) ∈ lw_all := lw_g (lw_at lw_m14 17 rfl) rfl
theorem q3245 : (Jvm.Cond.privateMethod ({ cls := "BrambleLogicModel", name := "isLiteral", desc := "(I)Z" } : Jvm.MethodName)) ∈ lw_tbl := lw_at lw_m14 18 rfl
theorem q3246 : (Jvm.Cond.instanceMethod ({ cls := "BrambleLogicModel", name := "isLiteral", desc := "(I)Z" } : Jvm.MethodName)) ∈ lw_all := lw_g (lw_at lw_m14 19 rfl) rfl
theorem q3247 : (Jvm.Cond.code ({ cls := "BrambleLogicModel", name := "isLiteral", desc := "(I)Z" } : Jvm.MethodName) prog_28_method_91_code (2 : Nat) (Option.some Jvm.ClassFile.FieldType.boolean)) ∈ lw_all := lw_g (lw_at lw_m14 20 rfl) rfl
theorem q3248 : (Jvm.Cond.stringRef "BrambleLogicModel" (306 : Nat) "rop ") ∈ lw_tbl := lw_at lw_m14 21 rfl
theorem q3249 : (Jvm.Cond.methodLink "BrambleLogicModel" (347 : Nat) ({ cls := "BrambleLogicModel", name := "does", desc := "(I)I" } : Jvm.MethodName)) ∈ lw_all := lw_g (lw_at lw_m14 22 rfl) rfl
theorem q3250 : (Jvm.Cond.privateMethod ({ cls := "BrambleLogicModel", name := "does", desc := "(I)I" } : Jvm.MethodName)) ∈ lw_tbl := lw_at lw_m14 23 rfl
theorem q3251 : (Jvm.Cond.instanceMethod ({ cls := "BrambleLogicModel", name := "does", desc := "(I)I" } : Jvm.MethodName)) ∈ lw_all := lw_g (lw_at lw_m14 24 rfl) rfl
theorem q3252 : (Jvm.Cond.code ({ cls := "BrambleLogicModel", name := "does", desc := "(I)I" } : Jvm.MethodName) prog_28_method_103_code (3 : Nat) (Option.some Jvm.ClassFile.FieldType.int)) ∈ lw_all := lw_g (lw_at lw_m14 25 rfl) rfl
theorem q3253 : (Jvm.Cond.methodLink "BrambleLogicModel" (341 : Nat) ({ cls := "BrambleLogicModel", name := "addsRule", desc := "(I)I" } : Jvm.MethodName)) ∈ lw_all := lw_g (lw_at lw_m14 26 rfl) rfl
theorem q3254 : (Jvm.Cond.privateMethod ({ cls := "BrambleLogicModel", name := "addsRule", desc := "(I)I" } : Jvm.MethodName)) ∈ lw_tbl := lw_at lw_m14 27 rfl
theorem q3255 : (Jvm.Cond.instanceMethod ({ cls := "BrambleLogicModel", name := "addsRule", desc := "(I)I" } : Jvm.MethodName)) ∈ lw_all := lw_g (lw_at lw_m14 28 rfl) rfl
theorem q3256 : (Jvm.Cond.code ({ cls := "BrambleLogicModel", name := "addsRule", desc := "(I)I" } : Jvm.MethodName) prog_28_method_102_code (6 : Nat) (Option.some Jvm.ClassFile.FieldType.int)) ∈ lw_all := lw_g (lw_at lw_m14 29 rfl) rfl
theorem q3257 : (Jvm.Cond.methodLink "BrambleLogicModel" (324 : Nat) ({ cls := "BrambleLogicModel", name := "writesRule", desc := "(II)V" } : Jvm.MethodName)) ∈ lw_all := lw_g (lw_at lw_m14 30 rfl) rfl
theorem q3258 : (Jvm.Cond.privateMethod ({ cls := "BrambleLogicModel", name := "writesRule", desc := "(II)V" } : Jvm.MethodName)) ∈ lw_tbl := lw_at lw_m14 31 rfl
theorem q3259 : (Jvm.Cond.instanceMethod ({ cls := "BrambleLogicModel", name := "writesRule", desc := "(II)V" } : Jvm.MethodName)) ∈ lw_all := lw_g (lw_at lw_m14 32 rfl) rfl
theorem q3260 : (Jvm.Cond.code ({ cls := "BrambleLogicModel", name := "writesRule", desc := "(II)V" } : Jvm.MethodName) prog_28_method_100_code (4 : Nat) (Option.none : Option Jvm.ClassFile.FieldType)) ∈ lw_all := lw_g (lw_at lw_m14 33 rfl) rfl
theorem q3261 : (Jvm.Cond.methodLink "BrambleLogicModel" (328 : Nat) zUM) ∈ lw_all := lw_g (lw_at lw_m14 34 rfl) rfl
theorem q3262 : (Jvm.Cond.privateMethod zUM) ∈ lw_tbl := lw_at lw_m14 35 rfl
theorem q3263 : (Jvm.Cond.instanceMethod zUM) ∈ lw_all := lw_g (lw_at lw_m14 36 rfl) rfl
theorem q3264 : (Jvm.Cond.code zUM prog_28_method_97_code (4 : Nat) (Option.some Jvm.ClassFile.FieldType.int)) ∈ lw_all := lw_g (lw_at lw_m14 37 rfl) rfl
theorem q3265 : (Jvm.Cond.methodLink "BrambleLogicModel" (318 : Nat) ({ cls := "BrambleLogicModel", name := "occurs", desc := "(III)Z" } : Jvm.MethodName)) ∈ lw_all := lw_g (lw_at lw_m14 38 rfl) rfl
theorem q3266 : (Jvm.Cond.privateMethod ({ cls := "BrambleLogicModel", name := "occurs", desc := "(III)Z" } : Jvm.MethodName)) ∈ lw_tbl := lw_at lw_m14 39 rfl
theorem q3267 : (Jvm.Cond.instanceMethod ({ cls := "BrambleLogicModel", name := "occurs", desc := "(III)Z" } : Jvm.MethodName)) ∈ lw_all := lw_g (lw_at lw_m14 40 rfl) rfl
theorem q3268 : (Jvm.Cond.code ({ cls := "BrambleLogicModel", name := "occurs", desc := "(III)Z" } : Jvm.MethodName) prog_28_method_96_code (6 : Nat) (Option.some Jvm.ClassFile.FieldType.boolean)) ∈ lw_all := lw_g (lw_at lw_m14 41 rfl) rfl
theorem q3269 : (Jvm.Cond.methodLink "BrambleLogicModel" (331 : Nat) ({ cls := "BrambleLogicModel", name := "sameAs", desc := "(I)I" } : Jvm.MethodName)) ∈ lw_all := lw_g (lw_at lw_m14 42 rfl) rfl
theorem q3270 : (Jvm.Cond.privateMethod ({ cls := "BrambleLogicModel", name := "sameAs", desc := "(I)I" } : Jvm.MethodName)) ∈ lw_tbl := lw_at lw_m14 43 rfl
theorem q3271 : (Jvm.Cond.instanceMethod ({ cls := "BrambleLogicModel", name := "sameAs", desc := "(I)I" } : Jvm.MethodName)) ∈ lw_all := lw_g (lw_at lw_m14 44 rfl) rfl
theorem q3272 : (Jvm.Cond.code ({ cls := "BrambleLogicModel", name := "sameAs", desc := "(I)I" } : Jvm.MethodName) prog_28_method_101_code (3 : Nat) (Option.some Jvm.ClassFile.FieldType.int)) ∈ lw_all := lw_g (lw_at lw_m14 45 rfl) rfl
theorem q3273 : (Jvm.Cond.methodLink "BrambleLogicModel" (321 : Nat) ({ cls := "BrambleLogicModel", name := "areSame", desc := "(II)Z" } : Jvm.MethodName)) ∈ lw_all := lw_g (lw_at lw_m14 46 rfl) rfl
theorem q3274 : (Jvm.Cond.privateMethod ({ cls := "BrambleLogicModel", name := "areSame", desc := "(II)Z" } : Jvm.MethodName)) ∈ lw_tbl := lw_at lw_m14 47 rfl
theorem q3275 : (Jvm.Cond.instanceMethod ({ cls := "BrambleLogicModel", name := "areSame", desc := "(II)Z" } : Jvm.MethodName)) ∈ lw_all := lw_g (lw_at lw_m14 48 rfl) rfl
theorem q3276 : (Jvm.Cond.code ({ cls := "BrambleLogicModel", name := "areSame", desc := "(II)Z" } : Jvm.MethodName) prog_28_method_98_code (5 : Nat) (Option.some Jvm.ClassFile.FieldType.boolean)) ∈ lw_all := lw_g (lw_at lw_m14 49 rfl) rfl
theorem q3277 : (Jvm.Cond.methodLink "BrambleLogicModel" (334 : Nat) ({ cls := "BrambleLogicModel", name := "isRefused", desc := "(ZII)Z" } : Jvm.MethodName)) ∈ lw_all := lw_g (lw_at lw_m14 50 rfl) rfl
theorem q3278 : (Jvm.Cond.privateMethod ({ cls := "BrambleLogicModel", name := "isRefused", desc := "(ZII)Z" } : Jvm.MethodName)) ∈ lw_tbl := lw_at lw_m14 51 rfl
theorem q3279 : (Jvm.Cond.instanceMethod ({ cls := "BrambleLogicModel", name := "isRefused", desc := "(ZII)Z" } : Jvm.MethodName)) ∈ lw_all := lw_g (lw_at lw_m14 52 rfl) rfl
theorem q3280 : (Jvm.Cond.code ({ cls := "BrambleLogicModel", name := "isRefused", desc := "(ZII)Z" } : Jvm.MethodName) prog_28_method_99_code (4 : Nat) (Option.some Jvm.ClassFile.FieldType.boolean)) ∈ lw_all := lw_g (lw_at lw_m14 53 rfl) rfl
theorem q3281 : (Jvm.Cond.methodLink "BrambleLogicModel" (338 : Nat) ({ cls := "BrambleLogicModel", name := "isLayered", desc := "()Z" } : Jvm.MethodName)) ∈ lw_all := lw_g (lw_at lw_m14 54 rfl) rfl
theorem q3282 : (Jvm.Cond.privateMethod ({ cls := "BrambleLogicModel", name := "isLayered", desc := "()Z" } : Jvm.MethodName)) ∈ lw_tbl := lw_at lw_m14 55 rfl
theorem q3283 : (Jvm.Cond.instanceMethod ({ cls := "BrambleLogicModel", name := "isLayered", desc := "()Z" } : Jvm.MethodName)) ∈ lw_all := lw_g (lw_at lw_m14 56 rfl) rfl
theorem q3284 : (Jvm.Cond.code ({ cls := "BrambleLogicModel", name := "isLayered", desc := "()Z" } : Jvm.MethodName) prog_28_method_24_code (5 : Nat) (Option.some Jvm.ClassFile.FieldType.boolean)) ∈ lw_all := lw_g (lw_at lw_m14 57 rfl) rfl
theorem q3286 : (Jvm.Cond.instanceMethod ({ cls := "BrambleLogicModel", name := "errorPosition", desc := "()I" } : Jvm.MethodName)) ∈ lw_all := lw_g (lw_at lw_m14 59 rfl) rfl
theorem q3287 : (Jvm.Cond.selects "BrambleLogicModel" ({ cls := "BrambleLogicModel", name := "errorPosition", desc := "()I" } : Jvm.MethodName) ({ cls := "BrambleLogicModel", name := "errorPosition", desc := "()I" } : Jvm.MethodName)) ∈ lw_all := lw_g (lw_at lw_m14 60 rfl) rfl
theorem q3288 : (Jvm.Cond.code ({ cls := "BrambleLogicModel", name := "errorPosition", desc := "()I" } : Jvm.MethodName) prog_28_method_105_code (1 : Nat) (Option.some Jvm.ClassFile.FieldType.int)) ∈ lw_all := lw_g (lw_at lw_m14 61 rfl) rfl
theorem q3290 : (Jvm.Cond.instanceMethod ({ cls := "BrambleLogicModel", name := "failedCommand", desc := "()I" } : Jvm.MethodName)) ∈ lw_all := lw_g (lw_at lw_m14 63 rfl) rfl
theorem q3291 : (Jvm.Cond.selects "BrambleLogicModel" ({ cls := "BrambleLogicModel", name := "failedCommand", desc := "()I" } : Jvm.MethodName) ({ cls := "BrambleLogicModel", name := "failedCommand", desc := "()I" } : Jvm.MethodName)) ∈ lw_all := lw_g (lw_at lw_m14 64 rfl) rfl
theorem q3292 : (Jvm.Cond.code ({ cls := "BrambleLogicModel", name := "failedCommand", desc := "()I" } : Jvm.MethodName) prog_28_method_106_code (1 : Nat) (Option.some Jvm.ClassFile.FieldType.int)) ∈ lw_all := lw_g (lw_at lw_m14 65 rfl) rfl
theorem q3294 : (Jvm.Cond.instanceMethod ({ cls := "BrambleLogicModel", name := "writeRule", desc := "(I)I" } : Jvm.MethodName)) ∈ lw_all := lw_g (lw_at lw_m14 67 rfl) rfl
theorem q3295 : (Jvm.Cond.selects "BrambleLogicModel" ({ cls := "BrambleLogicModel", name := "writeRule", desc := "(I)I" } : Jvm.MethodName) ({ cls := "BrambleLogicModel", name := "writeRule", desc := "(I)I" } : Jvm.MethodName)) ∈ lw_all := lw_g (lw_at lw_m14 68 rfl) rfl
theorem q3296 : (Jvm.Cond.code ({ cls := "BrambleLogicModel", name := "writeRule", desc := "(I)I" } : Jvm.MethodName) prog_28_method_110_code (3 : Nat) (Option.some Jvm.ClassFile.FieldType.int)) ∈ lw_all := lw_g (lw_at lw_m14 69 rfl) rfl
theorem q3297 : (Jvm.Cond.methodLink "BrambleLogicModel" (353 : Nat) ({ cls := "BrambleLogicModel", name := "writes", desc := "(I)V" } : Jvm.MethodName)) ∈ lw_all := lw_g (lw_at lw_m14 70 rfl) rfl
theorem q3298 : (Jvm.Cond.privateMethod ({ cls := "BrambleLogicModel", name := "writes", desc := "(I)V" } : Jvm.MethodName)) ∈ lw_tbl := lw_at lw_m14 71 rfl
theorem q3299 : (Jvm.Cond.instanceMethod ({ cls := "BrambleLogicModel", name := "writes", desc := "(I)V" } : Jvm.MethodName)) ∈ lw_all := lw_g (lw_at lw_m14 72 rfl) rfl
theorem q3300 : (Jvm.Cond.code ({ cls := "BrambleLogicModel", name := "writes", desc := "(I)V" } : Jvm.MethodName) prog_28_method_107_code (2 : Nat) (Option.none : Option Jvm.ClassFile.FieldType)) ∈ lw_all := lw_g (lw_at lw_m14 73 rfl) rfl
theorem q3302 : (Jvm.Cond.instanceMethod ({ cls := "BrambleLogicModel", name := "writeStep", desc := "(CII)I" } : Jvm.MethodName)) ∈ lw_all := lw_g (lw_at lw_m14 75 rfl) rfl
theorem q3303 : (Jvm.Cond.selects "BrambleLogicModel" ({ cls := "BrambleLogicModel", name := "writeStep", desc := "(CII)I" } : Jvm.MethodName) ({ cls := "BrambleLogicModel", name := "writeStep", desc := "(CII)I" } : Jvm.MethodName)) ∈ lw_all := lw_g (lw_at lw_m14 76 rfl) rfl
theorem q3304 : (Jvm.Cond.code ({ cls := "BrambleLogicModel", name := "writeStep", desc := "(CII)I" } : Jvm.MethodName) prog_28_method_112_code (5 : Nat) (Option.some Jvm.ClassFile.FieldType.int)) ∈ lw_all := lw_g (lw_at lw_m14 77 rfl) rfl
theorem q3305 : (Jvm.Cond.methodLink "BrambleLogicModel" (364 : Nat) ({ cls := "BrambleLogicModel", name := "writesFact", desc := "(I)V" } : Jvm.MethodName)) ∈ lw_all := lw_g (lw_at lw_m14 78 rfl) rfl
theorem q3306 : (Jvm.Cond.privateMethod ({ cls := "BrambleLogicModel", name := "writesFact", desc := "(I)V" } : Jvm.MethodName)) ∈ lw_tbl := lw_at lw_m14 79 rfl
theorem q3307 : (Jvm.Cond.instanceMethod ({ cls := "BrambleLogicModel", name := "writesFact", desc := "(I)V" } : Jvm.MethodName)) ∈ lw_all := lw_g (lw_at lw_m14 80 rfl) rfl
theorem q3308 : (Jvm.Cond.code ({ cls := "BrambleLogicModel", name := "writesFact", desc := "(I)V" } : Jvm.MethodName) prog_28_method_109_code (3 : Nat) (Option.none : Option Jvm.ClassFile.FieldType)) ∈ lw_all := lw_g (lw_at lw_m14 81 rfl) rfl
theorem q3309 : (Jvm.Cond.stringRef "BrambleLogicModel" (367 : Nat) " given") ∈ lw_tbl := lw_at lw_m14 82 rfl
theorem q3310 : (Jvm.Cond.methodLink "BrambleLogicModel" (360 : Nat) ({ cls := "BrambleLogicModel", name := "writesAll", desc := "(Ljava/lang/String;)V" } : Jvm.MethodName)) ∈ lw_all := lw_g (lw_at lw_m14 83 rfl) rfl
theorem q3311 : (Jvm.Cond.privateMethod ({ cls := "BrambleLogicModel", name := "writesAll", desc := "(Ljava/lang/String;)V" } : Jvm.MethodName)) ∈ lw_tbl := lw_at lw_m14 84 rfl
theorem q3312 : (Jvm.Cond.instanceMethod ({ cls := "BrambleLogicModel", name := "writesAll", desc := "(Ljava/lang/String;)V" } : Jvm.MethodName)) ∈ lw_all := lw_g (lw_at lw_m14 85 rfl) rfl
theorem q3313 : (Jvm.Cond.code ({ cls := "BrambleLogicModel", name := "writesAll", desc := "(Ljava/lang/String;)V" } : Jvm.MethodName) prog_28_method_108_code (3 : Nat) (Option.none : Option Jvm.ClassFile.FieldType)) ∈ lw_all := lw_g (lw_at lw_m14 86 rfl) rfl
theorem q3314 : (Jvm.Cond.stringRef "BrambleLogicModel" (369 : Nat) " by ") ∈ lw_tbl := lw_at lw_m14 87 rfl
theorem q3315 : (Jvm.Cond.methodLink "BrambleLogicModel" (371 : Nat) ({ cls := "BrambleLogicModel", name := "writesPremises", desc := "(I)V" } : Jvm.MethodName)) ∈ lw_all := lw_g (lw_at lw_m14 88 rfl) rfl
theorem q3316 : (Jvm.Cond.privateMethod ({ cls := "BrambleLogicModel", name := "writesPremises", desc := "(I)V" } : Jvm.MethodName)) ∈ lw_tbl := lw_at lw_m14 89 rfl
theorem q3317 : (Jvm.Cond.instanceMethod ({ cls := "BrambleLogicModel", name := "writesPremises", desc := "(I)V" } : Jvm.MethodName)) ∈ lw_all := lw_g (lw_at lw_m14 90 rfl) rfl
theorem q3318 : (Jvm.Cond.code ({ cls := "BrambleLogicModel", name := "writesPremises", desc := "(I)V" } : Jvm.MethodName) prog_28_method_111_code (5 : Nat) (Option.none : Option Jvm.ClassFile.FieldType)) ∈ lw_all := lw_g (lw_at lw_m14 91 rfl) rfl
theorem q3319 : (Jvm.Cond.stringRef "BrambleLogicModel" (356 : Nat) ": ") ∈ lw_tbl := lw_at lw_m14 92 rfl
theorem q3320 : (Jvm.Cond.stringRef "BrambleLogicModel" (358 : Nat) ",") ∈ lw_tbl := lw_at lw_m14 93 rfl
theorem q3322 : (Jvm.Cond.instanceMethod ({ cls := "BrambleLogicModel", name := "writeGiven", desc := "()I" } : Jvm.MethodName)) ∈ lw_all := lw_g (lw_at lw_m14 95 rfl) rfl
theorem q3323 : (Jvm.Cond.selects "BrambleLogicModel" ({ cls := "BrambleLogicModel", name := "writeGiven", desc := "()I" } : Jvm.MethodName) ({ cls := "BrambleLogicModel", name := "writeGiven", desc := "()I" } : Jvm.MethodName)) ∈ lw_all := lw_g (lw_at lw_m14 96 rfl) rfl
theorem q3324 : (Jvm.Cond.code ({ cls := "BrambleLogicModel", name := "writeGiven", desc := "()I" } : Jvm.MethodName) prog_28_method_113_code (2 : Nat) (Option.some Jvm.ClassFile.FieldType.int)) ∈ lw_all := lw_g (lw_at lw_m14 97 rfl) rfl
theorem q3326 : (Jvm.Cond.instanceMethod ({ cls := "BrambleLogicModel", name := "outputAt", desc := "(I)C" } : Jvm.MethodName)) ∈ lw_all := lw_g (lw_at lw_m14 99 rfl) rfl
theorem q3327 : (Jvm.Cond.selects "BrambleLogicModel" ({ cls := "BrambleLogicModel", name := "outputAt", desc := "(I)C" } : Jvm.MethodName) ({ cls := "BrambleLogicModel", name := "outputAt", desc := "(I)C" } : Jvm.MethodName)) ∈ lw_all := lw_g (lw_at lw_m14 100 rfl) rfl
theorem q3328 : (Jvm.Cond.code ({ cls := "BrambleLogicModel", name := "outputAt", desc := "(I)C" } : Jvm.MethodName) prog_28_method_114_code (2 : Nat) (Option.some Jvm.ClassFile.FieldType.char)) ∈ lw_all := lw_g (lw_at lw_m14 101 rfl) rfl
theorem q3330 : (Jvm.Cond.instanceMethod ({ cls := "BrambleLogicModel", name := "undo", desc := "()I" } : Jvm.MethodName)) ∈ lw_all := lw_g (lw_at lw_m14 103 rfl) rfl
theorem q3331 : (Jvm.Cond.selects "BrambleLogicModel" ({ cls := "BrambleLogicModel", name := "undo", desc := "()I" } : Jvm.MethodName) ({ cls := "BrambleLogicModel", name := "undo", desc := "()I" } : Jvm.MethodName)) ∈ lw_all := lw_g (lw_at lw_m14 104 rfl) rfl
theorem q3332 : (Jvm.Cond.code ({ cls := "BrambleLogicModel", name := "undo", desc := "()I" } : Jvm.MethodName) prog_28_method_115_code (1 : Nat) (Option.some Jvm.ClassFile.FieldType.int)) ∈ lw_all := lw_g (lw_at lw_m14 105 rfl) rfl
theorem q3334 : (Jvm.Cond.instanceMethod ({ cls := "BrambleLogicModel", name := "save", desc := "()V" } : Jvm.MethodName)) ∈ lw_all := lw_g (lw_at lw_m14 107 rfl) rfl
theorem q3335 : (Jvm.Cond.selects "BrambleLogicModel" ({ cls := "BrambleLogicModel", name := "save", desc := "()V" } : Jvm.MethodName) ({ cls := "BrambleLogicModel", name := "save", desc := "()V" } : Jvm.MethodName)) ∈ lw_all := lw_g (lw_at lw_m14 108 rfl) rfl
theorem q3336 : (Jvm.Cond.code ({ cls := "BrambleLogicModel", name := "save", desc := "()V" } : Jvm.MethodName) prog_28_method_116_code (1 : Nat) (Option.none : Option Jvm.ClassFile.FieldType)) ∈ lw_all := lw_g (lw_at lw_m14 109 rfl) rfl
theorem q3338 : (Jvm.Cond.instanceMethod ({ cls := "BrambleLogicModel", name := "restore", desc := "()V" } : Jvm.MethodName)) ∈ lw_all := lw_g (lw_at lw_m14 111 rfl) rfl
theorem q3339 : (Jvm.Cond.selects "BrambleLogicModel" ({ cls := "BrambleLogicModel", name := "restore", desc := "()V" } : Jvm.MethodName) ({ cls := "BrambleLogicModel", name := "restore", desc := "()V" } : Jvm.MethodName)) ∈ lw_all := lw_g (lw_at lw_m14 112 rfl) rfl
theorem q3340 : (Jvm.Cond.code ({ cls := "BrambleLogicModel", name := "restore", desc := "()V" } : Jvm.MethodName) prog_28_method_117_code (1 : Nat) (Option.none : Option Jvm.ClassFile.FieldType)) ∈ lw_all := lw_g (lw_at lw_m14 113 rfl) rfl
theorem q3372 : (Jvm.Cond.castable "BrambleLogicModel" "java/lang/Object") ∈ lw_tbl := lw_at lw_m14 145 rfl
theorem in_X6 : ∀ w ∈ wsX60, w ∈ lw_all := lw_in wsX60 [2813, 2815, 2817, 2819, 2821, 2823, 2825, 2827, 2829, 2831, 2833, 2835, 2837, 2839, 2841, 2843, 2845, 2847, 2849, 2851, 2853, 2855, 2857, 2859, 2861, 2863, 2865, 2867] (by decide +kernel) (by decide +kernel)
