/-! BrambleLogic -/
set_option maxRecDepth 100000
def RX1 : String := "BrambleLogic"
def TX1 : u_T := fun k => match k with
  | 0 => ("BrambleLogic", "logic", "LBrambleLogic$Logic;", false)
  | 1 => ("BrambleLogic", "saved", "LBrambleLogic$Logic;", false)
  | 2 => ("BrambleLogic", "refusal", "LBrambleLogic$RefusedException;", false)
  | 3 => ("BrambleLogic", "history", "Ljava/util/Deque;", true)
  | 4 => ("BrambleLogic", "buffer", "Ljava/lang/StringBuilder;", true)
  | 5 => ("BrambleLogic", "output", "Ljava/lang/String;", false)
  | 6 => ("BrambleLogic", "errorPosition", "I", false)
  | _ => ("BrambleLogic", "failedCommand", "I", false)
def tyX1 : Nat → FieldType := fun k => match k with
  | 0 => .object "BrambleLogic$Logic"
  | 1 => .object "BrambleLogic$Logic"
  | 2 => .object "BrambleLogic$RefusedException"
  | 3 => .object "java/util/Deque"
  | 4 => .object "java/lang/StringBuilder"
  | 5 => .object "java/lang/String"
  | 6 => .int
  | _ => .int
abbrev wsX10 : List Cond := u_ws RX1 TX1 8
theorem nmX1 : ∀ a, a < 8 → ∀ b, b < 8 → a ≠ b → (TX1 a).2.1 ≠ (TX1 b).2.1 := by decide +kernel
theorem tyX1_ok : ∀ k, k < 8 → parseFieldDescriptor (TX1 k).2.2.1 = some (tyX1 k) := by decide +kernel
abbrev cX1_init : ByteArray := prog_1_method_18_code
def yX1_init : MethodName := ⟨RX1, "<init>", "()V"⟩
def dkwX1_init_2 : List UInt8 := [181, 0, 93, 42, 2, 181, 0, 97, 177]
abbrev dktX1_init_2 : List UInt8 := dkwX1_init_2 ++ []
def dkwX1_init_1 : List UInt8 := [181, 0, 79, 42, 187, 0, 52, 89, 183, 0, 54, 181, 0, 83, 42, 18, 87, 181, 0, 89, 42, 2]
abbrev dktX1_init_1 : List UInt8 := dkwX1_init_1 ++ dktX1_init_2
def dkwX1_init_0 : List UInt8 := [42, 183, 0, 66, 42, 187, 0, 69, 89, 183, 0, 71, 181, 0, 72, 42, 187, 0, 76, 89, 183, 0, 78]
abbrev dktX1_init_0 : List UInt8 := dkwX1_init_0 ++ dktX1_init_1
theorem dksX1_init_0 : cX1_init.data.toList.drop 0 = dktX1_init_0 := by decide +kernel
theorem dksX1_init_1 : cX1_init.data.toList.drop 23 = dktX1_init_1 := dk_seg dksX1_init_0 23 rfl rfl
theorem dksX1_init_2 : cX1_init.data.toList.drop 45 = dktX1_init_2 := dk_seg dksX1_init_1 22 rfl rfl
theorem dX1_init_0 : decode cX1_init 0 = .ok (.aload_n 0, 1) := dk_42 (dk_at dksX1_init_0 0 rfl rfl)
theorem dX1_init_1 : decode cX1_init 1 = .ok (.invokespecial 66, 3) := dk_183 0 66 (dk_at dksX1_init_0 1 rfl rfl)
theorem dX1_init_4 : decode cX1_init 4 = .ok (.aload_n 0, 1) := dk_42 (dk_at dksX1_init_0 4 rfl rfl)
theorem dX1_init_5 : decode cX1_init 5 = .ok (.new 69, 3) := dk_187 0 69 (dk_at dksX1_init_0 5 rfl rfl)
theorem dX1_init_8 : decode cX1_init 8 = .ok (.dup, 1) := dk_89 (dk_at dksX1_init_0 8 rfl rfl)
theorem dX1_init_9 : decode cX1_init 9 = .ok (.invokespecial 71, 3) := dk_183 0 71 (dk_at dksX1_init_0 9 rfl rfl)
theorem dX1_init_12 : decode cX1_init 12 = .ok (.putfield 72, 3) := dk_181 0 72 (dk_at dksX1_init_0 12 rfl rfl)
theorem dX1_init_15 : decode cX1_init 15 = .ok (.aload_n 0, 1) := dk_42 (dk_at dksX1_init_0 15 rfl rfl)
theorem dX1_init_16 : decode cX1_init 16 = .ok (.new 76, 3) := dk_187 0 76 (dk_at dksX1_init_0 16 rfl rfl)
theorem dX1_init_19 : decode cX1_init 19 = .ok (.dup, 1) := dk_89 (dk_at dksX1_init_0 19 rfl rfl)
theorem dX1_init_20 : decode cX1_init 20 = .ok (.invokespecial 78, 3) := dk_183 0 78 (dk_at dksX1_init_0 20 rfl rfl)
theorem dX1_init_23 : decode cX1_init 23 = .ok (.putfield 79, 3) := dk_181 0 79 (dk_at dksX1_init_1 0 rfl rfl)
theorem dX1_init_26 : decode cX1_init 26 = .ok (.aload_n 0, 1) := dk_42 (dk_at dksX1_init_1 3 rfl rfl)
theorem dX1_init_27 : decode cX1_init 27 = .ok (.new 52, 3) := dk_187 0 52 (dk_at dksX1_init_1 4 rfl rfl)
theorem dX1_init_30 : decode cX1_init 30 = .ok (.dup, 1) := dk_89 (dk_at dksX1_init_1 7 rfl rfl)
theorem dX1_init_31 : decode cX1_init 31 = .ok (.invokespecial 54, 3) := dk_183 0 54 (dk_at dksX1_init_1 8 rfl rfl)
theorem dX1_init_34 : decode cX1_init 34 = .ok (.putfield 83, 3) := dk_181 0 83 (dk_at dksX1_init_1 11 rfl rfl)
theorem dX1_init_37 : decode cX1_init 37 = .ok (.aload_n 0, 1) := dk_42 (dk_at dksX1_init_1 14 rfl rfl)
theorem dX1_init_38 : decode cX1_init 38 = .ok (.ldc 87, 2) := dk_18 87 (dk_at dksX1_init_1 15 rfl rfl)
theorem dX1_init_40 : decode cX1_init 40 = .ok (.putfield 89, 3) := dk_181 0 89 (dk_at dksX1_init_1 17 rfl rfl)
theorem dX1_init_43 : decode cX1_init 43 = .ok (.aload_n 0, 1) := dk_42 (dk_at dksX1_init_1 20 rfl rfl)
theorem dX1_init_44 : decode cX1_init 44 = .ok (.iconst (-1), 1) := dk_2 (dk_at dksX1_init_1 21 rfl rfl)
theorem dX1_init_45 : decode cX1_init 45 = .ok (.putfield 93, 3) := dk_181 0 93 (dk_at dksX1_init_2 0 rfl rfl)
theorem dX1_init_48 : decode cX1_init 48 = .ok (.aload_n 0, 1) := dk_42 (dk_at dksX1_init_2 3 rfl rfl)
theorem dX1_init_49 : decode cX1_init 49 = .ok (.iconst (-1), 1) := dk_2 (dk_at dksX1_init_2 4 rfl rfl)
theorem dX1_init_50 : decode cX1_init 50 = .ok (.putfield 97, 3) := dk_181 0 97 (dk_at dksX1_init_2 5 rfl rfl)
theorem dX1_init_53 : decode cX1_init 53 = .ok (.return_, 1) := dk_177 (dk_at dksX1_init_2 8 rfl rfl)
abbrev cX1_givenCount : ByteArray := prog_1_method_23_code
def yX1_givenCount : MethodName := ⟨RX1, "givenCount", "()I"⟩
def dkwX1_givenCount_0 : List UInt8 := [42, 180, 0, 72, 180, 0, 131, 182, 0, 135, 172]
abbrev dktX1_givenCount_0 : List UInt8 := dkwX1_givenCount_0 ++ []
theorem dksX1_givenCount_0 : cX1_givenCount.data.toList.drop 0 = dktX1_givenCount_0 := by decide +kernel
theorem dX1_givenCount_0 : decode cX1_givenCount 0 = .ok (.aload_n 0, 1) := dk_42 (dk_at dksX1_givenCount_0 0 rfl rfl)
theorem dX1_givenCount_1 : decode cX1_givenCount 1 = .ok (.getfield 72, 3) := dk_180 0 72 (dk_at dksX1_givenCount_0 1 rfl rfl)
theorem dX1_givenCount_4 : decode cX1_givenCount 4 = .ok (.getfield 131, 3) := dk_180 0 131 (dk_at dksX1_givenCount_0 4 rfl rfl)
theorem dX1_givenCount_7 : decode cX1_givenCount 7 = .ok (.invokevirtual 135, 3) := dk_182 0 135 (dk_at dksX1_givenCount_0 7 rfl rfl)
theorem dX1_givenCount_10 : decode cX1_givenCount 10 = .ok (.ireturn, 1) := dk_172 (dk_at dksX1_givenCount_0 10 rfl rfl)
abbrev cX1_allTrue : ByteArray := prog_1_method_28_code
def yX1_allTrue : MethodName := ⟨RX1, "allTrue", "()I"⟩
def dkwX1_allTrue_0 : List UInt8 := [42, 180, 0, 72, 182, 0, 147, 182, 0, 135, 172]
abbrev dktX1_allTrue_0 : List UInt8 := dkwX1_allTrue_0 ++ []
theorem dksX1_allTrue_0 : cX1_allTrue.data.toList.drop 0 = dktX1_allTrue_0 := by decide +kernel
theorem dX1_allTrue_0 : decode cX1_allTrue 0 = .ok (.aload_n 0, 1) := dk_42 (dk_at dksX1_allTrue_0 0 rfl rfl)
theorem dX1_allTrue_1 : decode cX1_allTrue 1 = .ok (.getfield 72, 3) := dk_180 0 72 (dk_at dksX1_allTrue_0 1 rfl rfl)
theorem dX1_allTrue_4 : decode cX1_allTrue 4 = .ok (.invokevirtual 147, 3) := dk_182 0 147 (dk_at dksX1_allTrue_0 4 rfl rfl)
theorem dX1_allTrue_7 : decode cX1_allTrue 7 = .ok (.invokevirtual 135, 3) := dk_182 0 135 (dk_at dksX1_allTrue_0 7 rfl rfl)
theorem dX1_allTrue_10 : decode cX1_allTrue 10 = .ok (.ireturn, 1) := dk_172 (dk_at dksX1_allTrue_0 10 rfl rfl)
abbrev cX1_valueOf : ByteArray := prog_1_method_16_code
def yX1_valueOf : MethodName := ⟨RX1, "valueOf", "(I[I)I"⟩
def dkwX1_valueOf_0 : List UInt8 := [26, 16, 10, 162, 0, 7, 26, 167, 0, 9, 43, 26, 16, 10, 100, 46, 172]
abbrev dktX1_valueOf_0 : List UInt8 := dkwX1_valueOf_0 ++ []
theorem dksX1_valueOf_0 : cX1_valueOf.data.toList.drop 0 = dktX1_valueOf_0 := by decide +kernel
theorem dX1_valueOf_0 : decode cX1_valueOf 0 = .ok (.iload_n 0, 1) := dk_26 (dk_at dksX1_valueOf_0 0 rfl rfl)
theorem dX1_valueOf_1 : decode cX1_valueOf 1 = .ok (.bipush 10, 2) := dk_16 10 (dk_at dksX1_valueOf_0 1 rfl rfl)
theorem dX1_valueOf_3 : decode cX1_valueOf 3 = .ok (.if_icmp .ge 7, 3) := dk_162 0 7 (dk_at dksX1_valueOf_0 3 rfl rfl)
theorem dX1_valueOf_6 : decode cX1_valueOf 6 = .ok (.iload_n 0, 1) := dk_26 (dk_at dksX1_valueOf_0 6 rfl rfl)
theorem dX1_valueOf_7 : decode cX1_valueOf 7 = .ok (.goto 9, 3) := dk_167 0 9 (dk_at dksX1_valueOf_0 7 rfl rfl)
theorem dX1_valueOf_10 : decode cX1_valueOf 10 = .ok (.aload_n 1, 1) := dk_43 (dk_at dksX1_valueOf_0 10 rfl rfl)
theorem dX1_valueOf_11 : decode cX1_valueOf 11 = .ok (.iload_n 0, 1) := dk_26 (dk_at dksX1_valueOf_0 11 rfl rfl)
theorem dX1_valueOf_12 : decode cX1_valueOf 12 = .ok (.bipush 10, 2) := dk_16 10 (dk_at dksX1_valueOf_0 12 rfl rfl)
theorem dX1_valueOf_14 : decode cX1_valueOf 14 = .ok (.isub, 1) := dk_100 (dk_at dksX1_valueOf_0 14 rfl rfl)
theorem dX1_valueOf_15 : decode cX1_valueOf 15 = .ok (.iaload, 1) := dk_46 (dk_at dksX1_valueOf_0 15 rfl rfl)
theorem dX1_valueOf_16 : decode cX1_valueOf 16 = .ok (.ireturn, 1) := dk_172 (dk_at dksX1_valueOf_0 16 rfl rfl)
abbrev cX1_isPair : ByteArray := prog_1_method_10_code
def yX1_isPair : MethodName := ⟨RX1, "isPair", "(I)Z"⟩
def dkwX1_isPair_0 : List UInt8 := [26, 7, 162, 0, 7, 4, 167, 0, 4, 3, 172]
abbrev dktX1_isPair_0 : List UInt8 := dkwX1_isPair_0 ++ []
theorem dksX1_isPair_0 : cX1_isPair.data.toList.drop 0 = dktX1_isPair_0 := by decide +kernel
theorem dX1_isPair_0 : decode cX1_isPair 0 = .ok (.iload_n 0, 1) := dk_26 (dk_at dksX1_isPair_0 0 rfl rfl)
theorem dX1_isPair_1 : decode cX1_isPair 1 = .ok (.iconst 4, 1) := dk_7 (dk_at dksX1_isPair_0 1 rfl rfl)
theorem dX1_isPair_2 : decode cX1_isPair 2 = .ok (.if_icmp .ge 7, 3) := dk_162 0 7 (dk_at dksX1_isPair_0 2 rfl rfl)
theorem dX1_isPair_5 : decode cX1_isPair 5 = .ok (.iconst 1, 1) := dk_4 (dk_at dksX1_isPair_0 5 rfl rfl)
theorem dX1_isPair_6 : decode cX1_isPair 6 = .ok (.goto 4, 3) := dk_167 0 4 (dk_at dksX1_isPair_0 6 rfl rfl)
theorem dX1_isPair_9 : decode cX1_isPair 9 = .ok (.iconst 0, 1) := dk_3 (dk_at dksX1_isPair_0 9 rfl rfl)
theorem dX1_isPair_10 : decode cX1_isPair 10 = .ok (.ireturn, 1) := dk_172 (dk_at dksX1_isPair_0 10 rfl rfl)
abbrev cX1_codeOf : ByteArray := prog_1_method_11_code
def yX1_codeOf : MethodName := ⟨RX1, "codeOf", "(III)I"⟩
def dkwX1_codeOf_0 : List UInt8 := [26, 184, 0, 35, 153, 0, 12, 16, 10, 27, 104, 28, 96, 167, 0, 4, 27, 172]
abbrev dktX1_codeOf_0 : List UInt8 := dkwX1_codeOf_0 ++ []
theorem dksX1_codeOf_0 : cX1_codeOf.data.toList.drop 0 = dktX1_codeOf_0 := by decide +kernel
theorem dX1_codeOf_0 : decode cX1_codeOf 0 = .ok (.iload_n 0, 1) := dk_26 (dk_at dksX1_codeOf_0 0 rfl rfl)
theorem dX1_codeOf_1 : decode cX1_codeOf 1 = .ok (.invokestatic 35, 3) := dk_184 0 35 (dk_at dksX1_codeOf_0 1 rfl rfl)
theorem dX1_codeOf_4 : decode cX1_codeOf 4 = .ok (.ifCond .eq 12, 3) := dk_153 0 12 (dk_at dksX1_codeOf_0 4 rfl rfl)
theorem dX1_codeOf_7 : decode cX1_codeOf 7 = .ok (.bipush 10, 2) := dk_16 10 (dk_at dksX1_codeOf_0 7 rfl rfl)
theorem dX1_codeOf_9 : decode cX1_codeOf 9 = .ok (.iload_n 1, 1) := dk_27 (dk_at dksX1_codeOf_0 9 rfl rfl)
theorem dX1_codeOf_10 : decode cX1_codeOf 10 = .ok (.imul, 1) := dk_104 (dk_at dksX1_codeOf_0 10 rfl rfl)
theorem dX1_codeOf_11 : decode cX1_codeOf 11 = .ok (.iload_n 2, 1) := dk_28 (dk_at dksX1_codeOf_0 11 rfl rfl)
theorem dX1_codeOf_12 : decode cX1_codeOf 12 = .ok (.iadd, 1) := dk_96 (dk_at dksX1_codeOf_0 12 rfl rfl)
theorem dX1_codeOf_13 : decode cX1_codeOf 13 = .ok (.goto 4, 3) := dk_167 0 4 (dk_at dksX1_codeOf_0 13 rfl rfl)
theorem dX1_codeOf_16 : decode cX1_codeOf 16 = .ok (.iload_n 1, 1) := dk_27 (dk_at dksX1_codeOf_0 16 rfl rfl)
theorem dX1_codeOf_17 : decode cX1_codeOf 17 = .ok (.ireturn, 1) := dk_172 (dk_at dksX1_codeOf_0 17 rfl rfl)
abbrev cX1_ruleCount : ByteArray := prog_1_method_40_code
def yX1_ruleCount : MethodName := ⟨RX1, "ruleCount", "()I"⟩
def dkwX1_ruleCount_0 : List UInt8 := [42, 180, 0, 72, 180, 0, 238, 185, 0, 242, 1, 0, 172]
abbrev dktX1_ruleCount_0 : List UInt8 := dkwX1_ruleCount_0 ++ []
theorem dksX1_ruleCount_0 : cX1_ruleCount.data.toList.drop 0 = dktX1_ruleCount_0 := by decide +kernel
theorem dX1_ruleCount_0 : decode cX1_ruleCount 0 = .ok (.aload_n 0, 1) := dk_42 (dk_at dksX1_ruleCount_0 0 rfl rfl)
theorem dX1_ruleCount_1 : decode cX1_ruleCount 1 = .ok (.getfield 72, 3) := dk_180 0 72 (dk_at dksX1_ruleCount_0 1 rfl rfl)
theorem dX1_ruleCount_4 : decode cX1_ruleCount 4 = .ok (.getfield 238, 3) := dk_180 0 238 (dk_at dksX1_ruleCount_0 4 rfl rfl)
theorem dX1_ruleCount_7 : decode cX1_ruleCount 7 = .ok (.invokeinterface 242 1, 5) := by decide +kernel
theorem dX1_ruleCount_12 : decode cX1_ruleCount 12 = .ok (.ireturn, 1) := dk_172 (dk_at dksX1_ruleCount_0 12 rfl rfl)
abbrev cX1_givenByAccounts : ByteArray := prog_1_method_48_code
def yX1_givenByAccounts : MethodName := ⟨RX1, "givenByAccounts", "()I"⟩
def dkwX1_givenByAccounts_0 : List UInt8 := [42, 180, 0, 72, 180, 1, 33, 182, 1, 37, 172]
abbrev dktX1_givenByAccounts_0 : List UInt8 := dkwX1_givenByAccounts_0 ++ []
theorem dksX1_givenByAccounts_0 : cX1_givenByAccounts.data.toList.drop 0 = dktX1_givenByAccounts_0 := by decide +kernel
theorem dX1_givenByAccounts_0 : decode cX1_givenByAccounts 0 = .ok (.aload_n 0, 1) := dk_42 (dk_at dksX1_givenByAccounts_0 0 rfl rfl)
theorem dX1_givenByAccounts_1 : decode cX1_givenByAccounts 1 = .ok (.getfield 72, 3) := dk_180 0 72 (dk_at dksX1_givenByAccounts_0 1 rfl rfl)
theorem dX1_givenByAccounts_4 : decode cX1_givenByAccounts 4 = .ok (.getfield 289, 3) := dk_180 1 33 (dk_at dksX1_givenByAccounts_0 4 rfl rfl)
theorem dX1_givenByAccounts_7 : decode cX1_givenByAccounts 7 = .ok (.invokevirtual 293, 3) := dk_182 1 37 (dk_at dksX1_givenByAccounts_0 7 rfl rfl)
theorem dX1_givenByAccounts_10 : decode cX1_givenByAccounts 10 = .ok (.ireturn, 1) := dk_172 (dk_at dksX1_givenByAccounts_0 10 rfl rfl)
abbrev cX1_isConsistent : ByteArray := prog_1_method_54_code
def yX1_isConsistent : MethodName := ⟨RX1, "isConsistent", "()Z"⟩
def dkwX1_isConsistent_0 : List UInt8 := [42, 180, 0, 72, 182, 1, 63, 172]
abbrev dktX1_isConsistent_0 : List UInt8 := dkwX1_isConsistent_0 ++ []
theorem dksX1_isConsistent_0 : cX1_isConsistent.data.toList.drop 0 = dktX1_isConsistent_0 := by decide +kernel
theorem dX1_isConsistent_0 : decode cX1_isConsistent 0 = .ok (.aload_n 0, 1) := dk_42 (dk_at dksX1_isConsistent_0 0 rfl rfl)
theorem dX1_isConsistent_1 : decode cX1_isConsistent 1 = .ok (.getfield 72, 3) := dk_180 0 72 (dk_at dksX1_isConsistent_0 1 rfl rfl)
theorem dX1_isConsistent_4 : decode cX1_isConsistent 4 = .ok (.invokevirtual 319, 3) := dk_182 1 63 (dk_at dksX1_isConsistent_0 4 rfl rfl)
theorem dX1_isConsistent_7 : decode cX1_isConsistent 7 = .ok (.ireturn, 1) := dk_172 (dk_at dksX1_isConsistent_0 7 rfl rfl)
abbrev cX1_writeGiven : ByteArray := prog_1_method_63_code
def yX1_writeGiven : MethodName := ⟨RX1, "writeGiven", "()I"⟩
def dkwX1_writeGiven_0 : List UInt8 := [42, 42, 180, 0, 72, 182, 1, 128, 182, 1, 120, 172]
abbrev dktX1_writeGiven_0 : List UInt8 := dkwX1_writeGiven_0 ++ []
theorem dksX1_writeGiven_0 : cX1_writeGiven.data.toList.drop 0 = dktX1_writeGiven_0 := by decide +kernel
theorem dX1_writeGiven_0 : decode cX1_writeGiven 0 = .ok (.aload_n 0, 1) := dk_42 (dk_at dksX1_writeGiven_0 0 rfl rfl)
theorem dX1_writeGiven_1 : decode cX1_writeGiven 1 = .ok (.aload_n 0, 1) := dk_42 (dk_at dksX1_writeGiven_0 1 rfl rfl)
theorem dX1_writeGiven_2 : decode cX1_writeGiven 2 = .ok (.getfield 72, 3) := dk_180 0 72 (dk_at dksX1_writeGiven_0 2 rfl rfl)
theorem dX1_writeGiven_5 : decode cX1_writeGiven 5 = .ok (.invokevirtual 384, 3) := dk_182 1 128 (dk_at dksX1_writeGiven_0 5 rfl rfl)
theorem dX1_writeGiven_8 : decode cX1_writeGiven 8 = .ok (.invokevirtual 376, 3) := dk_182 1 120 (dk_at dksX1_writeGiven_0 8 rfl rfl)
theorem dX1_writeGiven_11 : decode cX1_writeGiven 11 = .ok (.ireturn, 1) := dk_172 (dk_at dksX1_writeGiven_0 11 rfl rfl)
abbrev cX1_textOf : ByteArray := prog_1_method_15_code
def yX1_textOf : MethodName := ⟨RX1, "textOf", "(II)Ljava/lang/String;"⟩
def dkwX1_textOf_2 : List UInt8 := [112, 182, 0, 59, 16, 41, 182, 0, 55, 182, 0, 62, 176]
abbrev dktX1_textOf_2 : List UInt8 := dkwX1_textOf_2 ++ []
def dkwX1_textOf_1 : List UInt8 := [184, 0, 35, 153, 0, 17, 44, 27, 16, 10, 108, 182, 0, 59, 16, 44, 182, 0, 55, 87, 44, 27, 16, 10]
abbrev dktX1_textOf_1 : List UInt8 := dkwX1_textOf_1 ++ dktX1_textOf_2
def dkwX1_textOf_0 : List UInt8 := [187, 0, 52, 89, 183, 0, 54, 77, 44, 16, 97, 26, 96, 146, 182, 0, 55, 16, 40, 182, 0, 55, 87, 26]
abbrev dktX1_textOf_0 : List UInt8 := dkwX1_textOf_0 ++ dktX1_textOf_1
theorem dksX1_textOf_0 : cX1_textOf.data.toList.drop 0 = dktX1_textOf_0 := by decide +kernel
theorem dksX1_textOf_1 : cX1_textOf.data.toList.drop 24 = dktX1_textOf_1 := dk_seg dksX1_textOf_0 24 rfl rfl
theorem dksX1_textOf_2 : cX1_textOf.data.toList.drop 48 = dktX1_textOf_2 := dk_seg dksX1_textOf_1 24 rfl rfl
theorem dX1_textOf_0 : decode cX1_textOf 0 = .ok (.new 52, 3) := dk_187 0 52 (dk_at dksX1_textOf_0 0 rfl rfl)
theorem dX1_textOf_3 : decode cX1_textOf 3 = .ok (.dup, 1) := dk_89 (dk_at dksX1_textOf_0 3 rfl rfl)
theorem dX1_textOf_4 : decode cX1_textOf 4 = .ok (.invokespecial 54, 3) := dk_183 0 54 (dk_at dksX1_textOf_0 4 rfl rfl)
theorem dX1_textOf_7 : decode cX1_textOf 7 = .ok (.astore_n 2, 1) := dk_77 (dk_at dksX1_textOf_0 7 rfl rfl)
theorem dX1_textOf_8 : decode cX1_textOf 8 = .ok (.aload_n 2, 1) := dk_44 (dk_at dksX1_textOf_0 8 rfl rfl)
theorem dX1_textOf_9 : decode cX1_textOf 9 = .ok (.bipush 97, 2) := dk_16 97 (dk_at dksX1_textOf_0 9 rfl rfl)
theorem dX1_textOf_11 : decode cX1_textOf 11 = .ok (.iload_n 0, 1) := dk_26 (dk_at dksX1_textOf_0 11 rfl rfl)
theorem dX1_textOf_12 : decode cX1_textOf 12 = .ok (.iadd, 1) := dk_96 (dk_at dksX1_textOf_0 12 rfl rfl)
theorem dX1_textOf_13 : decode cX1_textOf 13 = .ok (.i2c, 1) := dk_146 (dk_at dksX1_textOf_0 13 rfl rfl)
theorem dX1_textOf_14 : decode cX1_textOf 14 = .ok (.invokevirtual 55, 3) := dk_182 0 55 (dk_at dksX1_textOf_0 14 rfl rfl)
theorem dX1_textOf_17 : decode cX1_textOf 17 = .ok (.bipush 40, 2) := dk_16 40 (dk_at dksX1_textOf_0 17 rfl rfl)
theorem dX1_textOf_19 : decode cX1_textOf 19 = .ok (.invokevirtual 55, 3) := dk_182 0 55 (dk_at dksX1_textOf_0 19 rfl rfl)
theorem dX1_textOf_22 : decode cX1_textOf 22 = .ok (.pop, 1) := dk_87 (dk_at dksX1_textOf_0 22 rfl rfl)
theorem dX1_textOf_23 : decode cX1_textOf 23 = .ok (.iload_n 0, 1) := dk_26 (dk_at dksX1_textOf_0 23 rfl rfl)
theorem dX1_textOf_24 : decode cX1_textOf 24 = .ok (.invokestatic 35, 3) := dk_184 0 35 (dk_at dksX1_textOf_1 0 rfl rfl)
theorem dX1_textOf_27 : decode cX1_textOf 27 = .ok (.ifCond .eq 17, 3) := dk_153 0 17 (dk_at dksX1_textOf_1 3 rfl rfl)
theorem dX1_textOf_30 : decode cX1_textOf 30 = .ok (.aload_n 2, 1) := dk_44 (dk_at dksX1_textOf_1 6 rfl rfl)
theorem dX1_textOf_31 : decode cX1_textOf 31 = .ok (.iload_n 1, 1) := dk_27 (dk_at dksX1_textOf_1 7 rfl rfl)
theorem dX1_textOf_32 : decode cX1_textOf 32 = .ok (.bipush 10, 2) := dk_16 10 (dk_at dksX1_textOf_1 8 rfl rfl)
theorem dX1_textOf_34 : decode cX1_textOf 34 = .ok (.idiv, 1) := dk_108 (dk_at dksX1_textOf_1 10 rfl rfl)
theorem dX1_textOf_35 : decode cX1_textOf 35 = .ok (.invokevirtual 59, 3) := dk_182 0 59 (dk_at dksX1_textOf_1 11 rfl rfl)
theorem dX1_textOf_38 : decode cX1_textOf 38 = .ok (.bipush 44, 2) := dk_16 44 (dk_at dksX1_textOf_1 14 rfl rfl)
theorem dX1_textOf_40 : decode cX1_textOf 40 = .ok (.invokevirtual 55, 3) := dk_182 0 55 (dk_at dksX1_textOf_1 16 rfl rfl)
theorem dX1_textOf_43 : decode cX1_textOf 43 = .ok (.pop, 1) := dk_87 (dk_at dksX1_textOf_1 19 rfl rfl)
theorem dX1_textOf_44 : decode cX1_textOf 44 = .ok (.aload_n 2, 1) := dk_44 (dk_at dksX1_textOf_1 20 rfl rfl)
theorem dX1_textOf_45 : decode cX1_textOf 45 = .ok (.iload_n 1, 1) := dk_27 (dk_at dksX1_textOf_1 21 rfl rfl)
theorem dX1_textOf_46 : decode cX1_textOf 46 = .ok (.bipush 10, 2) := dk_16 10 (dk_at dksX1_textOf_1 22 rfl rfl)
theorem dX1_textOf_48 : decode cX1_textOf 48 = .ok (.irem, 1) := dk_112 (dk_at dksX1_textOf_2 0 rfl rfl)
theorem dX1_textOf_49 : decode cX1_textOf 49 = .ok (.invokevirtual 59, 3) := dk_182 0 59 (dk_at dksX1_textOf_2 1 rfl rfl)
theorem dX1_textOf_52 : decode cX1_textOf 52 = .ok (.bipush 41, 2) := dk_16 41 (dk_at dksX1_textOf_2 4 rfl rfl)
theorem dX1_textOf_54 : decode cX1_textOf 54 = .ok (.invokevirtual 55, 3) := dk_182 0 55 (dk_at dksX1_textOf_2 6 rfl rfl)
theorem dX1_textOf_57 : decode cX1_textOf 57 = .ok (.invokevirtual 62, 3) := dk_182 0 62 (dk_at dksX1_textOf_2 9 rfl rfl)
theorem dX1_textOf_60 : decode cX1_textOf 60 = .ok (.areturn, 1) := dk_176 (dk_at dksX1_textOf_2 12 rfl rfl)
abbrev cX1_write : ByteArray := prog_1_method_60_code
def yX1_write : MethodName := ⟨RX1, "write", "(Ljava/lang/String;)I"⟩
def dkwX1_write_0 : List UInt8 := [42, 43, 181, 0, 89, 42, 180, 0, 89, 182, 1, 114, 172]
abbrev dktX1_write_0 : List UInt8 := dkwX1_write_0 ++ []
theorem dksX1_write_0 : cX1_write.data.toList.drop 0 = dktX1_write_0 := by decide +kernel
theorem dX1_write_0 : decode cX1_write 0 = .ok (.aload_n 0, 1) := dk_42 (dk_at dksX1_write_0 0 rfl rfl)
theorem dX1_write_1 : decode cX1_write 1 = .ok (.aload_n 1, 1) := dk_43 (dk_at dksX1_write_0 1 rfl rfl)
theorem dX1_write_2 : decode cX1_write 2 = .ok (.putfield 89, 3) := dk_181 0 89 (dk_at dksX1_write_0 2 rfl rfl)
theorem dX1_write_5 : decode cX1_write 5 = .ok (.aload_n 0, 1) := dk_42 (dk_at dksX1_write_0 5 rfl rfl)
theorem dX1_write_6 : decode cX1_write 6 = .ok (.getfield 89, 3) := dk_180 0 89 (dk_at dksX1_write_0 6 rfl rfl)
theorem dX1_write_9 : decode cX1_write 9 = .ok (.invokevirtual 370, 3) := dk_182 1 114 (dk_at dksX1_write_0 9 rfl rfl)
theorem dX1_write_12 : decode cX1_write 12 = .ok (.ireturn, 1) := dk_172 (dk_at dksX1_write_0 12 rfl rfl)
abbrev cX1_save : ByteArray := prog_1_method_66_code
def yX1_save : MethodName := ⟨RX1, "save", "()V"⟩
def dkwX1_save_0 : List UInt8 := [42, 42, 180, 0, 72, 181, 1, 141, 177]
abbrev dktX1_save_0 : List UInt8 := dkwX1_save_0 ++ []
theorem dksX1_save_0 : cX1_save.data.toList.drop 0 = dktX1_save_0 := by decide +kernel
theorem dX1_save_0 : decode cX1_save 0 = .ok (.aload_n 0, 1) := dk_42 (dk_at dksX1_save_0 0 rfl rfl)
theorem dX1_save_1 : decode cX1_save 1 = .ok (.aload_n 0, 1) := dk_42 (dk_at dksX1_save_0 1 rfl rfl)
theorem dX1_save_2 : decode cX1_save 2 = .ok (.getfield 72, 3) := dk_180 0 72 (dk_at dksX1_save_0 2 rfl rfl)
theorem dX1_save_5 : decode cX1_save 5 = .ok (.putfield 397, 3) := dk_181 1 141 (dk_at dksX1_save_0 5 rfl rfl)
theorem dX1_save_8 : decode cX1_save 8 = .ok (.return_, 1) := dk_177 (dk_at dksX1_save_0 8 rfl rfl)
abbrev cX1_addFact : ByteArray := prog_1_method_20_code
def yX1_addFact : MethodName := ⟨RX1, "addFact", "(CII)I"⟩
def dkwX1_addFact_1 : List UInt8 := [25, 4, 182, 0, 121, 21, 5, 172]
abbrev dktX1_addFact_1 : List UInt8 := dkwX1_addFact_1 ++ []
def dkwX1_addFact_0 : List UInt8 := [187, 0, 69, 89, 42, 180, 0, 72, 183, 0, 114, 58, 4, 25, 4, 27, 28, 29, 182, 0, 117, 54, 5, 42]
abbrev dktX1_addFact_0 : List UInt8 := dkwX1_addFact_0 ++ dktX1_addFact_1
theorem dksX1_addFact_0 : cX1_addFact.data.toList.drop 0 = dktX1_addFact_0 := by decide +kernel
theorem dksX1_addFact_1 : cX1_addFact.data.toList.drop 24 = dktX1_addFact_1 := dk_seg dksX1_addFact_0 24 rfl rfl
theorem dX1_addFact_0 : decode cX1_addFact 0 = .ok (.new 69, 3) := dk_187 0 69 (dk_at dksX1_addFact_0 0 rfl rfl)
theorem dX1_addFact_3 : decode cX1_addFact 3 = .ok (.dup, 1) := dk_89 (dk_at dksX1_addFact_0 3 rfl rfl)
theorem dX1_addFact_4 : decode cX1_addFact 4 = .ok (.aload_n 0, 1) := dk_42 (dk_at dksX1_addFact_0 4 rfl rfl)
theorem dX1_addFact_5 : decode cX1_addFact 5 = .ok (.getfield 72, 3) := dk_180 0 72 (dk_at dksX1_addFact_0 5 rfl rfl)
theorem dX1_addFact_8 : decode cX1_addFact 8 = .ok (.invokespecial 114, 3) := dk_183 0 114 (dk_at dksX1_addFact_0 8 rfl rfl)
theorem dX1_addFact_11 : decode cX1_addFact 11 = .ok (.astore 4, 2) := dk_58 4 (dk_at dksX1_addFact_0 11 rfl rfl)
theorem dX1_addFact_13 : decode cX1_addFact 13 = .ok (.aload 4, 2) := dk_25 4 (dk_at dksX1_addFact_0 13 rfl rfl)
theorem dX1_addFact_15 : decode cX1_addFact 15 = .ok (.iload_n 1, 1) := dk_27 (dk_at dksX1_addFact_0 15 rfl rfl)
theorem dX1_addFact_16 : decode cX1_addFact 16 = .ok (.iload_n 2, 1) := dk_28 (dk_at dksX1_addFact_0 16 rfl rfl)
theorem dX1_addFact_17 : decode cX1_addFact 17 = .ok (.iload_n 3, 1) := dk_29 (dk_at dksX1_addFact_0 17 rfl rfl)
theorem dX1_addFact_18 : decode cX1_addFact 18 = .ok (.invokevirtual 117, 3) := dk_182 0 117 (dk_at dksX1_addFact_0 18 rfl rfl)
theorem dX1_addFact_21 : decode cX1_addFact 21 = .ok (.istore 5, 2) := dk_54 5 (dk_at dksX1_addFact_0 21 rfl rfl)
theorem dX1_addFact_23 : decode cX1_addFact 23 = .ok (.aload_n 0, 1) := dk_42 (dk_at dksX1_addFact_0 23 rfl rfl)
theorem dX1_addFact_24 : decode cX1_addFact 24 = .ok (.aload 4, 2) := dk_25 4 (dk_at dksX1_addFact_1 0 rfl rfl)
theorem dX1_addFact_26 : decode cX1_addFact 26 = .ok (.invokevirtual 121, 3) := dk_182 0 121 (dk_at dksX1_addFact_1 2 rfl rfl)
theorem dX1_addFact_29 : decode cX1_addFact 29 = .ok (.iload 5, 2) := dk_21 5 (dk_at dksX1_addFact_1 5 rfl rfl)
theorem dX1_addFact_31 : decode cX1_addFact 31 = .ok (.ireturn, 1) := dk_172 (dk_at dksX1_addFact_1 7 rfl rfl)
abbrev cX1_requireCode : ByteArray := prog_1_method_12_code
def yX1_requireCode : MethodName := ⟨RX1, "requireCode", "(CII)I"⟩
def dkwX1_requireCode_2 : List UInt8 := [153, 0, 7, 4, 167, 0, 4, 3, 184, 0, 32, 29, 27, 28, 184, 0, 43, 172]
abbrev dktX1_requireCode_2 : List UInt8 := dkwX1_requireCode_2 ++ []
def dkwX1_requireCode_1 : List UInt8 := [160, 0, 7, 4, 167, 0, 4, 3, 54, 4, 27, 3, 16, 9, 184, 0, 3, 153, 0, 12, 21, 4]
abbrev dktX1_requireCode_1 : List UInt8 := dkwX1_requireCode_1 ++ dktX1_requireCode_2
def dkwX1_requireCode_0 : List UInt8 := [26, 184, 0, 39, 62, 29, 184, 0, 35, 153, 0, 13, 28, 3, 16, 9, 184, 0, 3, 167, 0, 13, 28, 2]
abbrev dktX1_requireCode_0 : List UInt8 := dkwX1_requireCode_0 ++ dktX1_requireCode_1
theorem dksX1_requireCode_0 : cX1_requireCode.data.toList.drop 0 = dktX1_requireCode_0 := by decide +kernel
theorem dksX1_requireCode_1 : cX1_requireCode.data.toList.drop 24 = dktX1_requireCode_1 := dk_seg dksX1_requireCode_0 24 rfl rfl
theorem dksX1_requireCode_2 : cX1_requireCode.data.toList.drop 46 = dktX1_requireCode_2 := dk_seg dksX1_requireCode_1 22 rfl rfl
theorem dX1_requireCode_0 : decode cX1_requireCode 0 = .ok (.iload_n 0, 1) := dk_26 (dk_at dksX1_requireCode_0 0 rfl rfl)
theorem dX1_requireCode_1 : decode cX1_requireCode 1 = .ok (.invokestatic 39, 3) := dk_184 0 39 (dk_at dksX1_requireCode_0 1 rfl rfl)
theorem dX1_requireCode_4 : decode cX1_requireCode 4 = .ok (.istore_n 3, 1) := dk_62 (dk_at dksX1_requireCode_0 4 rfl rfl)
theorem dX1_requireCode_5 : decode cX1_requireCode 5 = .ok (.iload_n 3, 1) := dk_29 (dk_at dksX1_requireCode_0 5 rfl rfl)
theorem dX1_requireCode_6 : decode cX1_requireCode 6 = .ok (.invokestatic 35, 3) := dk_184 0 35 (dk_at dksX1_requireCode_0 6 rfl rfl)
theorem dX1_requireCode_9 : decode cX1_requireCode 9 = .ok (.ifCond .eq 13, 3) := dk_153 0 13 (dk_at dksX1_requireCode_0 9 rfl rfl)
theorem dX1_requireCode_12 : decode cX1_requireCode 12 = .ok (.iload_n 2, 1) := dk_28 (dk_at dksX1_requireCode_0 12 rfl rfl)
theorem dX1_requireCode_13 : decode cX1_requireCode 13 = .ok (.iconst 0, 1) := dk_3 (dk_at dksX1_requireCode_0 13 rfl rfl)
theorem dX1_requireCode_14 : decode cX1_requireCode 14 = .ok (.bipush 9, 2) := dk_16 9 (dk_at dksX1_requireCode_0 14 rfl rfl)
theorem dX1_requireCode_16 : decode cX1_requireCode 16 = .ok (.invokestatic 3, 3) := dk_184 0 3 (dk_at dksX1_requireCode_0 16 rfl rfl)
theorem dX1_requireCode_19 : decode cX1_requireCode 19 = .ok (.goto 13, 3) := dk_167 0 13 (dk_at dksX1_requireCode_0 19 rfl rfl)
theorem dX1_requireCode_22 : decode cX1_requireCode 22 = .ok (.iload_n 2, 1) := dk_28 (dk_at dksX1_requireCode_0 22 rfl rfl)
theorem dX1_requireCode_23 : decode cX1_requireCode 23 = .ok (.iconst (-1), 1) := dk_2 (dk_at dksX1_requireCode_0 23 rfl rfl)
theorem dX1_requireCode_24 : decode cX1_requireCode 24 = .ok (.if_icmp .ne 7, 3) := dk_160 0 7 (dk_at dksX1_requireCode_1 0 rfl rfl)
theorem dX1_requireCode_27 : decode cX1_requireCode 27 = .ok (.iconst 1, 1) := dk_4 (dk_at dksX1_requireCode_1 3 rfl rfl)
theorem dX1_requireCode_28 : decode cX1_requireCode 28 = .ok (.goto 4, 3) := dk_167 0 4 (dk_at dksX1_requireCode_1 4 rfl rfl)
theorem dX1_requireCode_31 : decode cX1_requireCode 31 = .ok (.iconst 0, 1) := dk_3 (dk_at dksX1_requireCode_1 7 rfl rfl)
theorem dX1_requireCode_32 : decode cX1_requireCode 32 = .ok (.istore 4, 2) := dk_54 4 (dk_at dksX1_requireCode_1 8 rfl rfl)
theorem dX1_requireCode_34 : decode cX1_requireCode 34 = .ok (.iload_n 1, 1) := dk_27 (dk_at dksX1_requireCode_1 10 rfl rfl)
theorem dX1_requireCode_35 : decode cX1_requireCode 35 = .ok (.iconst 0, 1) := dk_3 (dk_at dksX1_requireCode_1 11 rfl rfl)
theorem dX1_requireCode_36 : decode cX1_requireCode 36 = .ok (.bipush 9, 2) := dk_16 9 (dk_at dksX1_requireCode_1 12 rfl rfl)
theorem dX1_requireCode_38 : decode cX1_requireCode 38 = .ok (.invokestatic 3, 3) := dk_184 0 3 (dk_at dksX1_requireCode_1 14 rfl rfl)
theorem dX1_requireCode_41 : decode cX1_requireCode 41 = .ok (.ifCond .eq 12, 3) := dk_153 0 12 (dk_at dksX1_requireCode_1 17 rfl rfl)
theorem dX1_requireCode_44 : decode cX1_requireCode 44 = .ok (.iload 4, 2) := dk_21 4 (dk_at dksX1_requireCode_1 20 rfl rfl)
theorem dX1_requireCode_46 : decode cX1_requireCode 46 = .ok (.ifCond .eq 7, 3) := dk_153 0 7 (dk_at dksX1_requireCode_2 0 rfl rfl)
theorem dX1_requireCode_49 : decode cX1_requireCode 49 = .ok (.iconst 1, 1) := dk_4 (dk_at dksX1_requireCode_2 3 rfl rfl)
theorem dX1_requireCode_50 : decode cX1_requireCode 50 = .ok (.goto 4, 3) := dk_167 0 4 (dk_at dksX1_requireCode_2 4 rfl rfl)
theorem dX1_requireCode_53 : decode cX1_requireCode 53 = .ok (.iconst 0, 1) := dk_3 (dk_at dksX1_requireCode_2 7 rfl rfl)
theorem dX1_requireCode_54 : decode cX1_requireCode 54 = .ok (.invokestatic 32, 3) := dk_184 0 32 (dk_at dksX1_requireCode_2 8 rfl rfl)
theorem dX1_requireCode_57 : decode cX1_requireCode 57 = .ok (.iload_n 3, 1) := dk_29 (dk_at dksX1_requireCode_2 11 rfl rfl)
theorem dX1_requireCode_58 : decode cX1_requireCode 58 = .ok (.iload_n 1, 1) := dk_27 (dk_at dksX1_requireCode_2 12 rfl rfl)
theorem dX1_requireCode_59 : decode cX1_requireCode 59 = .ok (.iload_n 2, 1) := dk_28 (dk_at dksX1_requireCode_2 13 rfl rfl)
theorem dX1_requireCode_60 : decode cX1_requireCode 60 = .ok (.invokestatic 43, 3) := dk_184 0 43 (dk_at dksX1_requireCode_2 14 rfl rfl)
theorem dX1_requireCode_63 : decode cX1_requireCode 63 = .ok (.ireturn, 1) := dk_172 (dk_at dksX1_requireCode_2 17 rfl rfl)
abbrev cX1_requirePredicate : ByteArray := prog_1_method_9_code
def yX1_requirePredicate : MethodName := ⟨RX1, "requirePredicate", "(C)I"⟩
def dkwX1_requirePredicate_0 : List UInt8 := [26, 16, 97, 16, 104, 184, 0, 3, 184, 0, 32, 26, 16, 97, 100, 172]
abbrev dktX1_requirePredicate_0 : List UInt8 := dkwX1_requirePredicate_0 ++ []
theorem dksX1_requirePredicate_0 : cX1_requirePredicate.data.toList.drop 0 = dktX1_requirePredicate_0 := by decide +kernel
theorem dX1_requirePredicate_0 : decode cX1_requirePredicate 0 = .ok (.iload_n 0, 1) := dk_26 (dk_at dksX1_requirePredicate_0 0 rfl rfl)
theorem dX1_requirePredicate_1 : decode cX1_requirePredicate 1 = .ok (.bipush 97, 2) := dk_16 97 (dk_at dksX1_requirePredicate_0 1 rfl rfl)
theorem dX1_requirePredicate_3 : decode cX1_requirePredicate 3 = .ok (.bipush 104, 2) := dk_16 104 (dk_at dksX1_requirePredicate_0 3 rfl rfl)
theorem dX1_requirePredicate_5 : decode cX1_requirePredicate 5 = .ok (.invokestatic 3, 3) := dk_184 0 3 (dk_at dksX1_requirePredicate_0 5 rfl rfl)
theorem dX1_requirePredicate_8 : decode cX1_requirePredicate 8 = .ok (.invokestatic 32, 3) := dk_184 0 32 (dk_at dksX1_requirePredicate_0 8 rfl rfl)
theorem dX1_requirePredicate_11 : decode cX1_requirePredicate 11 = .ok (.iload_n 0, 1) := dk_26 (dk_at dksX1_requirePredicate_0 11 rfl rfl)
theorem dX1_requirePredicate_12 : decode cX1_requirePredicate 12 = .ok (.bipush 97, 2) := dk_16 97 (dk_at dksX1_requirePredicate_0 12 rfl rfl)
theorem dX1_requirePredicate_14 : decode cX1_requirePredicate 14 = .ok (.isub, 1) := dk_100 (dk_at dksX1_requirePredicate_0 14 rfl rfl)
theorem dX1_requirePredicate_15 : decode cX1_requirePredicate 15 = .ok (.ireturn, 1) := dk_172 (dk_at dksX1_requirePredicate_0 15 rfl rfl)
abbrev cX1_isBetween : ByteArray := prog_1_method_1_code
def yX1_isBetween : MethodName := ⟨RX1, "isBetween", "(III)Z"⟩
def dkwX1_isBetween_0 : List UInt8 := [27, 26, 163, 0, 12, 26, 28, 163, 0, 7, 4, 167, 0, 4, 3, 172]
abbrev dktX1_isBetween_0 : List UInt8 := dkwX1_isBetween_0 ++ []
theorem dksX1_isBetween_0 : cX1_isBetween.data.toList.drop 0 = dktX1_isBetween_0 := by decide +kernel
theorem dX1_isBetween_0 : decode cX1_isBetween 0 = .ok (.iload_n 1, 1) := dk_27 (dk_at dksX1_isBetween_0 0 rfl rfl)
theorem dX1_isBetween_1 : decode cX1_isBetween 1 = .ok (.iload_n 0, 1) := dk_26 (dk_at dksX1_isBetween_0 1 rfl rfl)
theorem dX1_isBetween_2 : decode cX1_isBetween 2 = .ok (.if_icmp .gt 12, 3) := dk_163 0 12 (dk_at dksX1_isBetween_0 2 rfl rfl)
theorem dX1_isBetween_5 : decode cX1_isBetween 5 = .ok (.iload_n 0, 1) := dk_26 (dk_at dksX1_isBetween_0 5 rfl rfl)
theorem dX1_isBetween_6 : decode cX1_isBetween 6 = .ok (.iload_n 2, 1) := dk_28 (dk_at dksX1_isBetween_0 6 rfl rfl)
theorem dX1_isBetween_7 : decode cX1_isBetween 7 = .ok (.if_icmp .gt 7, 3) := dk_163 0 7 (dk_at dksX1_isBetween_0 7 rfl rfl)
theorem dX1_isBetween_10 : decode cX1_isBetween 10 = .ok (.iconst 1, 1) := dk_4 (dk_at dksX1_isBetween_0 10 rfl rfl)
theorem dX1_isBetween_11 : decode cX1_isBetween 11 = .ok (.goto 4, 3) := dk_167 0 4 (dk_at dksX1_isBetween_0 11 rfl rfl)
theorem dX1_isBetween_14 : decode cX1_isBetween 14 = .ok (.iconst 0, 1) := dk_3 (dk_at dksX1_isBetween_0 14 rfl rfl)
theorem dX1_isBetween_15 : decode cX1_isBetween 15 = .ok (.ireturn, 1) := dk_172 (dk_at dksX1_isBetween_0 15 rfl rfl)
abbrev cX1_requireArgument : ByteArray := prog_1_method_3_code
def yX1_requireArgument : MethodName := ⟨RX1, "requireArgument", "(Z)V"⟩
def dkwX1_requireArgument_0 : List UInt8 := [26, 154, 0, 11, 187, 0, 13, 89, 183, 0, 15, 191, 177]
abbrev dktX1_requireArgument_0 : List UInt8 := dkwX1_requireArgument_0 ++ []
theorem dksX1_requireArgument_0 : cX1_requireArgument.data.toList.drop 0 = dktX1_requireArgument_0 := by decide +kernel
theorem dX1_requireArgument_0 : decode cX1_requireArgument 0 = .ok (.iload_n 0, 1) := dk_26 (dk_at dksX1_requireArgument_0 0 rfl rfl)
theorem dX1_requireArgument_1 : decode cX1_requireArgument 1 = .ok (.ifCond .ne 11, 3) := dk_154 0 11 (dk_at dksX1_requireArgument_0 1 rfl rfl)
theorem dX1_requireArgument_4 : decode cX1_requireArgument 4 = .ok (.new 13, 3) := dk_187 0 13 (dk_at dksX1_requireArgument_0 4 rfl rfl)
theorem dX1_requireArgument_7 : decode cX1_requireArgument 7 = .ok (.dup, 1) := dk_89 (dk_at dksX1_requireArgument_0 7 rfl rfl)
theorem dX1_requireArgument_8 : decode cX1_requireArgument 8 = .ok (.invokespecial 15, 3) := dk_183 0 15 (dk_at dksX1_requireArgument_0 8 rfl rfl)
theorem dX1_requireArgument_11 : decode cX1_requireArgument 11 = .ok (.athrow, 1) := dk_191 (dk_at dksX1_requireArgument_0 11 rfl rfl)
theorem dX1_requireArgument_12 : decode cX1_requireArgument 12 = .ok (.return_, 1) := dk_177 (dk_at dksX1_requireArgument_0 12 rfl rfl)
abbrev cX1_requireSupport : ByteArray := prog_1_method_6_code
def yX1_requireSupport : MethodName := ⟨RX1, "requireSupport", "(Z)V"⟩
def dkwX1_requireSupport_0 : List UInt8 := [26, 154, 0, 11, 187, 0, 22, 89, 183, 0, 24, 191, 177]
abbrev dktX1_requireSupport_0 : List UInt8 := dkwX1_requireSupport_0 ++ []
theorem dksX1_requireSupport_0 : cX1_requireSupport.data.toList.drop 0 = dktX1_requireSupport_0 := by decide +kernel
theorem dX1_requireSupport_0 : decode cX1_requireSupport 0 = .ok (.iload_n 0, 1) := dk_26 (dk_at dksX1_requireSupport_0 0 rfl rfl)
theorem dX1_requireSupport_1 : decode cX1_requireSupport 1 = .ok (.ifCond .ne 11, 3) := dk_154 0 11 (dk_at dksX1_requireSupport_0 1 rfl rfl)
theorem dX1_requireSupport_4 : decode cX1_requireSupport 4 = .ok (.new 22, 3) := dk_187 0 22 (dk_at dksX1_requireSupport_0 4 rfl rfl)
theorem dX1_requireSupport_7 : decode cX1_requireSupport 7 = .ok (.dup, 1) := dk_89 (dk_at dksX1_requireSupport_0 7 rfl rfl)
theorem dX1_requireSupport_8 : decode cX1_requireSupport 8 = .ok (.invokespecial 24, 3) := dk_183 0 24 (dk_at dksX1_requireSupport_0 8 rfl rfl)
theorem dX1_requireSupport_11 : decode cX1_requireSupport 11 = .ok (.athrow, 1) := dk_191 (dk_at dksX1_requireSupport_0 11 rfl rfl)
theorem dX1_requireSupport_12 : decode cX1_requireSupport 12 = .ok (.return_, 1) := dk_177 (dk_at dksX1_requireSupport_0 12 rfl rfl)
abbrev cX1_requireState : ByteArray := prog_1_method_4_code
def yX1_requireState : MethodName := ⟨RX1, "requireState", "(Z)V"⟩
def dkwX1_requireState_0 : List UInt8 := [26, 154, 0, 11, 187, 0, 16, 89, 183, 0, 18, 191, 177]
abbrev dktX1_requireState_0 : List UInt8 := dkwX1_requireState_0 ++ []
theorem dksX1_requireState_0 : cX1_requireState.data.toList.drop 0 = dktX1_requireState_0 := by decide +kernel
theorem dX1_requireState_0 : decode cX1_requireState 0 = .ok (.iload_n 0, 1) := dk_26 (dk_at dksX1_requireState_0 0 rfl rfl)
theorem dX1_requireState_1 : decode cX1_requireState 1 = .ok (.ifCond .ne 11, 3) := dk_154 0 11 (dk_at dksX1_requireState_0 1 rfl rfl)
theorem dX1_requireState_4 : decode cX1_requireState 4 = .ok (.new 16, 3) := dk_187 0 16 (dk_at dksX1_requireState_0 4 rfl rfl)
theorem dX1_requireState_7 : decode cX1_requireState 7 = .ok (.dup, 1) := dk_89 (dk_at dksX1_requireState_0 7 rfl rfl)
theorem dX1_requireState_8 : decode cX1_requireState 8 = .ok (.invokespecial 18, 3) := dk_183 0 18 (dk_at dksX1_requireState_0 8 rfl rfl)
theorem dX1_requireState_11 : decode cX1_requireState 11 = .ok (.athrow, 1) := dk_191 (dk_at dksX1_requireState_0 11 rfl rfl)
theorem dX1_requireState_12 : decode cX1_requireState 12 = .ok (.return_, 1) := dk_177 (dk_at dksX1_requireState_0 12 rfl rfl)
abbrev cX1_replaceLogic : ByteArray := prog_1_method_19_code
def yX1_replaceLogic : MethodName := ⟨RX1, "replaceLogic", "(LBrambleLogic$Logic;)V"⟩
def dkwX1_replaceLogic_1 : List UInt8 := [42, 180, 0, 79, 42, 180, 0, 72, 185, 0, 110, 2, 0, 42, 43, 181, 0, 72, 177]
abbrev dktX1_replaceLogic_1 : List UInt8 := dkwX1_replaceLogic_1 ++ []
def dkwX1_replaceLogic_0 : List UInt8 := [42, 180, 0, 79, 185, 0, 100, 1, 0, 16, 8, 160, 0, 13, 42, 180, 0, 79, 185, 0, 106, 1, 0, 87]
abbrev dktX1_replaceLogic_0 : List UInt8 := dkwX1_replaceLogic_0 ++ dktX1_replaceLogic_1
theorem dksX1_replaceLogic_0 : cX1_replaceLogic.data.toList.drop 0 = dktX1_replaceLogic_0 := by decide +kernel
theorem dksX1_replaceLogic_1 : cX1_replaceLogic.data.toList.drop 24 = dktX1_replaceLogic_1 := dk_seg dksX1_replaceLogic_0 24 rfl rfl
theorem dX1_replaceLogic_0 : decode cX1_replaceLogic 0 = .ok (.aload_n 0, 1) := dk_42 (dk_at dksX1_replaceLogic_0 0 rfl rfl)
theorem dX1_replaceLogic_1 : decode cX1_replaceLogic 1 = .ok (.getfield 79, 3) := dk_180 0 79 (dk_at dksX1_replaceLogic_0 1 rfl rfl)
theorem dX1_replaceLogic_4 : decode cX1_replaceLogic 4 = .ok (.invokeinterface 100 1, 5) := by decide +kernel
theorem dX1_replaceLogic_9 : decode cX1_replaceLogic 9 = .ok (.bipush 8, 2) := dk_16 8 (dk_at dksX1_replaceLogic_0 9 rfl rfl)
theorem dX1_replaceLogic_11 : decode cX1_replaceLogic 11 = .ok (.if_icmp .ne 13, 3) := dk_160 0 13 (dk_at dksX1_replaceLogic_0 11 rfl rfl)
theorem dX1_replaceLogic_14 : decode cX1_replaceLogic 14 = .ok (.aload_n 0, 1) := dk_42 (dk_at dksX1_replaceLogic_0 14 rfl rfl)
theorem dX1_replaceLogic_15 : decode cX1_replaceLogic 15 = .ok (.getfield 79, 3) := dk_180 0 79 (dk_at dksX1_replaceLogic_0 15 rfl rfl)
theorem dX1_replaceLogic_18 : decode cX1_replaceLogic 18 = .ok (.invokeinterface 106 1, 5) := by decide +kernel
theorem dX1_replaceLogic_23 : decode cX1_replaceLogic 23 = .ok (.pop, 1) := dk_87 (dk_at dksX1_replaceLogic_0 23 rfl rfl)
theorem dX1_replaceLogic_24 : decode cX1_replaceLogic 24 = .ok (.aload_n 0, 1) := dk_42 (dk_at dksX1_replaceLogic_1 0 rfl rfl)
theorem dX1_replaceLogic_25 : decode cX1_replaceLogic 25 = .ok (.getfield 79, 3) := dk_180 0 79 (dk_at dksX1_replaceLogic_1 1 rfl rfl)
theorem dX1_replaceLogic_28 : decode cX1_replaceLogic 28 = .ok (.aload_n 0, 1) := dk_42 (dk_at dksX1_replaceLogic_1 4 rfl rfl)
theorem dX1_replaceLogic_29 : decode cX1_replaceLogic 29 = .ok (.getfield 72, 3) := dk_180 0 72 (dk_at dksX1_replaceLogic_1 5 rfl rfl)
theorem dX1_replaceLogic_32 : decode cX1_replaceLogic 32 = .ok (.invokeinterface 110 2, 5) := by decide +kernel
theorem dX1_replaceLogic_37 : decode cX1_replaceLogic 37 = .ok (.aload_n 0, 1) := dk_42 (dk_at dksX1_replaceLogic_1 13 rfl rfl)
theorem dX1_replaceLogic_38 : decode cX1_replaceLogic 38 = .ok (.aload_n 1, 1) := dk_43 (dk_at dksX1_replaceLogic_1 14 rfl rfl)
theorem dX1_replaceLogic_39 : decode cX1_replaceLogic 39 = .ok (.putfield 72, 3) := dk_181 0 72 (dk_at dksX1_replaceLogic_1 15 rfl rfl)
theorem dX1_replaceLogic_42 : decode cX1_replaceLogic 42 = .ok (.return_, 1) := dk_177 (dk_at dksX1_replaceLogic_1 18 rfl rfl)
abbrev cX1_takeFact : ByteArray := prog_1_method_21_code
def yX1_takeFact : MethodName := ⟨RX1, "takeFact", "(CII)I"⟩
def dkwX1_takeFact_1 : List UInt8 := [25, 4, 182, 0, 121, 21, 5, 172]
abbrev dktX1_takeFact_1 : List UInt8 := dkwX1_takeFact_1 ++ []
def dkwX1_takeFact_0 : List UInt8 := [187, 0, 69, 89, 42, 180, 0, 72, 183, 0, 114, 58, 4, 25, 4, 27, 28, 29, 182, 0, 124, 54, 5, 42]
abbrev dktX1_takeFact_0 : List UInt8 := dkwX1_takeFact_0 ++ dktX1_takeFact_1
theorem dksX1_takeFact_0 : cX1_takeFact.data.toList.drop 0 = dktX1_takeFact_0 := by decide +kernel
theorem dksX1_takeFact_1 : cX1_takeFact.data.toList.drop 24 = dktX1_takeFact_1 := dk_seg dksX1_takeFact_0 24 rfl rfl
theorem dX1_takeFact_0 : decode cX1_takeFact 0 = .ok (.new 69, 3) := dk_187 0 69 (dk_at dksX1_takeFact_0 0 rfl rfl)
theorem dX1_takeFact_3 : decode cX1_takeFact 3 = .ok (.dup, 1) := dk_89 (dk_at dksX1_takeFact_0 3 rfl rfl)
theorem dX1_takeFact_4 : decode cX1_takeFact 4 = .ok (.aload_n 0, 1) := dk_42 (dk_at dksX1_takeFact_0 4 rfl rfl)
theorem dX1_takeFact_5 : decode cX1_takeFact 5 = .ok (.getfield 72, 3) := dk_180 0 72 (dk_at dksX1_takeFact_0 5 rfl rfl)
theorem dX1_takeFact_8 : decode cX1_takeFact 8 = .ok (.invokespecial 114, 3) := dk_183 0 114 (dk_at dksX1_takeFact_0 8 rfl rfl)
theorem dX1_takeFact_11 : decode cX1_takeFact 11 = .ok (.astore 4, 2) := dk_58 4 (dk_at dksX1_takeFact_0 11 rfl rfl)
theorem dX1_takeFact_13 : decode cX1_takeFact 13 = .ok (.aload 4, 2) := dk_25 4 (dk_at dksX1_takeFact_0 13 rfl rfl)
theorem dX1_takeFact_15 : decode cX1_takeFact 15 = .ok (.iload_n 1, 1) := dk_27 (dk_at dksX1_takeFact_0 15 rfl rfl)
theorem dX1_takeFact_16 : decode cX1_takeFact 16 = .ok (.iload_n 2, 1) := dk_28 (dk_at dksX1_takeFact_0 16 rfl rfl)
theorem dX1_takeFact_17 : decode cX1_takeFact 17 = .ok (.iload_n 3, 1) := dk_29 (dk_at dksX1_takeFact_0 17 rfl rfl)
theorem dX1_takeFact_18 : decode cX1_takeFact 18 = .ok (.invokevirtual 124, 3) := dk_182 0 124 (dk_at dksX1_takeFact_0 18 rfl rfl)
theorem dX1_takeFact_21 : decode cX1_takeFact 21 = .ok (.istore 5, 2) := dk_54 5 (dk_at dksX1_takeFact_0 21 rfl rfl)
theorem dX1_takeFact_23 : decode cX1_takeFact 23 = .ok (.aload_n 0, 1) := dk_42 (dk_at dksX1_takeFact_0 23 rfl rfl)
theorem dX1_takeFact_24 : decode cX1_takeFact 24 = .ok (.aload 4, 2) := dk_25 4 (dk_at dksX1_takeFact_1 0 rfl rfl)
theorem dX1_takeFact_26 : decode cX1_takeFact 26 = .ok (.invokevirtual 121, 3) := dk_182 0 121 (dk_at dksX1_takeFact_1 2 rfl rfl)
theorem dX1_takeFact_29 : decode cX1_takeFact 29 = .ok (.iload 5, 2) := dk_21 5 (dk_at dksX1_takeFact_1 5 rfl rfl)
theorem dX1_takeFact_31 : decode cX1_takeFact 31 = .ok (.ireturn, 1) := dk_172 (dk_at dksX1_takeFact_1 7 rfl rfl)
abbrev cX1_requireElement : ByteArray := prog_1_method_5_code
def yX1_requireElement : MethodName := ⟨RX1, "requireElement", "(Z)V"⟩
def dkwX1_requireElement_0 : List UInt8 := [26, 154, 0, 11, 187, 0, 19, 89, 183, 0, 21, 191, 177]
abbrev dktX1_requireElement_0 : List UInt8 := dkwX1_requireElement_0 ++ []
theorem dksX1_requireElement_0 : cX1_requireElement.data.toList.drop 0 = dktX1_requireElement_0 := by decide +kernel
theorem dX1_requireElement_0 : decode cX1_requireElement 0 = .ok (.iload_n 0, 1) := dk_26 (dk_at dksX1_requireElement_0 0 rfl rfl)
theorem dX1_requireElement_1 : decode cX1_requireElement 1 = .ok (.ifCond .ne 11, 3) := dk_154 0 11 (dk_at dksX1_requireElement_0 1 rfl rfl)
theorem dX1_requireElement_4 : decode cX1_requireElement 4 = .ok (.new 19, 3) := dk_187 0 19 (dk_at dksX1_requireElement_0 4 rfl rfl)
theorem dX1_requireElement_7 : decode cX1_requireElement 7 = .ok (.dup, 1) := dk_89 (dk_at dksX1_requireElement_0 7 rfl rfl)
theorem dX1_requireElement_8 : decode cX1_requireElement 8 = .ok (.invokespecial 21, 3) := dk_183 0 21 (dk_at dksX1_requireElement_0 8 rfl rfl)
theorem dX1_requireElement_11 : decode cX1_requireElement 11 = .ok (.athrow, 1) := dk_191 (dk_at dksX1_requireElement_0 11 rfl rfl)
theorem dX1_requireElement_12 : decode cX1_requireElement 12 = .ok (.return_, 1) := dk_177 (dk_at dksX1_requireElement_0 12 rfl rfl)
abbrev cX1_dropRule : ByteArray := prog_1_method_22_code
def yX1_dropRule : MethodName := ⟨RX1, "dropRule", "(I)I"⟩
def dkwX1_dropRule_1 : List UInt8 := [172]
abbrev dktX1_dropRule_1 : List UInt8 := dkwX1_dropRule_1 ++ []
def dkwX1_dropRule_0 : List UInt8 := [187, 0, 69, 89, 42, 180, 0, 72, 183, 0, 114, 77, 44, 27, 182, 0, 127, 62, 42, 44, 182, 0, 121, 29]
abbrev dktX1_dropRule_0 : List UInt8 := dkwX1_dropRule_0 ++ dktX1_dropRule_1
theorem dksX1_dropRule_0 : cX1_dropRule.data.toList.drop 0 = dktX1_dropRule_0 := by decide +kernel
theorem dksX1_dropRule_1 : cX1_dropRule.data.toList.drop 24 = dktX1_dropRule_1 := dk_seg dksX1_dropRule_0 24 rfl rfl
theorem dX1_dropRule_0 : decode cX1_dropRule 0 = .ok (.new 69, 3) := dk_187 0 69 (dk_at dksX1_dropRule_0 0 rfl rfl)
theorem dX1_dropRule_3 : decode cX1_dropRule 3 = .ok (.dup, 1) := dk_89 (dk_at dksX1_dropRule_0 3 rfl rfl)
theorem dX1_dropRule_4 : decode cX1_dropRule 4 = .ok (.aload_n 0, 1) := dk_42 (dk_at dksX1_dropRule_0 4 rfl rfl)
theorem dX1_dropRule_5 : decode cX1_dropRule 5 = .ok (.getfield 72, 3) := dk_180 0 72 (dk_at dksX1_dropRule_0 5 rfl rfl)
theorem dX1_dropRule_8 : decode cX1_dropRule 8 = .ok (.invokespecial 114, 3) := dk_183 0 114 (dk_at dksX1_dropRule_0 8 rfl rfl)
theorem dX1_dropRule_11 : decode cX1_dropRule 11 = .ok (.astore_n 2, 1) := dk_77 (dk_at dksX1_dropRule_0 11 rfl rfl)
theorem dX1_dropRule_12 : decode cX1_dropRule 12 = .ok (.aload_n 2, 1) := dk_44 (dk_at dksX1_dropRule_0 12 rfl rfl)
theorem dX1_dropRule_13 : decode cX1_dropRule 13 = .ok (.iload_n 1, 1) := dk_27 (dk_at dksX1_dropRule_0 13 rfl rfl)
theorem dX1_dropRule_14 : decode cX1_dropRule 14 = .ok (.invokevirtual 127, 3) := dk_182 0 127 (dk_at dksX1_dropRule_0 14 rfl rfl)
theorem dX1_dropRule_17 : decode cX1_dropRule 17 = .ok (.istore_n 3, 1) := dk_62 (dk_at dksX1_dropRule_0 17 rfl rfl)
theorem dX1_dropRule_18 : decode cX1_dropRule 18 = .ok (.aload_n 0, 1) := dk_42 (dk_at dksX1_dropRule_0 18 rfl rfl)
theorem dX1_dropRule_19 : decode cX1_dropRule 19 = .ok (.aload_n 2, 1) := dk_44 (dk_at dksX1_dropRule_0 19 rfl rfl)
theorem dX1_dropRule_20 : decode cX1_dropRule 20 = .ok (.invokevirtual 121, 3) := dk_182 0 121 (dk_at dksX1_dropRule_0 20 rfl rfl)
theorem dX1_dropRule_23 : decode cX1_dropRule 23 = .ok (.iload_n 3, 1) := dk_29 (dk_at dksX1_dropRule_0 23 rfl rfl)
theorem dX1_dropRule_24 : decode cX1_dropRule 24 = .ok (.ireturn, 1) := dk_172 (dk_at dksX1_dropRule_1 0 rfl rfl)
abbrev cX1_requireIndex : ByteArray := prog_1_method_2_code
def yX1_requireIndex : MethodName := ⟨RX1, "requireIndex", "(II)V"⟩
def dkwX1_requireIndex_0 : List UInt8 := [26, 3, 27, 4, 100, 184, 0, 3, 154, 0, 11, 187, 0, 7, 89, 183, 0, 9, 191, 177]
abbrev dktX1_requireIndex_0 : List UInt8 := dkwX1_requireIndex_0 ++ []
theorem dksX1_requireIndex_0 : cX1_requireIndex.data.toList.drop 0 = dktX1_requireIndex_0 := by decide +kernel
theorem dX1_requireIndex_0 : decode cX1_requireIndex 0 = .ok (.iload_n 0, 1) := dk_26 (dk_at dksX1_requireIndex_0 0 rfl rfl)
theorem dX1_requireIndex_1 : decode cX1_requireIndex 1 = .ok (.iconst 0, 1) := dk_3 (dk_at dksX1_requireIndex_0 1 rfl rfl)
theorem dX1_requireIndex_2 : decode cX1_requireIndex 2 = .ok (.iload_n 1, 1) := dk_27 (dk_at dksX1_requireIndex_0 2 rfl rfl)
theorem dX1_requireIndex_3 : decode cX1_requireIndex 3 = .ok (.iconst 1, 1) := dk_4 (dk_at dksX1_requireIndex_0 3 rfl rfl)
theorem dX1_requireIndex_4 : decode cX1_requireIndex 4 = .ok (.isub, 1) := dk_100 (dk_at dksX1_requireIndex_0 4 rfl rfl)
theorem dX1_requireIndex_5 : decode cX1_requireIndex 5 = .ok (.invokestatic 3, 3) := dk_184 0 3 (dk_at dksX1_requireIndex_0 5 rfl rfl)
theorem dX1_requireIndex_8 : decode cX1_requireIndex 8 = .ok (.ifCond .ne 11, 3) := dk_154 0 11 (dk_at dksX1_requireIndex_0 8 rfl rfl)
theorem dX1_requireIndex_11 : decode cX1_requireIndex 11 = .ok (.new 7, 3) := dk_187 0 7 (dk_at dksX1_requireIndex_0 11 rfl rfl)
theorem dX1_requireIndex_14 : decode cX1_requireIndex 14 = .ok (.dup, 1) := dk_89 (dk_at dksX1_requireIndex_0 14 rfl rfl)
theorem dX1_requireIndex_15 : decode cX1_requireIndex 15 = .ok (.invokespecial 9, 3) := dk_183 0 9 (dk_at dksX1_requireIndex_0 15 rfl rfl)
theorem dX1_requireIndex_18 : decode cX1_requireIndex 18 = .ok (.athrow, 1) := dk_191 (dk_at dksX1_requireIndex_0 18 rfl rfl)
theorem dX1_requireIndex_19 : decode cX1_requireIndex 19 = .ok (.return_, 1) := dk_177 (dk_at dksX1_requireIndex_0 19 rfl rfl)
abbrev cX1_isGiven : ByteArray := prog_1_method_24_code
def yX1_isGiven : MethodName := ⟨RX1, "isGiven", "(CII)Z"⟩
def dkwX1_isGiven_1 : List UInt8 := [172]
abbrev dktX1_isGiven_1 : List UInt8 := dkwX1_isGiven_1 ++ []
def dkwX1_isGiven_0 : List UInt8 := [27, 28, 29, 184, 0, 140, 54, 4, 42, 180, 0, 72, 180, 0, 131, 27, 16, 97, 100, 21, 4, 182, 0, 143]
abbrev dktX1_isGiven_0 : List UInt8 := dkwX1_isGiven_0 ++ dktX1_isGiven_1
theorem dksX1_isGiven_0 : cX1_isGiven.data.toList.drop 0 = dktX1_isGiven_0 := by decide +kernel
theorem dksX1_isGiven_1 : cX1_isGiven.data.toList.drop 24 = dktX1_isGiven_1 := dk_seg dksX1_isGiven_0 24 rfl rfl
theorem dX1_isGiven_0 : decode cX1_isGiven 0 = .ok (.iload_n 1, 1) := dk_27 (dk_at dksX1_isGiven_0 0 rfl rfl)
theorem dX1_isGiven_1 : decode cX1_isGiven 1 = .ok (.iload_n 2, 1) := dk_28 (dk_at dksX1_isGiven_0 1 rfl rfl)
theorem dX1_isGiven_2 : decode cX1_isGiven 2 = .ok (.iload_n 3, 1) := dk_29 (dk_at dksX1_isGiven_0 2 rfl rfl)
theorem dX1_isGiven_3 : decode cX1_isGiven 3 = .ok (.invokestatic 140, 3) := dk_184 0 140 (dk_at dksX1_isGiven_0 3 rfl rfl)
theorem dX1_isGiven_6 : decode cX1_isGiven 6 = .ok (.istore 4, 2) := dk_54 4 (dk_at dksX1_isGiven_0 6 rfl rfl)
theorem dX1_isGiven_8 : decode cX1_isGiven 8 = .ok (.aload_n 0, 1) := dk_42 (dk_at dksX1_isGiven_0 8 rfl rfl)
theorem dX1_isGiven_9 : decode cX1_isGiven 9 = .ok (.getfield 72, 3) := dk_180 0 72 (dk_at dksX1_isGiven_0 9 rfl rfl)
theorem dX1_isGiven_12 : decode cX1_isGiven 12 = .ok (.getfield 131, 3) := dk_180 0 131 (dk_at dksX1_isGiven_0 12 rfl rfl)
theorem dX1_isGiven_15 : decode cX1_isGiven 15 = .ok (.iload_n 1, 1) := dk_27 (dk_at dksX1_isGiven_0 15 rfl rfl)
theorem dX1_isGiven_16 : decode cX1_isGiven 16 = .ok (.bipush 97, 2) := dk_16 97 (dk_at dksX1_isGiven_0 16 rfl rfl)
theorem dX1_isGiven_18 : decode cX1_isGiven 18 = .ok (.isub, 1) := dk_100 (dk_at dksX1_isGiven_0 18 rfl rfl)
theorem dX1_isGiven_19 : decode cX1_isGiven 19 = .ok (.iload 4, 2) := dk_21 4 (dk_at dksX1_isGiven_0 19 rfl rfl)
theorem dX1_isGiven_21 : decode cX1_isGiven 21 = .ok (.invokevirtual 143, 3) := dk_182 0 143 (dk_at dksX1_isGiven_0 21 rfl rfl)
theorem dX1_isGiven_24 : decode cX1_isGiven 24 = .ok (.ireturn, 1) := dk_172 (dk_at dksX1_isGiven_1 0 rfl rfl)
abbrev cX1_isTrue : ByteArray := prog_1_method_25_code
def yX1_isTrue : MethodName := ⟨RX1, "isTrue", "(CII)Z"⟩
def dkwX1_isTrue_1 : List UInt8 := [172]
abbrev dktX1_isTrue_1 : List UInt8 := dkwX1_isTrue_1 ++ []
def dkwX1_isTrue_0 : List UInt8 := [27, 28, 29, 184, 0, 140, 54, 4, 42, 180, 0, 72, 182, 0, 147, 27, 16, 97, 100, 21, 4, 182, 0, 143]
abbrev dktX1_isTrue_0 : List UInt8 := dkwX1_isTrue_0 ++ dktX1_isTrue_1
theorem dksX1_isTrue_0 : cX1_isTrue.data.toList.drop 0 = dktX1_isTrue_0 := by decide +kernel
theorem dksX1_isTrue_1 : cX1_isTrue.data.toList.drop 24 = dktX1_isTrue_1 := dk_seg dksX1_isTrue_0 24 rfl rfl
theorem dX1_isTrue_0 : decode cX1_isTrue 0 = .ok (.iload_n 1, 1) := dk_27 (dk_at dksX1_isTrue_0 0 rfl rfl)
theorem dX1_isTrue_1 : decode cX1_isTrue 1 = .ok (.iload_n 2, 1) := dk_28 (dk_at dksX1_isTrue_0 1 rfl rfl)
theorem dX1_isTrue_2 : decode cX1_isTrue 2 = .ok (.iload_n 3, 1) := dk_29 (dk_at dksX1_isTrue_0 2 rfl rfl)
theorem dX1_isTrue_3 : decode cX1_isTrue 3 = .ok (.invokestatic 140, 3) := dk_184 0 140 (dk_at dksX1_isTrue_0 3 rfl rfl)
theorem dX1_isTrue_6 : decode cX1_isTrue 6 = .ok (.istore 4, 2) := dk_54 4 (dk_at dksX1_isTrue_0 6 rfl rfl)
theorem dX1_isTrue_8 : decode cX1_isTrue 8 = .ok (.aload_n 0, 1) := dk_42 (dk_at dksX1_isTrue_0 8 rfl rfl)
theorem dX1_isTrue_9 : decode cX1_isTrue 9 = .ok (.getfield 72, 3) := dk_180 0 72 (dk_at dksX1_isTrue_0 9 rfl rfl)
theorem dX1_isTrue_12 : decode cX1_isTrue 12 = .ok (.invokevirtual 147, 3) := dk_182 0 147 (dk_at dksX1_isTrue_0 12 rfl rfl)
theorem dX1_isTrue_15 : decode cX1_isTrue 15 = .ok (.iload_n 1, 1) := dk_27 (dk_at dksX1_isTrue_0 15 rfl rfl)
theorem dX1_isTrue_16 : decode cX1_isTrue 16 = .ok (.bipush 97, 2) := dk_16 97 (dk_at dksX1_isTrue_0 16 rfl rfl)
theorem dX1_isTrue_18 : decode cX1_isTrue 18 = .ok (.isub, 1) := dk_100 (dk_at dksX1_isTrue_0 18 rfl rfl)
theorem dX1_isTrue_19 : decode cX1_isTrue 19 = .ok (.iload 4, 2) := dk_21 4 (dk_at dksX1_isTrue_0 19 rfl rfl)
theorem dX1_isTrue_21 : decode cX1_isTrue 21 = .ok (.invokevirtual 143, 3) := dk_182 0 143 (dk_at dksX1_isTrue_0 21 rfl rfl)
theorem dX1_isTrue_24 : decode cX1_isTrue 24 = .ok (.ireturn, 1) := dk_172 (dk_at dksX1_isTrue_1 0 rfl rfl)
abbrev cX1_isTrueByTrying : ByteArray := prog_1_method_26_code
def yX1_isTrueByTrying : MethodName := ⟨RX1, "isTrueByTrying", "(CII)Z"⟩
def dkwX1_isTrueByTrying_1 : List UInt8 := [172]
abbrev dktX1_isTrueByTrying_1 : List UInt8 := dkwX1_isTrueByTrying_1 ++ []
def dkwX1_isTrueByTrying_0 : List UInt8 := [27, 28, 29, 184, 0, 140, 54, 4, 42, 180, 0, 72, 182, 0, 151, 27, 16, 97, 100, 21, 4, 182, 0, 143]
abbrev dktX1_isTrueByTrying_0 : List UInt8 := dkwX1_isTrueByTrying_0 ++ dktX1_isTrueByTrying_1
theorem dksX1_isTrueByTrying_0 : cX1_isTrueByTrying.data.toList.drop 0 = dktX1_isTrueByTrying_0 := by decide +kernel
theorem dksX1_isTrueByTrying_1 : cX1_isTrueByTrying.data.toList.drop 24 = dktX1_isTrueByTrying_1 := dk_seg dksX1_isTrueByTrying_0 24 rfl rfl
theorem dX1_isTrueByTrying_0 : decode cX1_isTrueByTrying 0 = .ok (.iload_n 1, 1) := dk_27 (dk_at dksX1_isTrueByTrying_0 0 rfl rfl)
theorem dX1_isTrueByTrying_1 : decode cX1_isTrueByTrying 1 = .ok (.iload_n 2, 1) := dk_28 (dk_at dksX1_isTrueByTrying_0 1 rfl rfl)
theorem dX1_isTrueByTrying_2 : decode cX1_isTrueByTrying 2 = .ok (.iload_n 3, 1) := dk_29 (dk_at dksX1_isTrueByTrying_0 2 rfl rfl)
theorem dX1_isTrueByTrying_3 : decode cX1_isTrueByTrying 3 = .ok (.invokestatic 140, 3) := dk_184 0 140 (dk_at dksX1_isTrueByTrying_0 3 rfl rfl)
theorem dX1_isTrueByTrying_6 : decode cX1_isTrueByTrying 6 = .ok (.istore 4, 2) := dk_54 4 (dk_at dksX1_isTrueByTrying_0 6 rfl rfl)
theorem dX1_isTrueByTrying_8 : decode cX1_isTrueByTrying 8 = .ok (.aload_n 0, 1) := dk_42 (dk_at dksX1_isTrueByTrying_0 8 rfl rfl)
theorem dX1_isTrueByTrying_9 : decode cX1_isTrueByTrying 9 = .ok (.getfield 72, 3) := dk_180 0 72 (dk_at dksX1_isTrueByTrying_0 9 rfl rfl)
theorem dX1_isTrueByTrying_12 : decode cX1_isTrueByTrying 12 = .ok (.invokevirtual 151, 3) := dk_182 0 151 (dk_at dksX1_isTrueByTrying_0 12 rfl rfl)
theorem dX1_isTrueByTrying_15 : decode cX1_isTrueByTrying 15 = .ok (.iload_n 1, 1) := dk_27 (dk_at dksX1_isTrueByTrying_0 15 rfl rfl)
theorem dX1_isTrueByTrying_16 : decode cX1_isTrueByTrying 16 = .ok (.bipush 97, 2) := dk_16 97 (dk_at dksX1_isTrueByTrying_0 16 rfl rfl)
theorem dX1_isTrueByTrying_18 : decode cX1_isTrueByTrying 18 = .ok (.isub, 1) := dk_100 (dk_at dksX1_isTrueByTrying_0 18 rfl rfl)
theorem dX1_isTrueByTrying_19 : decode cX1_isTrueByTrying 19 = .ok (.iload 4, 2) := dk_21 4 (dk_at dksX1_isTrueByTrying_0 19 rfl rfl)
theorem dX1_isTrueByTrying_21 : decode cX1_isTrueByTrying 21 = .ok (.invokevirtual 143, 3) := dk_182 0 143 (dk_at dksX1_isTrueByTrying_0 21 rfl rfl)
theorem dX1_isTrueByTrying_24 : decode cX1_isTrueByTrying 24 = .ok (.ireturn, 1) := dk_172 (dk_at dksX1_isTrueByTrying_1 0 rfl rfl)
abbrev cX1_trueCount : ByteArray := prog_1_method_27_code
def yX1_trueCount : MethodName := ⟨RX1, "trueCount", "(C)I"⟩
def dkwX1_trueCount_0 : List UInt8 := [42, 180, 0, 72, 182, 0, 147, 180, 0, 154, 27, 184, 0, 39, 50, 182, 0, 158, 172]
abbrev dktX1_trueCount_0 : List UInt8 := dkwX1_trueCount_0 ++ []
theorem dksX1_trueCount_0 : cX1_trueCount.data.toList.drop 0 = dktX1_trueCount_0 := by decide +kernel
theorem dX1_trueCount_0 : decode cX1_trueCount 0 = .ok (.aload_n 0, 1) := dk_42 (dk_at dksX1_trueCount_0 0 rfl rfl)
theorem dX1_trueCount_1 : decode cX1_trueCount 1 = .ok (.getfield 72, 3) := dk_180 0 72 (dk_at dksX1_trueCount_0 1 rfl rfl)
theorem dX1_trueCount_4 : decode cX1_trueCount 4 = .ok (.invokevirtual 147, 3) := dk_182 0 147 (dk_at dksX1_trueCount_0 4 rfl rfl)
theorem dX1_trueCount_7 : decode cX1_trueCount 7 = .ok (.getfield 154, 3) := dk_180 0 154 (dk_at dksX1_trueCount_0 7 rfl rfl)
theorem dX1_trueCount_10 : decode cX1_trueCount 10 = .ok (.iload_n 1, 1) := dk_27 (dk_at dksX1_trueCount_0 10 rfl rfl)
theorem dX1_trueCount_11 : decode cX1_trueCount 11 = .ok (.invokestatic 39, 3) := dk_184 0 39 (dk_at dksX1_trueCount_0 11 rfl rfl)
theorem dX1_trueCount_14 : decode cX1_trueCount 14 = .ok (.aaload, 1) := dk_50 (dk_at dksX1_trueCount_0 14 rfl rfl)
theorem dX1_trueCount_15 : decode cX1_trueCount 15 = .ok (.invokevirtual 158, 3) := dk_182 0 158 (dk_at dksX1_trueCount_0 15 rfl rfl)
theorem dX1_trueCount_18 : decode cX1_trueCount 18 = .ok (.ireturn, 1) := dk_172 (dk_at dksX1_trueCount_0 18 rfl rfl)
abbrev cX1_gainedWithout : ByteArray := prog_1_method_29_code
def yX1_gainedWithout : MethodName := ⟨RX1, "gainedWithout", "(CII)I"⟩
def dkwX1_gainedWithout_1 : List UInt8 := [182, 0, 147, 182, 0, 165, 172]
abbrev dktX1_gainedWithout_1 : List UInt8 := dkwX1_gainedWithout_1 ++ []
def dkwX1_gainedWithout_0 : List UInt8 := [27, 28, 29, 184, 0, 140, 54, 4, 42, 180, 0, 72, 27, 21, 4, 182, 0, 161, 42, 180, 0, 72]
abbrev dktX1_gainedWithout_0 : List UInt8 := dkwX1_gainedWithout_0 ++ dktX1_gainedWithout_1
theorem dksX1_gainedWithout_0 : cX1_gainedWithout.data.toList.drop 0 = dktX1_gainedWithout_0 := by decide +kernel
theorem dksX1_gainedWithout_1 : cX1_gainedWithout.data.toList.drop 22 = dktX1_gainedWithout_1 := dk_seg dksX1_gainedWithout_0 22 rfl rfl
theorem dX1_gainedWithout_0 : decode cX1_gainedWithout 0 = .ok (.iload_n 1, 1) := dk_27 (dk_at dksX1_gainedWithout_0 0 rfl rfl)
theorem dX1_gainedWithout_1 : decode cX1_gainedWithout 1 = .ok (.iload_n 2, 1) := dk_28 (dk_at dksX1_gainedWithout_0 1 rfl rfl)
theorem dX1_gainedWithout_2 : decode cX1_gainedWithout 2 = .ok (.iload_n 3, 1) := dk_29 (dk_at dksX1_gainedWithout_0 2 rfl rfl)
theorem dX1_gainedWithout_3 : decode cX1_gainedWithout 3 = .ok (.invokestatic 140, 3) := dk_184 0 140 (dk_at dksX1_gainedWithout_0 3 rfl rfl)
theorem dX1_gainedWithout_6 : decode cX1_gainedWithout 6 = .ok (.istore 4, 2) := dk_54 4 (dk_at dksX1_gainedWithout_0 6 rfl rfl)
theorem dX1_gainedWithout_8 : decode cX1_gainedWithout 8 = .ok (.aload_n 0, 1) := dk_42 (dk_at dksX1_gainedWithout_0 8 rfl rfl)
theorem dX1_gainedWithout_9 : decode cX1_gainedWithout 9 = .ok (.getfield 72, 3) := dk_180 0 72 (dk_at dksX1_gainedWithout_0 9 rfl rfl)
theorem dX1_gainedWithout_12 : decode cX1_gainedWithout 12 = .ok (.iload_n 1, 1) := dk_27 (dk_at dksX1_gainedWithout_0 12 rfl rfl)
theorem dX1_gainedWithout_13 : decode cX1_gainedWithout 13 = .ok (.iload 4, 2) := dk_21 4 (dk_at dksX1_gainedWithout_0 13 rfl rfl)
theorem dX1_gainedWithout_15 : decode cX1_gainedWithout 15 = .ok (.invokevirtual 161, 3) := dk_182 0 161 (dk_at dksX1_gainedWithout_0 15 rfl rfl)
theorem dX1_gainedWithout_18 : decode cX1_gainedWithout 18 = .ok (.aload_n 0, 1) := dk_42 (dk_at dksX1_gainedWithout_0 18 rfl rfl)
theorem dX1_gainedWithout_19 : decode cX1_gainedWithout 19 = .ok (.getfield 72, 3) := dk_180 0 72 (dk_at dksX1_gainedWithout_0 19 rfl rfl)
theorem dX1_gainedWithout_22 : decode cX1_gainedWithout 22 = .ok (.invokevirtual 147, 3) := dk_182 0 147 (dk_at dksX1_gainedWithout_1 0 rfl rfl)
theorem dX1_gainedWithout_25 : decode cX1_gainedWithout 25 = .ok (.invokevirtual 165, 3) := dk_182 0 165 (dk_at dksX1_gainedWithout_1 3 rfl rfl)
theorem dX1_gainedWithout_28 : decode cX1_gainedWithout 28 = .ok (.ireturn, 1) := dk_172 (dk_at dksX1_gainedWithout_1 6 rfl rfl)
abbrev cX1_constantAtRank : ByteArray := prog_1_method_30_code
def yX1_constantAtRank : MethodName := ⟨RX1, "constantAtRank", "(CI)I"⟩
def dkwX1_constantAtRank_0 : List UInt8 := [27, 184, 0, 39, 62, 42, 180, 0, 72, 29, 28, 182, 0, 169, 184, 0, 173, 172]
abbrev dktX1_constantAtRank_0 : List UInt8 := dkwX1_constantAtRank_0 ++ []
theorem dksX1_constantAtRank_0 : cX1_constantAtRank.data.toList.drop 0 = dktX1_constantAtRank_0 := by decide +kernel
theorem dX1_constantAtRank_0 : decode cX1_constantAtRank 0 = .ok (.iload_n 1, 1) := dk_27 (dk_at dksX1_constantAtRank_0 0 rfl rfl)
theorem dX1_constantAtRank_1 : decode cX1_constantAtRank 1 = .ok (.invokestatic 39, 3) := dk_184 0 39 (dk_at dksX1_constantAtRank_0 1 rfl rfl)
theorem dX1_constantAtRank_4 : decode cX1_constantAtRank 4 = .ok (.istore_n 3, 1) := dk_62 (dk_at dksX1_constantAtRank_0 4 rfl rfl)
theorem dX1_constantAtRank_5 : decode cX1_constantAtRank 5 = .ok (.aload_n 0, 1) := dk_42 (dk_at dksX1_constantAtRank_0 5 rfl rfl)
theorem dX1_constantAtRank_6 : decode cX1_constantAtRank 6 = .ok (.getfield 72, 3) := dk_180 0 72 (dk_at dksX1_constantAtRank_0 6 rfl rfl)
theorem dX1_constantAtRank_9 : decode cX1_constantAtRank 9 = .ok (.iload_n 3, 1) := dk_29 (dk_at dksX1_constantAtRank_0 9 rfl rfl)
theorem dX1_constantAtRank_10 : decode cX1_constantAtRank 10 = .ok (.iload_n 2, 1) := dk_28 (dk_at dksX1_constantAtRank_0 10 rfl rfl)
theorem dX1_constantAtRank_11 : decode cX1_constantAtRank 11 = .ok (.invokevirtual 169, 3) := dk_182 0 169 (dk_at dksX1_constantAtRank_0 11 rfl rfl)
theorem dX1_constantAtRank_14 : decode cX1_constantAtRank 14 = .ok (.invokestatic 173, 3) := dk_184 0 173 (dk_at dksX1_constantAtRank_0 14 rfl rfl)
theorem dX1_constantAtRank_17 : decode cX1_constantAtRank 17 = .ok (.ireturn, 1) := dk_172 (dk_at dksX1_constantAtRank_0 17 rfl rfl)
abbrev cX1_requireFound : ByteArray := prog_1_method_7_code
def yX1_requireFound : MethodName := ⟨RX1, "requireFound", "(I)I"⟩
def dkwX1_requireFound_0 : List UInt8 := [26, 2, 159, 0, 7, 4, 167, 0, 4, 3, 184, 0, 25, 26, 172]
abbrev dktX1_requireFound_0 : List UInt8 := dkwX1_requireFound_0 ++ []
theorem dksX1_requireFound_0 : cX1_requireFound.data.toList.drop 0 = dktX1_requireFound_0 := by decide +kernel
theorem dX1_requireFound_0 : decode cX1_requireFound 0 = .ok (.iload_n 0, 1) := dk_26 (dk_at dksX1_requireFound_0 0 rfl rfl)
theorem dX1_requireFound_1 : decode cX1_requireFound 1 = .ok (.iconst (-1), 1) := dk_2 (dk_at dksX1_requireFound_0 1 rfl rfl)
theorem dX1_requireFound_2 : decode cX1_requireFound 2 = .ok (.if_icmp .eq 7, 3) := dk_159 0 7 (dk_at dksX1_requireFound_0 2 rfl rfl)
theorem dX1_requireFound_5 : decode cX1_requireFound 5 = .ok (.iconst 1, 1) := dk_4 (dk_at dksX1_requireFound_0 5 rfl rfl)
theorem dX1_requireFound_6 : decode cX1_requireFound 6 = .ok (.goto 4, 3) := dk_167 0 4 (dk_at dksX1_requireFound_0 6 rfl rfl)
theorem dX1_requireFound_9 : decode cX1_requireFound 9 = .ok (.iconst 0, 1) := dk_3 (dk_at dksX1_requireFound_0 9 rfl rfl)
theorem dX1_requireFound_10 : decode cX1_requireFound 10 = .ok (.invokestatic 25, 3) := dk_184 0 25 (dk_at dksX1_requireFound_0 10 rfl rfl)
theorem dX1_requireFound_13 : decode cX1_requireFound 13 = .ok (.iload_n 0, 1) := dk_26 (dk_at dksX1_requireFound_0 13 rfl rfl)
theorem dX1_requireFound_14 : decode cX1_requireFound 14 = .ok (.ireturn, 1) := dk_172 (dk_at dksX1_requireFound_0 14 rfl rfl)
abbrev cX1_greatest : ByteArray := prog_1_method_31_code
def yX1_greatest : MethodName := ⟨RX1, "greatest", "(C)I"⟩
def dkwX1_greatest_0 : List UInt8 := [27, 184, 0, 39, 61, 42, 180, 0, 72, 28, 182, 0, 176, 184, 0, 173, 172]
abbrev dktX1_greatest_0 : List UInt8 := dkwX1_greatest_0 ++ []
theorem dksX1_greatest_0 : cX1_greatest.data.toList.drop 0 = dktX1_greatest_0 := by decide +kernel
theorem dX1_greatest_0 : decode cX1_greatest 0 = .ok (.iload_n 1, 1) := dk_27 (dk_at dksX1_greatest_0 0 rfl rfl)
theorem dX1_greatest_1 : decode cX1_greatest 1 = .ok (.invokestatic 39, 3) := dk_184 0 39 (dk_at dksX1_greatest_0 1 rfl rfl)
theorem dX1_greatest_4 : decode cX1_greatest 4 = .ok (.istore_n 2, 1) := dk_61 (dk_at dksX1_greatest_0 4 rfl rfl)
theorem dX1_greatest_5 : decode cX1_greatest 5 = .ok (.aload_n 0, 1) := dk_42 (dk_at dksX1_greatest_0 5 rfl rfl)
theorem dX1_greatest_6 : decode cX1_greatest 6 = .ok (.getfield 72, 3) := dk_180 0 72 (dk_at dksX1_greatest_0 6 rfl rfl)
theorem dX1_greatest_9 : decode cX1_greatest 9 = .ok (.iload_n 2, 1) := dk_28 (dk_at dksX1_greatest_0 9 rfl rfl)
theorem dX1_greatest_10 : decode cX1_greatest 10 = .ok (.invokevirtual 176, 3) := dk_182 0 176 (dk_at dksX1_greatest_0 10 rfl rfl)
theorem dX1_greatest_13 : decode cX1_greatest 13 = .ok (.invokestatic 173, 3) := dk_184 0 173 (dk_at dksX1_greatest_0 13 rfl rfl)
theorem dX1_greatest_16 : decode cX1_greatest 16 = .ok (.ireturn, 1) := dk_172 (dk_at dksX1_greatest_0 16 rfl rfl)
abbrev cX1_height : ByteArray := prog_1_method_33_code
def yX1_height : MethodName := ⟨RX1, "height", "(CII)I"⟩
def dkwX1_height_1 : List UInt8 := [180, 0, 191, 27, 16, 97, 100, 50, 21, 4, 46, 172]
abbrev dktX1_height_1 : List UInt8 := dkwX1_height_1 ++ []
def dkwX1_height_0 : List UInt8 := [42, 27, 28, 29, 182, 0, 182, 54, 4, 187, 0, 184, 89, 42, 180, 0, 72, 183, 0, 186, 182, 0, 187]
abbrev dktX1_height_0 : List UInt8 := dkwX1_height_0 ++ dktX1_height_1
theorem dksX1_height_0 : cX1_height.data.toList.drop 0 = dktX1_height_0 := by decide +kernel
theorem dksX1_height_1 : cX1_height.data.toList.drop 23 = dktX1_height_1 := dk_seg dksX1_height_0 23 rfl rfl
theorem dX1_height_0 : decode cX1_height 0 = .ok (.aload_n 0, 1) := dk_42 (dk_at dksX1_height_0 0 rfl rfl)
theorem dX1_height_1 : decode cX1_height 1 = .ok (.iload_n 1, 1) := dk_27 (dk_at dksX1_height_0 1 rfl rfl)
theorem dX1_height_2 : decode cX1_height 2 = .ok (.iload_n 2, 1) := dk_28 (dk_at dksX1_height_0 2 rfl rfl)
theorem dX1_height_3 : decode cX1_height 3 = .ok (.iload_n 3, 1) := dk_29 (dk_at dksX1_height_0 3 rfl rfl)
theorem dX1_height_4 : decode cX1_height 4 = .ok (.invokevirtual 182, 3) := dk_182 0 182 (dk_at dksX1_height_0 4 rfl rfl)
theorem dX1_height_7 : decode cX1_height 7 = .ok (.istore 4, 2) := dk_54 4 (dk_at dksX1_height_0 7 rfl rfl)
theorem dX1_height_9 : decode cX1_height 9 = .ok (.new 184, 3) := dk_187 0 184 (dk_at dksX1_height_0 9 rfl rfl)
theorem dX1_height_12 : decode cX1_height 12 = .ok (.dup, 1) := dk_89 (dk_at dksX1_height_0 12 rfl rfl)
theorem dX1_height_13 : decode cX1_height 13 = .ok (.aload_n 0, 1) := dk_42 (dk_at dksX1_height_0 13 rfl rfl)
theorem dX1_height_14 : decode cX1_height 14 = .ok (.getfield 72, 3) := dk_180 0 72 (dk_at dksX1_height_0 14 rfl rfl)
theorem dX1_height_17 : decode cX1_height 17 = .ok (.invokespecial 186, 3) := dk_183 0 186 (dk_at dksX1_height_0 17 rfl rfl)
theorem dX1_height_20 : decode cX1_height 20 = .ok (.invokevirtual 187, 3) := dk_182 0 187 (dk_at dksX1_height_0 20 rfl rfl)
theorem dX1_height_23 : decode cX1_height 23 = .ok (.getfield 191, 3) := dk_180 0 191 (dk_at dksX1_height_1 0 rfl rfl)
theorem dX1_height_26 : decode cX1_height 26 = .ok (.iload_n 1, 1) := dk_27 (dk_at dksX1_height_1 3 rfl rfl)
theorem dX1_height_27 : decode cX1_height 27 = .ok (.bipush 97, 2) := dk_16 97 (dk_at dksX1_height_1 4 rfl rfl)
theorem dX1_height_29 : decode cX1_height 29 = .ok (.isub, 1) := dk_100 (dk_at dksX1_height_1 6 rfl rfl)
theorem dX1_height_30 : decode cX1_height 30 = .ok (.aaload, 1) := dk_50 (dk_at dksX1_height_1 7 rfl rfl)
theorem dX1_height_31 : decode cX1_height 31 = .ok (.iload 4, 2) := dk_21 4 (dk_at dksX1_height_1 8 rfl rfl)
theorem dX1_height_33 : decode cX1_height 33 = .ok (.iaload, 1) := dk_46 (dk_at dksX1_height_1 10 rfl rfl)
theorem dX1_height_34 : decode cX1_height 34 = .ok (.ireturn, 1) := dk_172 (dk_at dksX1_height_1 11 rfl rfl)
abbrev cX1_requireTrue : ByteArray := prog_1_method_32_code
def yX1_requireTrue : MethodName := ⟨RX1, "requireTrue", "(CII)I"⟩
def dkwX1_requireTrue_0 : List UInt8 := [27, 28, 29, 184, 0, 140, 54, 4, 42, 180, 0, 72, 27, 16, 97, 100, 21, 4, 182, 0, 179, 21, 4, 172]
abbrev dktX1_requireTrue_0 : List UInt8 := dkwX1_requireTrue_0 ++ []
theorem dksX1_requireTrue_0 : cX1_requireTrue.data.toList.drop 0 = dktX1_requireTrue_0 := by decide +kernel
theorem dX1_requireTrue_0 : decode cX1_requireTrue 0 = .ok (.iload_n 1, 1) := dk_27 (dk_at dksX1_requireTrue_0 0 rfl rfl)
theorem dX1_requireTrue_1 : decode cX1_requireTrue 1 = .ok (.iload_n 2, 1) := dk_28 (dk_at dksX1_requireTrue_0 1 rfl rfl)
theorem dX1_requireTrue_2 : decode cX1_requireTrue 2 = .ok (.iload_n 3, 1) := dk_29 (dk_at dksX1_requireTrue_0 2 rfl rfl)
theorem dX1_requireTrue_3 : decode cX1_requireTrue 3 = .ok (.invokestatic 140, 3) := dk_184 0 140 (dk_at dksX1_requireTrue_0 3 rfl rfl)
theorem dX1_requireTrue_6 : decode cX1_requireTrue 6 = .ok (.istore 4, 2) := dk_54 4 (dk_at dksX1_requireTrue_0 6 rfl rfl)
theorem dX1_requireTrue_8 : decode cX1_requireTrue 8 = .ok (.aload_n 0, 1) := dk_42 (dk_at dksX1_requireTrue_0 8 rfl rfl)
theorem dX1_requireTrue_9 : decode cX1_requireTrue 9 = .ok (.getfield 72, 3) := dk_180 0 72 (dk_at dksX1_requireTrue_0 9 rfl rfl)
theorem dX1_requireTrue_12 : decode cX1_requireTrue 12 = .ok (.iload_n 1, 1) := dk_27 (dk_at dksX1_requireTrue_0 12 rfl rfl)
theorem dX1_requireTrue_13 : decode cX1_requireTrue 13 = .ok (.bipush 97, 2) := dk_16 97 (dk_at dksX1_requireTrue_0 13 rfl rfl)
theorem dX1_requireTrue_15 : decode cX1_requireTrue 15 = .ok (.isub, 1) := dk_100 (dk_at dksX1_requireTrue_0 15 rfl rfl)
theorem dX1_requireTrue_16 : decode cX1_requireTrue 16 = .ok (.iload 4, 2) := dk_21 4 (dk_at dksX1_requireTrue_0 16 rfl rfl)
theorem dX1_requireTrue_18 : decode cX1_requireTrue 18 = .ok (.invokevirtual 179, 3) := dk_182 0 179 (dk_at dksX1_requireTrue_0 18 rfl rfl)
theorem dX1_requireTrue_21 : decode cX1_requireTrue 21 = .ok (.iload 4, 2) := dk_21 4 (dk_at dksX1_requireTrue_0 21 rfl rfl)
theorem dX1_requireTrue_23 : decode cX1_requireTrue 23 = .ok (.ireturn, 1) := dk_172 (dk_at dksX1_requireTrue_0 23 rfl rfl)
abbrev cX1_heightByLevels : ByteArray := prog_1_method_34_code
def yX1_heightByLevels : MethodName := ⟨RX1, "heightByLevels", "(CII)I"⟩
def dkwX1_heightByLevels_1 : List UInt8 := [180, 0, 191, 27, 16, 97, 100, 50, 21, 4, 46, 172]
abbrev dktX1_heightByLevels_1 : List UInt8 := dkwX1_heightByLevels_1 ++ []
def dkwX1_heightByLevels_0 : List UInt8 := [42, 27, 28, 29, 182, 0, 182, 54, 4, 187, 0, 184, 89, 42, 180, 0, 72, 183, 0, 186, 182, 0, 195]
abbrev dktX1_heightByLevels_0 : List UInt8 := dkwX1_heightByLevels_0 ++ dktX1_heightByLevels_1
theorem dksX1_heightByLevels_0 : cX1_heightByLevels.data.toList.drop 0 = dktX1_heightByLevels_0 := by decide +kernel
theorem dksX1_heightByLevels_1 : cX1_heightByLevels.data.toList.drop 23 = dktX1_heightByLevels_1 := dk_seg dksX1_heightByLevels_0 23 rfl rfl
theorem dX1_heightByLevels_0 : decode cX1_heightByLevels 0 = .ok (.aload_n 0, 1) := dk_42 (dk_at dksX1_heightByLevels_0 0 rfl rfl)
theorem dX1_heightByLevels_1 : decode cX1_heightByLevels 1 = .ok (.iload_n 1, 1) := dk_27 (dk_at dksX1_heightByLevels_0 1 rfl rfl)
theorem dX1_heightByLevels_2 : decode cX1_heightByLevels 2 = .ok (.iload_n 2, 1) := dk_28 (dk_at dksX1_heightByLevels_0 2 rfl rfl)
theorem dX1_heightByLevels_3 : decode cX1_heightByLevels 3 = .ok (.iload_n 3, 1) := dk_29 (dk_at dksX1_heightByLevels_0 3 rfl rfl)
theorem dX1_heightByLevels_4 : decode cX1_heightByLevels 4 = .ok (.invokevirtual 182, 3) := dk_182 0 182 (dk_at dksX1_heightByLevels_0 4 rfl rfl)
theorem dX1_heightByLevels_7 : decode cX1_heightByLevels 7 = .ok (.istore 4, 2) := dk_54 4 (dk_at dksX1_heightByLevels_0 7 rfl rfl)
theorem dX1_heightByLevels_9 : decode cX1_heightByLevels 9 = .ok (.new 184, 3) := dk_187 0 184 (dk_at dksX1_heightByLevels_0 9 rfl rfl)
theorem dX1_heightByLevels_12 : decode cX1_heightByLevels 12 = .ok (.dup, 1) := dk_89 (dk_at dksX1_heightByLevels_0 12 rfl rfl)
theorem dX1_heightByLevels_13 : decode cX1_heightByLevels 13 = .ok (.aload_n 0, 1) := dk_42 (dk_at dksX1_heightByLevels_0 13 rfl rfl)
theorem dX1_heightByLevels_14 : decode cX1_heightByLevels 14 = .ok (.getfield 72, 3) := dk_180 0 72 (dk_at dksX1_heightByLevels_0 14 rfl rfl)
theorem dX1_heightByLevels_17 : decode cX1_heightByLevels 17 = .ok (.invokespecial 186, 3) := dk_183 0 186 (dk_at dksX1_heightByLevels_0 17 rfl rfl)
theorem dX1_heightByLevels_20 : decode cX1_heightByLevels 20 = .ok (.invokevirtual 195, 3) := dk_182 0 195 (dk_at dksX1_heightByLevels_0 20 rfl rfl)
theorem dX1_heightByLevels_23 : decode cX1_heightByLevels 23 = .ok (.getfield 191, 3) := dk_180 0 191 (dk_at dksX1_heightByLevels_1 0 rfl rfl)
theorem dX1_heightByLevels_26 : decode cX1_heightByLevels 26 = .ok (.iload_n 1, 1) := dk_27 (dk_at dksX1_heightByLevels_1 3 rfl rfl)
theorem dX1_heightByLevels_27 : decode cX1_heightByLevels 27 = .ok (.bipush 97, 2) := dk_16 97 (dk_at dksX1_heightByLevels_1 4 rfl rfl)
theorem dX1_heightByLevels_29 : decode cX1_heightByLevels 29 = .ok (.isub, 1) := dk_100 (dk_at dksX1_heightByLevels_1 6 rfl rfl)
theorem dX1_heightByLevels_30 : decode cX1_heightByLevels 30 = .ok (.aaload, 1) := dk_50 (dk_at dksX1_heightByLevels_1 7 rfl rfl)
theorem dX1_heightByLevels_31 : decode cX1_heightByLevels 31 = .ok (.iload 4, 2) := dk_21 4 (dk_at dksX1_heightByLevels_1 8 rfl rfl)
theorem dX1_heightByLevels_33 : decode cX1_heightByLevels 33 = .ok (.iaload, 1) := dk_46 (dk_at dksX1_heightByLevels_1 10 rfl rfl)
theorem dX1_heightByLevels_34 : decode cX1_heightByLevels 34 = .ok (.ireturn, 1) := dk_172 (dk_at dksX1_heightByLevels_1 11 rfl rfl)
abbrev cX1_ruleOf : ByteArray := prog_1_method_35_code
def yX1_ruleOf : MethodName := ⟨RX1, "ruleOf", "(CII)I"⟩
def dkwX1_ruleOf_2 : List UInt8 := [180, 0, 205, 172]
abbrev dktX1_ruleOf_2 : List UInt8 := dkwX1_ruleOf_2 ++ []
def dkwX1_ruleOf_1 : List UInt8 := [187, 0, 184, 89, 42, 180, 0, 72, 183, 0, 186, 182, 0, 187, 27, 16, 97, 100, 21, 4, 182, 0, 201]
abbrev dktX1_ruleOf_1 : List UInt8 := dkwX1_ruleOf_1 ++ dktX1_ruleOf_2
def dkwX1_ruleOf_0 : List UInt8 := [27, 28, 29, 184, 0, 140, 54, 4, 42, 180, 0, 72, 27, 16, 97, 100, 21, 4, 182, 0, 198, 184, 0, 25]
abbrev dktX1_ruleOf_0 : List UInt8 := dkwX1_ruleOf_0 ++ dktX1_ruleOf_1
theorem dksX1_ruleOf_0 : cX1_ruleOf.data.toList.drop 0 = dktX1_ruleOf_0 := by decide +kernel
theorem dksX1_ruleOf_1 : cX1_ruleOf.data.toList.drop 24 = dktX1_ruleOf_1 := dk_seg dksX1_ruleOf_0 24 rfl rfl
theorem dksX1_ruleOf_2 : cX1_ruleOf.data.toList.drop 47 = dktX1_ruleOf_2 := dk_seg dksX1_ruleOf_1 23 rfl rfl
theorem dX1_ruleOf_0 : decode cX1_ruleOf 0 = .ok (.iload_n 1, 1) := dk_27 (dk_at dksX1_ruleOf_0 0 rfl rfl)
theorem dX1_ruleOf_1 : decode cX1_ruleOf 1 = .ok (.iload_n 2, 1) := dk_28 (dk_at dksX1_ruleOf_0 1 rfl rfl)
theorem dX1_ruleOf_2 : decode cX1_ruleOf 2 = .ok (.iload_n 3, 1) := dk_29 (dk_at dksX1_ruleOf_0 2 rfl rfl)
theorem dX1_ruleOf_3 : decode cX1_ruleOf 3 = .ok (.invokestatic 140, 3) := dk_184 0 140 (dk_at dksX1_ruleOf_0 3 rfl rfl)
theorem dX1_ruleOf_6 : decode cX1_ruleOf 6 = .ok (.istore 4, 2) := dk_54 4 (dk_at dksX1_ruleOf_0 6 rfl rfl)
theorem dX1_ruleOf_8 : decode cX1_ruleOf 8 = .ok (.aload_n 0, 1) := dk_42 (dk_at dksX1_ruleOf_0 8 rfl rfl)
theorem dX1_ruleOf_9 : decode cX1_ruleOf 9 = .ok (.getfield 72, 3) := dk_180 0 72 (dk_at dksX1_ruleOf_0 9 rfl rfl)
theorem dX1_ruleOf_12 : decode cX1_ruleOf 12 = .ok (.iload_n 1, 1) := dk_27 (dk_at dksX1_ruleOf_0 12 rfl rfl)
theorem dX1_ruleOf_13 : decode cX1_ruleOf 13 = .ok (.bipush 97, 2) := dk_16 97 (dk_at dksX1_ruleOf_0 13 rfl rfl)
theorem dX1_ruleOf_15 : decode cX1_ruleOf 15 = .ok (.isub, 1) := dk_100 (dk_at dksX1_ruleOf_0 15 rfl rfl)
theorem dX1_ruleOf_16 : decode cX1_ruleOf 16 = .ok (.iload 4, 2) := dk_21 4 (dk_at dksX1_ruleOf_0 16 rfl rfl)
theorem dX1_ruleOf_18 : decode cX1_ruleOf 18 = .ok (.invokevirtual 198, 3) := dk_182 0 198 (dk_at dksX1_ruleOf_0 18 rfl rfl)
theorem dX1_ruleOf_21 : decode cX1_ruleOf 21 = .ok (.invokestatic 25, 3) := dk_184 0 25 (dk_at dksX1_ruleOf_0 21 rfl rfl)
theorem dX1_ruleOf_24 : decode cX1_ruleOf 24 = .ok (.new 184, 3) := dk_187 0 184 (dk_at dksX1_ruleOf_1 0 rfl rfl)
theorem dX1_ruleOf_27 : decode cX1_ruleOf 27 = .ok (.dup, 1) := dk_89 (dk_at dksX1_ruleOf_1 3 rfl rfl)
theorem dX1_ruleOf_28 : decode cX1_ruleOf 28 = .ok (.aload_n 0, 1) := dk_42 (dk_at dksX1_ruleOf_1 4 rfl rfl)
theorem dX1_ruleOf_29 : decode cX1_ruleOf 29 = .ok (.getfield 72, 3) := dk_180 0 72 (dk_at dksX1_ruleOf_1 5 rfl rfl)
theorem dX1_ruleOf_32 : decode cX1_ruleOf 32 = .ok (.invokespecial 186, 3) := dk_183 0 186 (dk_at dksX1_ruleOf_1 8 rfl rfl)
theorem dX1_ruleOf_35 : decode cX1_ruleOf 35 = .ok (.invokevirtual 187, 3) := dk_182 0 187 (dk_at dksX1_ruleOf_1 11 rfl rfl)
theorem dX1_ruleOf_38 : decode cX1_ruleOf 38 = .ok (.iload_n 1, 1) := dk_27 (dk_at dksX1_ruleOf_1 14 rfl rfl)
theorem dX1_ruleOf_39 : decode cX1_ruleOf 39 = .ok (.bipush 97, 2) := dk_16 97 (dk_at dksX1_ruleOf_1 15 rfl rfl)
theorem dX1_ruleOf_41 : decode cX1_ruleOf 41 = .ok (.isub, 1) := dk_100 (dk_at dksX1_ruleOf_1 17 rfl rfl)
theorem dX1_ruleOf_42 : decode cX1_ruleOf 42 = .ok (.iload 4, 2) := dk_21 4 (dk_at dksX1_ruleOf_1 18 rfl rfl)
theorem dX1_ruleOf_44 : decode cX1_ruleOf 44 = .ok (.invokevirtual 201, 3) := dk_182 0 201 (dk_at dksX1_ruleOf_1 20 rfl rfl)
theorem dX1_ruleOf_47 : decode cX1_ruleOf 47 = .ok (.getfield 205, 3) := dk_180 0 205 (dk_at dksX1_ruleOf_2 0 rfl rfl)
theorem dX1_ruleOf_50 : decode cX1_ruleOf 50 = .ok (.ireturn, 1) := dk_172 (dk_at dksX1_ruleOf_2 3 rfl rfl)
abbrev cX1_proofSize : ByteArray := prog_1_method_36_code
def yX1_proofSize : MethodName := ⟨RX1, "proofSize", "(CII)J"⟩
def dkwX1_proofSize_1 : List UInt8 := [16, 97, 100, 21, 4, 16, 8, 16, 100, 197, 0, 210, 2, 182, 0, 212, 173]
abbrev dktX1_proofSize_1 : List UInt8 := dkwX1_proofSize_1 ++ []
def dkwX1_proofSize_0 : List UInt8 := [42, 27, 28, 29, 182, 0, 182, 54, 4, 187, 0, 184, 89, 42, 180, 0, 72, 183, 0, 186, 182, 0, 187, 27]
abbrev dktX1_proofSize_0 : List UInt8 := dkwX1_proofSize_0 ++ dktX1_proofSize_1
theorem dksX1_proofSize_0 : cX1_proofSize.data.toList.drop 0 = dktX1_proofSize_0 := by decide +kernel
theorem dksX1_proofSize_1 : cX1_proofSize.data.toList.drop 24 = dktX1_proofSize_1 := dk_seg dksX1_proofSize_0 24 rfl rfl
theorem dX1_proofSize_0 : decode cX1_proofSize 0 = .ok (.aload_n 0, 1) := dk_42 (dk_at dksX1_proofSize_0 0 rfl rfl)
theorem dX1_proofSize_1 : decode cX1_proofSize 1 = .ok (.iload_n 1, 1) := dk_27 (dk_at dksX1_proofSize_0 1 rfl rfl)
theorem dX1_proofSize_2 : decode cX1_proofSize 2 = .ok (.iload_n 2, 1) := dk_28 (dk_at dksX1_proofSize_0 2 rfl rfl)
theorem dX1_proofSize_3 : decode cX1_proofSize 3 = .ok (.iload_n 3, 1) := dk_29 (dk_at dksX1_proofSize_0 3 rfl rfl)
theorem dX1_proofSize_4 : decode cX1_proofSize 4 = .ok (.invokevirtual 182, 3) := dk_182 0 182 (dk_at dksX1_proofSize_0 4 rfl rfl)
theorem dX1_proofSize_7 : decode cX1_proofSize 7 = .ok (.istore 4, 2) := dk_54 4 (dk_at dksX1_proofSize_0 7 rfl rfl)
theorem dX1_proofSize_9 : decode cX1_proofSize 9 = .ok (.new 184, 3) := dk_187 0 184 (dk_at dksX1_proofSize_0 9 rfl rfl)
theorem dX1_proofSize_12 : decode cX1_proofSize 12 = .ok (.dup, 1) := dk_89 (dk_at dksX1_proofSize_0 12 rfl rfl)
theorem dX1_proofSize_13 : decode cX1_proofSize 13 = .ok (.aload_n 0, 1) := dk_42 (dk_at dksX1_proofSize_0 13 rfl rfl)
theorem dX1_proofSize_14 : decode cX1_proofSize 14 = .ok (.getfield 72, 3) := dk_180 0 72 (dk_at dksX1_proofSize_0 14 rfl rfl)
theorem dX1_proofSize_17 : decode cX1_proofSize 17 = .ok (.invokespecial 186, 3) := dk_183 0 186 (dk_at dksX1_proofSize_0 17 rfl rfl)
theorem dX1_proofSize_20 : decode cX1_proofSize 20 = .ok (.invokevirtual 187, 3) := dk_182 0 187 (dk_at dksX1_proofSize_0 20 rfl rfl)
theorem dX1_proofSize_23 : decode cX1_proofSize 23 = .ok (.iload_n 1, 1) := dk_27 (dk_at dksX1_proofSize_0 23 rfl rfl)
theorem dX1_proofSize_24 : decode cX1_proofSize 24 = .ok (.bipush 97, 2) := dk_16 97 (dk_at dksX1_proofSize_1 0 rfl rfl)
theorem dX1_proofSize_26 : decode cX1_proofSize 26 = .ok (.isub, 1) := dk_100 (dk_at dksX1_proofSize_1 2 rfl rfl)
theorem dX1_proofSize_27 : decode cX1_proofSize 27 = .ok (.iload 4, 2) := dk_21 4 (dk_at dksX1_proofSize_1 3 rfl rfl)
theorem dX1_proofSize_29 : decode cX1_proofSize 29 = .ok (.bipush 8, 2) := dk_16 8 (dk_at dksX1_proofSize_1 5 rfl rfl)
theorem dX1_proofSize_31 : decode cX1_proofSize 31 = .ok (.bipush 100, 2) := dk_16 100 (dk_at dksX1_proofSize_1 7 rfl rfl)
theorem dX1_proofSize_33 : decode cX1_proofSize 33 = .ok (.multianewarray 210 2, 4) := by decide +kernel
theorem dX1_proofSize_37 : decode cX1_proofSize 37 = .ok (.invokevirtual 212, 3) := dk_182 0 212 (dk_at dksX1_proofSize_1 13 rfl rfl)
theorem dX1_proofSize_40 : decode cX1_proofSize 40 = .ok (.lreturn, 1) := dk_173 (dk_at dksX1_proofSize_1 16 rfl rfl)
abbrev cX1_answers : ByteArray := prog_1_method_37_code
def yX1_answers : MethodName := ⟨RX1, "answers", "(CII)I"⟩
def dkwX1_answers_1 : List UInt8 := [182, 0, 223, 172]
abbrev dktX1_answers_1 : List UInt8 := dkwX1_answers_1 ++ []
def dkwX1_answers_0 : List UInt8 := [27, 28, 29, 184, 0, 215, 54, 4, 42, 180, 0, 72, 187, 0, 218, 89, 21, 4, 28, 29, 183, 0, 220]
abbrev dktX1_answers_0 : List UInt8 := dkwX1_answers_0 ++ dktX1_answers_1
theorem dksX1_answers_0 : cX1_answers.data.toList.drop 0 = dktX1_answers_0 := by decide +kernel
theorem dksX1_answers_1 : cX1_answers.data.toList.drop 23 = dktX1_answers_1 := dk_seg dksX1_answers_0 23 rfl rfl
theorem dX1_answers_0 : decode cX1_answers 0 = .ok (.iload_n 1, 1) := dk_27 (dk_at dksX1_answers_0 0 rfl rfl)
theorem dX1_answers_1 : decode cX1_answers 1 = .ok (.iload_n 2, 1) := dk_28 (dk_at dksX1_answers_0 1 rfl rfl)
theorem dX1_answers_2 : decode cX1_answers 2 = .ok (.iload_n 3, 1) := dk_29 (dk_at dksX1_answers_0 2 rfl rfl)
theorem dX1_answers_3 : decode cX1_answers 3 = .ok (.invokestatic 215, 3) := dk_184 0 215 (dk_at dksX1_answers_0 3 rfl rfl)
theorem dX1_answers_6 : decode cX1_answers 6 = .ok (.istore 4, 2) := dk_54 4 (dk_at dksX1_answers_0 6 rfl rfl)
theorem dX1_answers_8 : decode cX1_answers 8 = .ok (.aload_n 0, 1) := dk_42 (dk_at dksX1_answers_0 8 rfl rfl)
theorem dX1_answers_9 : decode cX1_answers 9 = .ok (.getfield 72, 3) := dk_180 0 72 (dk_at dksX1_answers_0 9 rfl rfl)
theorem dX1_answers_12 : decode cX1_answers 12 = .ok (.new 218, 3) := dk_187 0 218 (dk_at dksX1_answers_0 12 rfl rfl)
theorem dX1_answers_15 : decode cX1_answers 15 = .ok (.dup, 1) := dk_89 (dk_at dksX1_answers_0 15 rfl rfl)
theorem dX1_answers_16 : decode cX1_answers 16 = .ok (.iload 4, 2) := dk_21 4 (dk_at dksX1_answers_0 16 rfl rfl)
theorem dX1_answers_18 : decode cX1_answers 18 = .ok (.iload_n 2, 1) := dk_28 (dk_at dksX1_answers_0 18 rfl rfl)
theorem dX1_answers_19 : decode cX1_answers 19 = .ok (.iload_n 3, 1) := dk_29 (dk_at dksX1_answers_0 19 rfl rfl)
theorem dX1_answers_20 : decode cX1_answers 20 = .ok (.invokespecial 220, 3) := dk_183 0 220 (dk_at dksX1_answers_0 20 rfl rfl)
theorem dX1_answers_23 : decode cX1_answers 23 = .ok (.invokevirtual 223, 3) := dk_182 0 223 (dk_at dksX1_answers_1 0 rfl rfl)
theorem dX1_answers_26 : decode cX1_answers 26 = .ok (.ireturn, 1) := dk_172 (dk_at dksX1_answers_1 3 rfl rfl)
abbrev cX1_requireGoal : ByteArray := prog_1_method_13_code
def yX1_requireGoal : MethodName := ⟨RX1, "requireGoal", "(CII)I"⟩
def dkwX1_requireGoal_1 : List UInt8 := [16, 9, 167, 0, 4, 2, 184, 0, 3, 153, 0, 7, 4, 167, 0, 4, 3, 184, 0, 32, 29, 172]
abbrev dktX1_requireGoal_1 : List UInt8 := dkwX1_requireGoal_1 ++ []
def dkwX1_requireGoal_0 : List UInt8 := [26, 184, 0, 39, 62, 27, 2, 16, 9, 184, 0, 3, 153, 0, 28, 28, 2, 29, 184, 0, 35, 153, 0, 8]
abbrev dktX1_requireGoal_0 : List UInt8 := dkwX1_requireGoal_0 ++ dktX1_requireGoal_1
theorem dksX1_requireGoal_0 : cX1_requireGoal.data.toList.drop 0 = dktX1_requireGoal_0 := by decide +kernel
theorem dksX1_requireGoal_1 : cX1_requireGoal.data.toList.drop 24 = dktX1_requireGoal_1 := dk_seg dksX1_requireGoal_0 24 rfl rfl
theorem dX1_requireGoal_0 : decode cX1_requireGoal 0 = .ok (.iload_n 0, 1) := dk_26 (dk_at dksX1_requireGoal_0 0 rfl rfl)
theorem dX1_requireGoal_1 : decode cX1_requireGoal 1 = .ok (.invokestatic 39, 3) := dk_184 0 39 (dk_at dksX1_requireGoal_0 1 rfl rfl)
theorem dX1_requireGoal_4 : decode cX1_requireGoal 4 = .ok (.istore_n 3, 1) := dk_62 (dk_at dksX1_requireGoal_0 4 rfl rfl)
theorem dX1_requireGoal_5 : decode cX1_requireGoal 5 = .ok (.iload_n 1, 1) := dk_27 (dk_at dksX1_requireGoal_0 5 rfl rfl)
theorem dX1_requireGoal_6 : decode cX1_requireGoal 6 = .ok (.iconst (-1), 1) := dk_2 (dk_at dksX1_requireGoal_0 6 rfl rfl)
theorem dX1_requireGoal_7 : decode cX1_requireGoal 7 = .ok (.bipush 9, 2) := dk_16 9 (dk_at dksX1_requireGoal_0 7 rfl rfl)
theorem dX1_requireGoal_9 : decode cX1_requireGoal 9 = .ok (.invokestatic 3, 3) := dk_184 0 3 (dk_at dksX1_requireGoal_0 9 rfl rfl)
theorem dX1_requireGoal_12 : decode cX1_requireGoal 12 = .ok (.ifCond .eq 28, 3) := dk_153 0 28 (dk_at dksX1_requireGoal_0 12 rfl rfl)
theorem dX1_requireGoal_15 : decode cX1_requireGoal 15 = .ok (.iload_n 2, 1) := dk_28 (dk_at dksX1_requireGoal_0 15 rfl rfl)
theorem dX1_requireGoal_16 : decode cX1_requireGoal 16 = .ok (.iconst (-1), 1) := dk_2 (dk_at dksX1_requireGoal_0 16 rfl rfl)
theorem dX1_requireGoal_17 : decode cX1_requireGoal 17 = .ok (.iload_n 3, 1) := dk_29 (dk_at dksX1_requireGoal_0 17 rfl rfl)
theorem dX1_requireGoal_18 : decode cX1_requireGoal 18 = .ok (.invokestatic 35, 3) := dk_184 0 35 (dk_at dksX1_requireGoal_0 18 rfl rfl)
theorem dX1_requireGoal_21 : decode cX1_requireGoal 21 = .ok (.ifCond .eq 8, 3) := dk_153 0 8 (dk_at dksX1_requireGoal_0 21 rfl rfl)
theorem dX1_requireGoal_24 : decode cX1_requireGoal 24 = .ok (.bipush 9, 2) := dk_16 9 (dk_at dksX1_requireGoal_1 0 rfl rfl)
theorem dX1_requireGoal_26 : decode cX1_requireGoal 26 = .ok (.goto 4, 3) := dk_167 0 4 (dk_at dksX1_requireGoal_1 2 rfl rfl)
theorem dX1_requireGoal_29 : decode cX1_requireGoal 29 = .ok (.iconst (-1), 1) := dk_2 (dk_at dksX1_requireGoal_1 5 rfl rfl)
theorem dX1_requireGoal_30 : decode cX1_requireGoal 30 = .ok (.invokestatic 3, 3) := dk_184 0 3 (dk_at dksX1_requireGoal_1 6 rfl rfl)
theorem dX1_requireGoal_33 : decode cX1_requireGoal 33 = .ok (.ifCond .eq 7, 3) := dk_153 0 7 (dk_at dksX1_requireGoal_1 9 rfl rfl)
theorem dX1_requireGoal_36 : decode cX1_requireGoal 36 = .ok (.iconst 1, 1) := dk_4 (dk_at dksX1_requireGoal_1 12 rfl rfl)
theorem dX1_requireGoal_37 : decode cX1_requireGoal 37 = .ok (.goto 4, 3) := dk_167 0 4 (dk_at dksX1_requireGoal_1 13 rfl rfl)
theorem dX1_requireGoal_40 : decode cX1_requireGoal 40 = .ok (.iconst 0, 1) := dk_3 (dk_at dksX1_requireGoal_1 16 rfl rfl)
theorem dX1_requireGoal_41 : decode cX1_requireGoal 41 = .ok (.invokestatic 32, 3) := dk_184 0 32 (dk_at dksX1_requireGoal_1 17 rfl rfl)
theorem dX1_requireGoal_44 : decode cX1_requireGoal 44 = .ok (.iload_n 3, 1) := dk_29 (dk_at dksX1_requireGoal_1 20 rfl rfl)
theorem dX1_requireGoal_45 : decode cX1_requireGoal 45 = .ok (.ireturn, 1) := dk_172 (dk_at dksX1_requireGoal_1 21 rfl rfl)
abbrev cX1_answersByGoals : ByteArray := prog_1_method_38_code
def yX1_answersByGoals : MethodName := ⟨RX1, "answersByGoals", "(CII)I"⟩
def dkwX1_answersByGoals_1 : List UInt8 := [182, 0, 230, 182, 0, 158, 172]
abbrev dktX1_answersByGoals_1 : List UInt8 := dkwX1_answersByGoals_1 ++ []
def dkwX1_answersByGoals_0 : List UInt8 := [27, 28, 29, 184, 0, 215, 54, 4, 187, 0, 227, 89, 42, 180, 0, 72, 183, 0, 229, 21, 4, 28, 29]
abbrev dktX1_answersByGoals_0 : List UInt8 := dkwX1_answersByGoals_0 ++ dktX1_answersByGoals_1
theorem dksX1_answersByGoals_0 : cX1_answersByGoals.data.toList.drop 0 = dktX1_answersByGoals_0 := by decide +kernel
theorem dksX1_answersByGoals_1 : cX1_answersByGoals.data.toList.drop 23 = dktX1_answersByGoals_1 := dk_seg dksX1_answersByGoals_0 23 rfl rfl
theorem dX1_answersByGoals_0 : decode cX1_answersByGoals 0 = .ok (.iload_n 1, 1) := dk_27 (dk_at dksX1_answersByGoals_0 0 rfl rfl)
theorem dX1_answersByGoals_1 : decode cX1_answersByGoals 1 = .ok (.iload_n 2, 1) := dk_28 (dk_at dksX1_answersByGoals_0 1 rfl rfl)
theorem dX1_answersByGoals_2 : decode cX1_answersByGoals 2 = .ok (.iload_n 3, 1) := dk_29 (dk_at dksX1_answersByGoals_0 2 rfl rfl)
theorem dX1_answersByGoals_3 : decode cX1_answersByGoals 3 = .ok (.invokestatic 215, 3) := dk_184 0 215 (dk_at dksX1_answersByGoals_0 3 rfl rfl)
theorem dX1_answersByGoals_6 : decode cX1_answersByGoals 6 = .ok (.istore 4, 2) := dk_54 4 (dk_at dksX1_answersByGoals_0 6 rfl rfl)
theorem dX1_answersByGoals_8 : decode cX1_answersByGoals 8 = .ok (.new 227, 3) := dk_187 0 227 (dk_at dksX1_answersByGoals_0 8 rfl rfl)
theorem dX1_answersByGoals_11 : decode cX1_answersByGoals 11 = .ok (.dup, 1) := dk_89 (dk_at dksX1_answersByGoals_0 11 rfl rfl)
theorem dX1_answersByGoals_12 : decode cX1_answersByGoals 12 = .ok (.aload_n 0, 1) := dk_42 (dk_at dksX1_answersByGoals_0 12 rfl rfl)
theorem dX1_answersByGoals_13 : decode cX1_answersByGoals 13 = .ok (.getfield 72, 3) := dk_180 0 72 (dk_at dksX1_answersByGoals_0 13 rfl rfl)
theorem dX1_answersByGoals_16 : decode cX1_answersByGoals 16 = .ok (.invokespecial 229, 3) := dk_183 0 229 (dk_at dksX1_answersByGoals_0 16 rfl rfl)
theorem dX1_answersByGoals_19 : decode cX1_answersByGoals 19 = .ok (.iload 4, 2) := dk_21 4 (dk_at dksX1_answersByGoals_0 19 rfl rfl)
theorem dX1_answersByGoals_21 : decode cX1_answersByGoals 21 = .ok (.iload_n 2, 1) := dk_28 (dk_at dksX1_answersByGoals_0 21 rfl rfl)
theorem dX1_answersByGoals_22 : decode cX1_answersByGoals 22 = .ok (.iload_n 3, 1) := dk_29 (dk_at dksX1_answersByGoals_0 22 rfl rfl)
theorem dX1_answersByGoals_23 : decode cX1_answersByGoals 23 = .ok (.invokevirtual 230, 3) := dk_182 0 230 (dk_at dksX1_answersByGoals_1 0 rfl rfl)
theorem dX1_answersByGoals_26 : decode cX1_answersByGoals 26 = .ok (.invokevirtual 158, 3) := dk_182 0 158 (dk_at dksX1_answersByGoals_1 3 rfl rfl)
theorem dX1_answersByGoals_29 : decode cX1_answersByGoals 29 = .ok (.ireturn, 1) := dk_172 (dk_at dksX1_answersByGoals_1 6 rfl rfl)
abbrev cX1_answerAt : ByteArray := prog_1_method_39_code
def yX1_answerAt : MethodName := ⟨RX1, "answerAt", "(CIII)I"⟩
def dkwX1_answerAt_1 : List UInt8 := [21, 4, 182, 0, 234, 184, 0, 173, 172]
abbrev dktX1_answerAt_1 : List UInt8 := dkwX1_answerAt_1 ++ []
def dkwX1_answerAt_0 : List UInt8 := [27, 28, 29, 184, 0, 215, 54, 5, 42, 180, 0, 72, 187, 0, 218, 89, 21, 5, 28, 29, 183, 0, 220]
abbrev dktX1_answerAt_0 : List UInt8 := dkwX1_answerAt_0 ++ dktX1_answerAt_1
theorem dksX1_answerAt_0 : cX1_answerAt.data.toList.drop 0 = dktX1_answerAt_0 := by decide +kernel
theorem dksX1_answerAt_1 : cX1_answerAt.data.toList.drop 23 = dktX1_answerAt_1 := dk_seg dksX1_answerAt_0 23 rfl rfl
theorem dX1_answerAt_0 : decode cX1_answerAt 0 = .ok (.iload_n 1, 1) := dk_27 (dk_at dksX1_answerAt_0 0 rfl rfl)
theorem dX1_answerAt_1 : decode cX1_answerAt 1 = .ok (.iload_n 2, 1) := dk_28 (dk_at dksX1_answerAt_0 1 rfl rfl)
theorem dX1_answerAt_2 : decode cX1_answerAt 2 = .ok (.iload_n 3, 1) := dk_29 (dk_at dksX1_answerAt_0 2 rfl rfl)
theorem dX1_answerAt_3 : decode cX1_answerAt 3 = .ok (.invokestatic 215, 3) := dk_184 0 215 (dk_at dksX1_answerAt_0 3 rfl rfl)
theorem dX1_answerAt_6 : decode cX1_answerAt 6 = .ok (.istore 5, 2) := dk_54 5 (dk_at dksX1_answerAt_0 6 rfl rfl)
theorem dX1_answerAt_8 : decode cX1_answerAt 8 = .ok (.aload_n 0, 1) := dk_42 (dk_at dksX1_answerAt_0 8 rfl rfl)
theorem dX1_answerAt_9 : decode cX1_answerAt 9 = .ok (.getfield 72, 3) := dk_180 0 72 (dk_at dksX1_answerAt_0 9 rfl rfl)
theorem dX1_answerAt_12 : decode cX1_answerAt 12 = .ok (.new 218, 3) := dk_187 0 218 (dk_at dksX1_answerAt_0 12 rfl rfl)
theorem dX1_answerAt_15 : decode cX1_answerAt 15 = .ok (.dup, 1) := dk_89 (dk_at dksX1_answerAt_0 15 rfl rfl)
theorem dX1_answerAt_16 : decode cX1_answerAt 16 = .ok (.iload 5, 2) := dk_21 5 (dk_at dksX1_answerAt_0 16 rfl rfl)
theorem dX1_answerAt_18 : decode cX1_answerAt 18 = .ok (.iload_n 2, 1) := dk_28 (dk_at dksX1_answerAt_0 18 rfl rfl)
theorem dX1_answerAt_19 : decode cX1_answerAt 19 = .ok (.iload_n 3, 1) := dk_29 (dk_at dksX1_answerAt_0 19 rfl rfl)
theorem dX1_answerAt_20 : decode cX1_answerAt 20 = .ok (.invokespecial 220, 3) := dk_183 0 220 (dk_at dksX1_answerAt_0 20 rfl rfl)
theorem dX1_answerAt_23 : decode cX1_answerAt 23 = .ok (.iload 4, 2) := dk_21 4 (dk_at dksX1_answerAt_1 0 rfl rfl)
theorem dX1_answerAt_25 : decode cX1_answerAt 25 = .ok (.invokevirtual 234, 3) := dk_182 0 234 (dk_at dksX1_answerAt_1 2 rfl rfl)
theorem dX1_answerAt_28 : decode cX1_answerAt 28 = .ok (.invokestatic 173, 3) := dk_184 0 173 (dk_at dksX1_answerAt_1 5 rfl rfl)
theorem dX1_answerAt_31 : decode cX1_answerAt 31 = .ok (.ireturn, 1) := dk_172 (dk_at dksX1_answerAt_1 8 rfl rfl)
abbrev cX1_variables : ByteArray := prog_1_method_42_code
def yX1_variables : MethodName := ⟨RX1, "variables", "(I)I"⟩
def dkwX1_variables_0 : List UInt8 := [42, 27, 182, 0, 254, 180, 1, 2, 184, 1, 5, 172]
abbrev dktX1_variables_0 : List UInt8 := dkwX1_variables_0 ++ []
theorem dksX1_variables_0 : cX1_variables.data.toList.drop 0 = dktX1_variables_0 := by decide +kernel
theorem dX1_variables_0 : decode cX1_variables 0 = .ok (.aload_n 0, 1) := dk_42 (dk_at dksX1_variables_0 0 rfl rfl)
theorem dX1_variables_1 : decode cX1_variables 1 = .ok (.iload_n 1, 1) := dk_27 (dk_at dksX1_variables_0 1 rfl rfl)
theorem dX1_variables_2 : decode cX1_variables 2 = .ok (.invokevirtual 254, 3) := dk_182 0 254 (dk_at dksX1_variables_0 2 rfl rfl)
theorem dX1_variables_5 : decode cX1_variables 5 = .ok (.getfield 258, 3) := dk_180 1 2 (dk_at dksX1_variables_0 5 rfl rfl)
theorem dX1_variables_8 : decode cX1_variables 8 = .ok (.invokestatic 261, 3) := dk_184 1 5 (dk_at dksX1_variables_0 8 rfl rfl)
theorem dX1_variables_11 : decode cX1_variables 11 = .ok (.ireturn, 1) := dk_172 (dk_at dksX1_variables_0 11 rfl rfl)
abbrev cX1_requireRule : ByteArray := prog_1_method_41_code
def yX1_requireRule : MethodName := ⟨RX1, "requireRule", "(I)LBrambleLogic$Rule;"⟩
def dkwX1_requireRule_1 : List UInt8 := [185, 0, 248, 2, 0, 192, 0, 252, 176]
abbrev dktX1_requireRule_1 : List UInt8 := dkwX1_requireRule_1 ++ []
def dkwX1_requireRule_0 : List UInt8 := [27, 42, 180, 0, 72, 180, 0, 238, 185, 0, 242, 1, 0, 184, 0, 245, 42, 180, 0, 72, 180, 0, 238, 27]
abbrev dktX1_requireRule_0 : List UInt8 := dkwX1_requireRule_0 ++ dktX1_requireRule_1
theorem dksX1_requireRule_0 : cX1_requireRule.data.toList.drop 0 = dktX1_requireRule_0 := by decide +kernel
theorem dksX1_requireRule_1 : cX1_requireRule.data.toList.drop 24 = dktX1_requireRule_1 := dk_seg dksX1_requireRule_0 24 rfl rfl
theorem dX1_requireRule_0 : decode cX1_requireRule 0 = .ok (.iload_n 1, 1) := dk_27 (dk_at dksX1_requireRule_0 0 rfl rfl)
theorem dX1_requireRule_1 : decode cX1_requireRule 1 = .ok (.aload_n 0, 1) := dk_42 (dk_at dksX1_requireRule_0 1 rfl rfl)
theorem dX1_requireRule_2 : decode cX1_requireRule 2 = .ok (.getfield 72, 3) := dk_180 0 72 (dk_at dksX1_requireRule_0 2 rfl rfl)
theorem dX1_requireRule_5 : decode cX1_requireRule 5 = .ok (.getfield 238, 3) := dk_180 0 238 (dk_at dksX1_requireRule_0 5 rfl rfl)
theorem dX1_requireRule_8 : decode cX1_requireRule 8 = .ok (.invokeinterface 242 1, 5) := by decide +kernel
theorem dX1_requireRule_13 : decode cX1_requireRule 13 = .ok (.invokestatic 245, 3) := dk_184 0 245 (dk_at dksX1_requireRule_0 13 rfl rfl)
theorem dX1_requireRule_16 : decode cX1_requireRule 16 = .ok (.aload_n 0, 1) := dk_42 (dk_at dksX1_requireRule_0 16 rfl rfl)
theorem dX1_requireRule_17 : decode cX1_requireRule 17 = .ok (.getfield 72, 3) := dk_180 0 72 (dk_at dksX1_requireRule_0 17 rfl rfl)
theorem dX1_requireRule_20 : decode cX1_requireRule 20 = .ok (.getfield 238, 3) := dk_180 0 238 (dk_at dksX1_requireRule_0 20 rfl rfl)
theorem dX1_requireRule_23 : decode cX1_requireRule 23 = .ok (.iload_n 1, 1) := dk_27 (dk_at dksX1_requireRule_0 23 rfl rfl)
theorem dX1_requireRule_24 : decode cX1_requireRule 24 = .ok (.invokeinterface 248 2, 5) := by decide +kernel
theorem dX1_requireRule_29 : decode cX1_requireRule 29 = .ok (.checkcast 252, 3) := dk_192 0 252 (dk_at dksX1_requireRule_1 5 rfl rfl)
theorem dX1_requireRule_32 : decode cX1_requireRule 32 = .ok (.areturn, 1) := dk_176 (dk_at dksX1_requireRule_1 8 rfl rfl)
abbrev cX1_isRecursive : ByteArray := prog_1_method_43_code
def yX1_isRecursive : MethodName := ⟨RX1, "isRecursive", "(I)Z"⟩
def dkwX1_isRecursive_0 : List UInt8 := [42, 180, 0, 72, 42, 27, 182, 0, 254, 182, 1, 10, 172]
abbrev dktX1_isRecursive_0 : List UInt8 := dkwX1_isRecursive_0 ++ []
theorem dksX1_isRecursive_0 : cX1_isRecursive.data.toList.drop 0 = dktX1_isRecursive_0 := by decide +kernel
theorem dX1_isRecursive_0 : decode cX1_isRecursive 0 = .ok (.aload_n 0, 1) := dk_42 (dk_at dksX1_isRecursive_0 0 rfl rfl)
theorem dX1_isRecursive_1 : decode cX1_isRecursive 1 = .ok (.getfield 72, 3) := dk_180 0 72 (dk_at dksX1_isRecursive_0 1 rfl rfl)
theorem dX1_isRecursive_4 : decode cX1_isRecursive 4 = .ok (.aload_n 0, 1) := dk_42 (dk_at dksX1_isRecursive_0 4 rfl rfl)
theorem dX1_isRecursive_5 : decode cX1_isRecursive 5 = .ok (.iload_n 1, 1) := dk_27 (dk_at dksX1_isRecursive_0 5 rfl rfl)
theorem dX1_isRecursive_6 : decode cX1_isRecursive 6 = .ok (.invokevirtual 254, 3) := dk_182 0 254 (dk_at dksX1_isRecursive_0 6 rfl rfl)
theorem dX1_isRecursive_9 : decode cX1_isRecursive 9 = .ok (.invokevirtual 266, 3) := dk_182 1 10 (dk_at dksX1_isRecursive_0 9 rfl rfl)
theorem dX1_isRecursive_12 : decode cX1_isRecursive 12 = .ok (.ireturn, 1) := dk_172 (dk_at dksX1_isRecursive_0 12 rfl rfl)
abbrev cX1_stepsOf : ByteArray := prog_1_method_44_code
def yX1_stepsOf : MethodName := ⟨RX1, "stepsOf", "(I)I"⟩
def dkwX1_stepsOf_0 : List UInt8 := [42, 180, 0, 72, 42, 27, 182, 0, 254, 182, 1, 14, 172]
abbrev dktX1_stepsOf_0 : List UInt8 := dkwX1_stepsOf_0 ++ []
theorem dksX1_stepsOf_0 : cX1_stepsOf.data.toList.drop 0 = dktX1_stepsOf_0 := by decide +kernel
theorem dX1_stepsOf_0 : decode cX1_stepsOf 0 = .ok (.aload_n 0, 1) := dk_42 (dk_at dksX1_stepsOf_0 0 rfl rfl)
theorem dX1_stepsOf_1 : decode cX1_stepsOf 1 = .ok (.getfield 72, 3) := dk_180 0 72 (dk_at dksX1_stepsOf_0 1 rfl rfl)
theorem dX1_stepsOf_4 : decode cX1_stepsOf 4 = .ok (.aload_n 0, 1) := dk_42 (dk_at dksX1_stepsOf_0 4 rfl rfl)
theorem dX1_stepsOf_5 : decode cX1_stepsOf 5 = .ok (.iload_n 1, 1) := dk_27 (dk_at dksX1_stepsOf_0 5 rfl rfl)
theorem dX1_stepsOf_6 : decode cX1_stepsOf 6 = .ok (.invokevirtual 254, 3) := dk_182 0 254 (dk_at dksX1_stepsOf_0 6 rfl rfl)
theorem dX1_stepsOf_9 : decode cX1_stepsOf 9 = .ok (.invokevirtual 270, 3) := dk_182 1 14 (dk_at dksX1_stepsOf_0 9 rfl rfl)
theorem dX1_stepsOf_12 : decode cX1_stepsOf 12 = .ok (.ireturn, 1) := dk_172 (dk_at dksX1_stepsOf_0 12 rfl rfl)
abbrev cX1_layerOf : ByteArray := prog_1_method_45_code
def yX1_layerOf : MethodName := ⟨RX1, "layerOf", "(C)I"⟩
def dkwX1_layerOf_1 : List UInt8 := [172]
abbrev dktX1_layerOf_1 : List UInt8 := dkwX1_layerOf_1 ++ []
def dkwX1_layerOf_0 : List UInt8 := [27, 184, 0, 39, 61, 187, 1, 18, 89, 42, 180, 0, 72, 180, 0, 238, 183, 1, 20, 182, 1, 23, 28, 46]
abbrev dktX1_layerOf_0 : List UInt8 := dkwX1_layerOf_0 ++ dktX1_layerOf_1
theorem dksX1_layerOf_0 : cX1_layerOf.data.toList.drop 0 = dktX1_layerOf_0 := by decide +kernel
theorem dksX1_layerOf_1 : cX1_layerOf.data.toList.drop 24 = dktX1_layerOf_1 := dk_seg dksX1_layerOf_0 24 rfl rfl
theorem dX1_layerOf_0 : decode cX1_layerOf 0 = .ok (.iload_n 1, 1) := dk_27 (dk_at dksX1_layerOf_0 0 rfl rfl)
theorem dX1_layerOf_1 : decode cX1_layerOf 1 = .ok (.invokestatic 39, 3) := dk_184 0 39 (dk_at dksX1_layerOf_0 1 rfl rfl)
theorem dX1_layerOf_4 : decode cX1_layerOf 4 = .ok (.istore_n 2, 1) := dk_61 (dk_at dksX1_layerOf_0 4 rfl rfl)
theorem dX1_layerOf_5 : decode cX1_layerOf 5 = .ok (.new 274, 3) := dk_187 1 18 (dk_at dksX1_layerOf_0 5 rfl rfl)
theorem dX1_layerOf_8 : decode cX1_layerOf 8 = .ok (.dup, 1) := dk_89 (dk_at dksX1_layerOf_0 8 rfl rfl)
theorem dX1_layerOf_9 : decode cX1_layerOf 9 = .ok (.aload_n 0, 1) := dk_42 (dk_at dksX1_layerOf_0 9 rfl rfl)
theorem dX1_layerOf_10 : decode cX1_layerOf 10 = .ok (.getfield 72, 3) := dk_180 0 72 (dk_at dksX1_layerOf_0 10 rfl rfl)
theorem dX1_layerOf_13 : decode cX1_layerOf 13 = .ok (.getfield 238, 3) := dk_180 0 238 (dk_at dksX1_layerOf_0 13 rfl rfl)
theorem dX1_layerOf_16 : decode cX1_layerOf 16 = .ok (.invokespecial 276, 3) := dk_183 1 20 (dk_at dksX1_layerOf_0 16 rfl rfl)
theorem dX1_layerOf_19 : decode cX1_layerOf 19 = .ok (.invokevirtual 279, 3) := dk_182 1 23 (dk_at dksX1_layerOf_0 19 rfl rfl)
theorem dX1_layerOf_22 : decode cX1_layerOf 22 = .ok (.iload_n 2, 1) := dk_28 (dk_at dksX1_layerOf_0 22 rfl rfl)
theorem dX1_layerOf_23 : decode cX1_layerOf 23 = .ok (.iaload, 1) := dk_46 (dk_at dksX1_layerOf_0 23 rfl rfl)
theorem dX1_layerOf_24 : decode cX1_layerOf 24 = .ok (.ireturn, 1) := dk_172 (dk_at dksX1_layerOf_1 0 rfl rfl)
abbrev cX1_layerByChains : ByteArray := prog_1_method_46_code
def yX1_layerByChains : MethodName := ⟨RX1, "layerByChains", "(C)I"⟩
def dkwX1_layerByChains_1 : List UInt8 := [182, 1, 27, 172]
abbrev dktX1_layerByChains_1 : List UInt8 := dkwX1_layerByChains_1 ++ []
def dkwX1_layerByChains_0 : List UInt8 := [27, 184, 0, 39, 61, 187, 1, 18, 89, 42, 180, 0, 72, 180, 0, 238, 183, 1, 20, 28, 4, 28, 120]
abbrev dktX1_layerByChains_0 : List UInt8 := dkwX1_layerByChains_0 ++ dktX1_layerByChains_1
theorem dksX1_layerByChains_0 : cX1_layerByChains.data.toList.drop 0 = dktX1_layerByChains_0 := by decide +kernel
theorem dksX1_layerByChains_1 : cX1_layerByChains.data.toList.drop 23 = dktX1_layerByChains_1 := dk_seg dksX1_layerByChains_0 23 rfl rfl
theorem dX1_layerByChains_0 : decode cX1_layerByChains 0 = .ok (.iload_n 1, 1) := dk_27 (dk_at dksX1_layerByChains_0 0 rfl rfl)
theorem dX1_layerByChains_1 : decode cX1_layerByChains 1 = .ok (.invokestatic 39, 3) := dk_184 0 39 (dk_at dksX1_layerByChains_0 1 rfl rfl)
theorem dX1_layerByChains_4 : decode cX1_layerByChains 4 = .ok (.istore_n 2, 1) := dk_61 (dk_at dksX1_layerByChains_0 4 rfl rfl)
theorem dX1_layerByChains_5 : decode cX1_layerByChains 5 = .ok (.new 274, 3) := dk_187 1 18 (dk_at dksX1_layerByChains_0 5 rfl rfl)
theorem dX1_layerByChains_8 : decode cX1_layerByChains 8 = .ok (.dup, 1) := dk_89 (dk_at dksX1_layerByChains_0 8 rfl rfl)
theorem dX1_layerByChains_9 : decode cX1_layerByChains 9 = .ok (.aload_n 0, 1) := dk_42 (dk_at dksX1_layerByChains_0 9 rfl rfl)
theorem dX1_layerByChains_10 : decode cX1_layerByChains 10 = .ok (.getfield 72, 3) := dk_180 0 72 (dk_at dksX1_layerByChains_0 10 rfl rfl)
theorem dX1_layerByChains_13 : decode cX1_layerByChains 13 = .ok (.getfield 238, 3) := dk_180 0 238 (dk_at dksX1_layerByChains_0 13 rfl rfl)
theorem dX1_layerByChains_16 : decode cX1_layerByChains 16 = .ok (.invokespecial 276, 3) := dk_183 1 20 (dk_at dksX1_layerByChains_0 16 rfl rfl)
theorem dX1_layerByChains_19 : decode cX1_layerByChains 19 = .ok (.iload_n 2, 1) := dk_28 (dk_at dksX1_layerByChains_0 19 rfl rfl)
theorem dX1_layerByChains_20 : decode cX1_layerByChains 20 = .ok (.iconst 1, 1) := dk_4 (dk_at dksX1_layerByChains_0 20 rfl rfl)
theorem dX1_layerByChains_21 : decode cX1_layerByChains 21 = .ok (.iload_n 2, 1) := dk_28 (dk_at dksX1_layerByChains_0 21 rfl rfl)
theorem dX1_layerByChains_22 : decode cX1_layerByChains 22 = .ok (.ishl, 1) := dk_120 (dk_at dksX1_layerByChains_0 22 rfl rfl)
theorem dX1_layerByChains_23 : decode cX1_layerByChains 23 = .ok (.invokevirtual 283, 3) := dk_182 1 27 (dk_at dksX1_layerByChains_1 0 rfl rfl)
theorem dX1_layerByChains_26 : decode cX1_layerByChains 26 = .ok (.ireturn, 1) := dk_172 (dk_at dksX1_layerByChains_1 3 rfl rfl)
abbrev cX1_dependsOn : ByteArray := prog_1_method_47_code
def yX1_dependsOn : MethodName := ⟨RX1, "dependsOn", "(CC)Z"⟩
def dkwX1_dependsOn_1 : List UInt8 := [183, 1, 20, 29, 182, 1, 30, 21, 4, 122, 4, 126, 4, 160, 0, 7, 4, 167, 0, 4, 3, 172]
abbrev dktX1_dependsOn_1 : List UInt8 := dkwX1_dependsOn_1 ++ []
def dkwX1_dependsOn_0 : List UInt8 := [27, 184, 0, 39, 62, 28, 184, 0, 39, 54, 4, 187, 1, 18, 89, 42, 180, 0, 72, 180, 0, 238]
abbrev dktX1_dependsOn_0 : List UInt8 := dkwX1_dependsOn_0 ++ dktX1_dependsOn_1
theorem dksX1_dependsOn_0 : cX1_dependsOn.data.toList.drop 0 = dktX1_dependsOn_0 := by decide +kernel
theorem dksX1_dependsOn_1 : cX1_dependsOn.data.toList.drop 22 = dktX1_dependsOn_1 := dk_seg dksX1_dependsOn_0 22 rfl rfl
theorem dX1_dependsOn_0 : decode cX1_dependsOn 0 = .ok (.iload_n 1, 1) := dk_27 (dk_at dksX1_dependsOn_0 0 rfl rfl)
theorem dX1_dependsOn_1 : decode cX1_dependsOn 1 = .ok (.invokestatic 39, 3) := dk_184 0 39 (dk_at dksX1_dependsOn_0 1 rfl rfl)
theorem dX1_dependsOn_4 : decode cX1_dependsOn 4 = .ok (.istore_n 3, 1) := dk_62 (dk_at dksX1_dependsOn_0 4 rfl rfl)
theorem dX1_dependsOn_5 : decode cX1_dependsOn 5 = .ok (.iload_n 2, 1) := dk_28 (dk_at dksX1_dependsOn_0 5 rfl rfl)
theorem dX1_dependsOn_6 : decode cX1_dependsOn 6 = .ok (.invokestatic 39, 3) := dk_184 0 39 (dk_at dksX1_dependsOn_0 6 rfl rfl)
theorem dX1_dependsOn_9 : decode cX1_dependsOn 9 = .ok (.istore 4, 2) := dk_54 4 (dk_at dksX1_dependsOn_0 9 rfl rfl)
theorem dX1_dependsOn_11 : decode cX1_dependsOn 11 = .ok (.new 274, 3) := dk_187 1 18 (dk_at dksX1_dependsOn_0 11 rfl rfl)
theorem dX1_dependsOn_14 : decode cX1_dependsOn 14 = .ok (.dup, 1) := dk_89 (dk_at dksX1_dependsOn_0 14 rfl rfl)
theorem dX1_dependsOn_15 : decode cX1_dependsOn 15 = .ok (.aload_n 0, 1) := dk_42 (dk_at dksX1_dependsOn_0 15 rfl rfl)
theorem dX1_dependsOn_16 : decode cX1_dependsOn 16 = .ok (.getfield 72, 3) := dk_180 0 72 (dk_at dksX1_dependsOn_0 16 rfl rfl)
theorem dX1_dependsOn_19 : decode cX1_dependsOn 19 = .ok (.getfield 238, 3) := dk_180 0 238 (dk_at dksX1_dependsOn_0 19 rfl rfl)
theorem dX1_dependsOn_22 : decode cX1_dependsOn 22 = .ok (.invokespecial 276, 3) := dk_183 1 20 (dk_at dksX1_dependsOn_1 0 rfl rfl)
theorem dX1_dependsOn_25 : decode cX1_dependsOn 25 = .ok (.iload_n 3, 1) := dk_29 (dk_at dksX1_dependsOn_1 3 rfl rfl)
theorem dX1_dependsOn_26 : decode cX1_dependsOn 26 = .ok (.invokevirtual 286, 3) := dk_182 1 30 (dk_at dksX1_dependsOn_1 4 rfl rfl)
theorem dX1_dependsOn_29 : decode cX1_dependsOn 29 = .ok (.iload 4, 2) := dk_21 4 (dk_at dksX1_dependsOn_1 7 rfl rfl)
theorem dX1_dependsOn_31 : decode cX1_dependsOn 31 = .ok (.ishr, 1) := dk_122 (dk_at dksX1_dependsOn_1 9 rfl rfl)
theorem dX1_dependsOn_32 : decode cX1_dependsOn 32 = .ok (.iconst 1, 1) := dk_4 (dk_at dksX1_dependsOn_1 10 rfl rfl)
theorem dX1_dependsOn_33 : decode cX1_dependsOn 33 = .ok (.iand, 1) := dk_126 (dk_at dksX1_dependsOn_1 11 rfl rfl)
theorem dX1_dependsOn_34 : decode cX1_dependsOn 34 = .ok (.iconst 1, 1) := dk_4 (dk_at dksX1_dependsOn_1 12 rfl rfl)
theorem dX1_dependsOn_35 : decode cX1_dependsOn 35 = .ok (.if_icmp .ne 7, 3) := dk_160 0 7 (dk_at dksX1_dependsOn_1 13 rfl rfl)
theorem dX1_dependsOn_38 : decode cX1_dependsOn 38 = .ok (.iconst 1, 1) := dk_4 (dk_at dksX1_dependsOn_1 16 rfl rfl)
theorem dX1_dependsOn_39 : decode cX1_dependsOn 39 = .ok (.goto 4, 3) := dk_167 0 4 (dk_at dksX1_dependsOn_1 17 rfl rfl)
theorem dX1_dependsOn_42 : decode cX1_dependsOn 42 = .ok (.iconst 0, 1) := dk_3 (dk_at dksX1_dependsOn_1 20 rfl rfl)
theorem dX1_dependsOn_43 : decode cX1_dependsOn 43 = .ok (.ireturn, 1) := dk_172 (dk_at dksX1_dependsOn_1 21 rfl rfl)
abbrev cX1_reason : ByteArray := prog_1_method_50_code
def yX1_reason : MethodName := ⟨RX1, "reason", "()I"⟩
def dkwX1_reason_0 : List UInt8 := [42, 182, 1, 46, 180, 1, 50, 172]
abbrev dktX1_reason_0 : List UInt8 := dkwX1_reason_0 ++ []
theorem dksX1_reason_0 : cX1_reason.data.toList.drop 0 = dktX1_reason_0 := by decide +kernel
theorem dX1_reason_0 : decode cX1_reason 0 = .ok (.aload_n 0, 1) := dk_42 (dk_at dksX1_reason_0 0 rfl rfl)
theorem dX1_reason_1 : decode cX1_reason 1 = .ok (.invokevirtual 302, 3) := dk_182 1 46 (dk_at dksX1_reason_0 1 rfl rfl)
theorem dX1_reason_4 : decode cX1_reason 4 = .ok (.getfield 306, 3) := dk_180 1 50 (dk_at dksX1_reason_0 4 rfl rfl)
theorem dX1_reason_7 : decode cX1_reason 7 = .ok (.ireturn, 1) := dk_172 (dk_at dksX1_reason_0 7 rfl rfl)
abbrev cX1_requireRefusal : ByteArray := prog_1_method_49_code
def yX1_requireRefusal : MethodName := ⟨RX1, "requireRefusal", "()LBrambleLogic$RefusedException;"⟩
def dkwX1_requireRefusal_0 : List UInt8 := [42, 180, 1, 42, 198, 0, 7, 4, 167, 0, 4, 3, 184, 0, 25, 42, 180, 1, 42, 176]
abbrev dktX1_requireRefusal_0 : List UInt8 := dkwX1_requireRefusal_0 ++ []
theorem dksX1_requireRefusal_0 : cX1_requireRefusal.data.toList.drop 0 = dktX1_requireRefusal_0 := by decide +kernel
theorem dX1_requireRefusal_0 : decode cX1_requireRefusal 0 = .ok (.aload_n 0, 1) := dk_42 (dk_at dksX1_requireRefusal_0 0 rfl rfl)
theorem dX1_requireRefusal_1 : decode cX1_requireRefusal 1 = .ok (.getfield 298, 3) := dk_180 1 42 (dk_at dksX1_requireRefusal_0 1 rfl rfl)
theorem dX1_requireRefusal_4 : decode cX1_requireRefusal 4 = .ok (.ifnull 7, 3) := dk_198 0 7 (dk_at dksX1_requireRefusal_0 4 rfl rfl)
theorem dX1_requireRefusal_7 : decode cX1_requireRefusal 7 = .ok (.iconst 1, 1) := dk_4 (dk_at dksX1_requireRefusal_0 7 rfl rfl)
theorem dX1_requireRefusal_8 : decode cX1_requireRefusal 8 = .ok (.goto 4, 3) := dk_167 0 4 (dk_at dksX1_requireRefusal_0 8 rfl rfl)
theorem dX1_requireRefusal_11 : decode cX1_requireRefusal 11 = .ok (.iconst 0, 1) := dk_3 (dk_at dksX1_requireRefusal_0 11 rfl rfl)
theorem dX1_requireRefusal_12 : decode cX1_requireRefusal 12 = .ok (.invokestatic 25, 3) := dk_184 0 25 (dk_at dksX1_requireRefusal_0 12 rfl rfl)
theorem dX1_requireRefusal_15 : decode cX1_requireRefusal 15 = .ok (.aload_n 0, 1) := dk_42 (dk_at dksX1_requireRefusal_0 15 rfl rfl)
theorem dX1_requireRefusal_16 : decode cX1_requireRefusal 16 = .ok (.getfield 298, 3) := dk_180 1 42 (dk_at dksX1_requireRefusal_0 16 rfl rfl)
theorem dX1_requireRefusal_19 : decode cX1_requireRefusal 19 = .ok (.areturn, 1) := dk_176 (dk_at dksX1_requireRefusal_0 19 rfl rfl)
abbrev cX1_detail : ByteArray := prog_1_method_51_code
def yX1_detail : MethodName := ⟨RX1, "detail", "()I"⟩
def dkwX1_detail_0 : List UInt8 := [42, 182, 1, 46, 180, 1, 53, 172]
abbrev dktX1_detail_0 : List UInt8 := dkwX1_detail_0 ++ []
theorem dksX1_detail_0 : cX1_detail.data.toList.drop 0 = dktX1_detail_0 := by decide +kernel
theorem dX1_detail_0 : decode cX1_detail 0 = .ok (.aload_n 0, 1) := dk_42 (dk_at dksX1_detail_0 0 rfl rfl)
theorem dX1_detail_1 : decode cX1_detail 1 = .ok (.invokevirtual 302, 3) := dk_182 1 46 (dk_at dksX1_detail_0 1 rfl rfl)
theorem dX1_detail_4 : decode cX1_detail 4 = .ok (.getfield 309, 3) := dk_180 1 53 (dk_at dksX1_detail_0 4 rfl rfl)
theorem dX1_detail_7 : decode cX1_detail 7 = .ok (.ireturn, 1) := dk_172 (dk_at dksX1_detail_0 7 rfl rfl)
abbrev cX1_meanHeight : ByteArray := prog_1_method_52_code
def yX1_meanHeight : MethodName := ⟨RX1, "meanHeight", "()D"⟩
def dkwX1_meanHeight_1 : List UInt8 := [183, 0, 186, 182, 0, 187, 182, 1, 60, 135, 27, 135, 111, 175]
abbrev dktX1_meanHeight_1 : List UInt8 := dkwX1_meanHeight_1 ++ []
def dkwX1_meanHeight_0 : List UInt8 := [42, 180, 0, 72, 182, 0, 147, 182, 0, 135, 60, 27, 184, 1, 56, 187, 0, 184, 89, 42, 180, 0, 72]
abbrev dktX1_meanHeight_0 : List UInt8 := dkwX1_meanHeight_0 ++ dktX1_meanHeight_1
theorem dksX1_meanHeight_0 : cX1_meanHeight.data.toList.drop 0 = dktX1_meanHeight_0 := by decide +kernel
theorem dksX1_meanHeight_1 : cX1_meanHeight.data.toList.drop 23 = dktX1_meanHeight_1 := dk_seg dksX1_meanHeight_0 23 rfl rfl
theorem dX1_meanHeight_0 : decode cX1_meanHeight 0 = .ok (.aload_n 0, 1) := dk_42 (dk_at dksX1_meanHeight_0 0 rfl rfl)
theorem dX1_meanHeight_1 : decode cX1_meanHeight 1 = .ok (.getfield 72, 3) := dk_180 0 72 (dk_at dksX1_meanHeight_0 1 rfl rfl)
theorem dX1_meanHeight_4 : decode cX1_meanHeight 4 = .ok (.invokevirtual 147, 3) := dk_182 0 147 (dk_at dksX1_meanHeight_0 4 rfl rfl)
theorem dX1_meanHeight_7 : decode cX1_meanHeight 7 = .ok (.invokevirtual 135, 3) := dk_182 0 135 (dk_at dksX1_meanHeight_0 7 rfl rfl)
theorem dX1_meanHeight_10 : decode cX1_meanHeight 10 = .ok (.istore_n 1, 1) := dk_60 (dk_at dksX1_meanHeight_0 10 rfl rfl)
theorem dX1_meanHeight_11 : decode cX1_meanHeight 11 = .ok (.iload_n 1, 1) := dk_27 (dk_at dksX1_meanHeight_0 11 rfl rfl)
theorem dX1_meanHeight_12 : decode cX1_meanHeight 12 = .ok (.invokestatic 312, 3) := dk_184 1 56 (dk_at dksX1_meanHeight_0 12 rfl rfl)
theorem dX1_meanHeight_15 : decode cX1_meanHeight 15 = .ok (.new 184, 3) := dk_187 0 184 (dk_at dksX1_meanHeight_0 15 rfl rfl)
theorem dX1_meanHeight_18 : decode cX1_meanHeight 18 = .ok (.dup, 1) := dk_89 (dk_at dksX1_meanHeight_0 18 rfl rfl)
theorem dX1_meanHeight_19 : decode cX1_meanHeight 19 = .ok (.aload_n 0, 1) := dk_42 (dk_at dksX1_meanHeight_0 19 rfl rfl)
theorem dX1_meanHeight_20 : decode cX1_meanHeight 20 = .ok (.getfield 72, 3) := dk_180 0 72 (dk_at dksX1_meanHeight_0 20 rfl rfl)
theorem dX1_meanHeight_23 : decode cX1_meanHeight 23 = .ok (.invokespecial 186, 3) := dk_183 0 186 (dk_at dksX1_meanHeight_1 0 rfl rfl)
theorem dX1_meanHeight_26 : decode cX1_meanHeight 26 = .ok (.invokevirtual 187, 3) := dk_182 0 187 (dk_at dksX1_meanHeight_1 3 rfl rfl)
theorem dX1_meanHeight_29 : decode cX1_meanHeight 29 = .ok (.invokevirtual 316, 3) := dk_182 1 60 (dk_at dksX1_meanHeight_1 6 rfl rfl)
theorem dX1_meanHeight_32 : decode cX1_meanHeight 32 = .ok (.i2d, 1) := dk_135 (dk_at dksX1_meanHeight_1 9 rfl rfl)
theorem dX1_meanHeight_33 : decode cX1_meanHeight 33 = .ok (.iload_n 1, 1) := dk_27 (dk_at dksX1_meanHeight_1 10 rfl rfl)
theorem dX1_meanHeight_34 : decode cX1_meanHeight 34 = .ok (.i2d, 1) := dk_135 (dk_at dksX1_meanHeight_1 11 rfl rfl)
theorem dX1_meanHeight_35 : decode cX1_meanHeight 35 = .ok (.ddiv, 1) := dk_111 (dk_at dksX1_meanHeight_1 12 rfl rfl)
theorem dX1_meanHeight_36 : decode cX1_meanHeight 36 = .ok (.dreturn, 1) := dk_175 (dk_at dksX1_meanHeight_1 13 rfl rfl)
abbrev cX1_requireSome : ByteArray := prog_1_method_8_code
def yX1_requireSome : MethodName := ⟨RX1, "requireSome", "(I)V"⟩
def dkwX1_requireSome_0 : List UInt8 := [26, 154, 0, 11, 187, 0, 29, 89, 183, 0, 31, 191, 177]
abbrev dktX1_requireSome_0 : List UInt8 := dkwX1_requireSome_0 ++ []
theorem dksX1_requireSome_0 : cX1_requireSome.data.toList.drop 0 = dktX1_requireSome_0 := by decide +kernel
theorem dX1_requireSome_0 : decode cX1_requireSome 0 = .ok (.iload_n 0, 1) := dk_26 (dk_at dksX1_requireSome_0 0 rfl rfl)
theorem dX1_requireSome_1 : decode cX1_requireSome 1 = .ok (.ifCond .ne 11, 3) := dk_154 0 11 (dk_at dksX1_requireSome_0 1 rfl rfl)
theorem dX1_requireSome_4 : decode cX1_requireSome 4 = .ok (.new 29, 3) := dk_187 0 29 (dk_at dksX1_requireSome_0 4 rfl rfl)
theorem dX1_requireSome_7 : decode cX1_requireSome 7 = .ok (.dup, 1) := dk_89 (dk_at dksX1_requireSome_0 7 rfl rfl)
theorem dX1_requireSome_8 : decode cX1_requireSome 8 = .ok (.invokespecial 31, 3) := dk_183 0 31 (dk_at dksX1_requireSome_0 8 rfl rfl)
theorem dX1_requireSome_11 : decode cX1_requireSome 11 = .ok (.athrow, 1) := dk_191 (dk_at dksX1_requireSome_0 11 rfl rfl)
theorem dX1_requireSome_12 : decode cX1_requireSome 12 = .ok (.return_, 1) := dk_177 (dk_at dksX1_requireSome_0 12 rfl rfl)
abbrev cX1_derivedShare : ByteArray := prog_1_method_53_code
def yX1_derivedShare : MethodName := ⟨RX1, "derivedShare", "()F"⟩
def dkwX1_derivedShare_1 : List UInt8 := [182, 0, 135, 100, 134, 27, 134, 110, 174]
abbrev dktX1_derivedShare_1 : List UInt8 := dkwX1_derivedShare_1 ++ []
def dkwX1_derivedShare_0 : List UInt8 := [42, 180, 0, 72, 182, 0, 147, 182, 0, 135, 60, 27, 184, 1, 56, 27, 42, 180, 0, 72, 180, 0, 131]
abbrev dktX1_derivedShare_0 : List UInt8 := dkwX1_derivedShare_0 ++ dktX1_derivedShare_1
theorem dksX1_derivedShare_0 : cX1_derivedShare.data.toList.drop 0 = dktX1_derivedShare_0 := by decide +kernel
theorem dksX1_derivedShare_1 : cX1_derivedShare.data.toList.drop 23 = dktX1_derivedShare_1 := dk_seg dksX1_derivedShare_0 23 rfl rfl
theorem dX1_derivedShare_0 : decode cX1_derivedShare 0 = .ok (.aload_n 0, 1) := dk_42 (dk_at dksX1_derivedShare_0 0 rfl rfl)
theorem dX1_derivedShare_1 : decode cX1_derivedShare 1 = .ok (.getfield 72, 3) := dk_180 0 72 (dk_at dksX1_derivedShare_0 1 rfl rfl)
theorem dX1_derivedShare_4 : decode cX1_derivedShare 4 = .ok (.invokevirtual 147, 3) := dk_182 0 147 (dk_at dksX1_derivedShare_0 4 rfl rfl)
theorem dX1_derivedShare_7 : decode cX1_derivedShare 7 = .ok (.invokevirtual 135, 3) := dk_182 0 135 (dk_at dksX1_derivedShare_0 7 rfl rfl)
theorem dX1_derivedShare_10 : decode cX1_derivedShare 10 = .ok (.istore_n 1, 1) := dk_60 (dk_at dksX1_derivedShare_0 10 rfl rfl)
theorem dX1_derivedShare_11 : decode cX1_derivedShare 11 = .ok (.iload_n 1, 1) := dk_27 (dk_at dksX1_derivedShare_0 11 rfl rfl)
theorem dX1_derivedShare_12 : decode cX1_derivedShare 12 = .ok (.invokestatic 312, 3) := dk_184 1 56 (dk_at dksX1_derivedShare_0 12 rfl rfl)
theorem dX1_derivedShare_15 : decode cX1_derivedShare 15 = .ok (.iload_n 1, 1) := dk_27 (dk_at dksX1_derivedShare_0 15 rfl rfl)
theorem dX1_derivedShare_16 : decode cX1_derivedShare 16 = .ok (.aload_n 0, 1) := dk_42 (dk_at dksX1_derivedShare_0 16 rfl rfl)
theorem dX1_derivedShare_17 : decode cX1_derivedShare 17 = .ok (.getfield 72, 3) := dk_180 0 72 (dk_at dksX1_derivedShare_0 17 rfl rfl)
theorem dX1_derivedShare_20 : decode cX1_derivedShare 20 = .ok (.getfield 131, 3) := dk_180 0 131 (dk_at dksX1_derivedShare_0 20 rfl rfl)
theorem dX1_derivedShare_23 : decode cX1_derivedShare 23 = .ok (.invokevirtual 135, 3) := dk_182 0 135 (dk_at dksX1_derivedShare_1 0 rfl rfl)
theorem dX1_derivedShare_26 : decode cX1_derivedShare 26 = .ok (.isub, 1) := dk_100 (dk_at dksX1_derivedShare_1 3 rfl rfl)
theorem dX1_derivedShare_27 : decode cX1_derivedShare 27 = .ok (.i2f, 1) := dk_134 (dk_at dksX1_derivedShare_1 4 rfl rfl)
theorem dX1_derivedShare_28 : decode cX1_derivedShare 28 = .ok (.iload_n 1, 1) := dk_27 (dk_at dksX1_derivedShare_1 5 rfl rfl)
theorem dX1_derivedShare_29 : decode cX1_derivedShare 29 = .ok (.i2f, 1) := dk_134 (dk_at dksX1_derivedShare_1 6 rfl rfl)
theorem dX1_derivedShare_30 : decode cX1_derivedShare 30 = .ok (.fdiv, 1) := dk_110 (dk_at dksX1_derivedShare_1 7 rfl rfl)
theorem dX1_derivedShare_31 : decode cX1_derivedShare 31 = .ok (.freturn, 1) := dk_174 (dk_at dksX1_derivedShare_1 8 rfl rfl)
abbrev cX1_append : ByteArray := prog_1_method_55_code
def yX1_append : MethodName := ⟨RX1, "append", "(C)I"⟩
def dkwX1_append_1 : List UInt8 := [27, 182, 0, 55, 87, 42, 180, 0, 83, 182, 1, 67, 172]
abbrev dktX1_append_1 : List UInt8 := dkwX1_append_1 ++ []
def dkwX1_append_0 : List UInt8 := [42, 180, 0, 83, 182, 1, 67, 16, 60, 162, 0, 7, 4, 167, 0, 4, 3, 184, 1, 70, 42, 180, 0, 83]
abbrev dktX1_append_0 : List UInt8 := dkwX1_append_0 ++ dktX1_append_1
theorem dksX1_append_0 : cX1_append.data.toList.drop 0 = dktX1_append_0 := by decide +kernel
theorem dksX1_append_1 : cX1_append.data.toList.drop 24 = dktX1_append_1 := dk_seg dksX1_append_0 24 rfl rfl
theorem dX1_append_0 : decode cX1_append 0 = .ok (.aload_n 0, 1) := dk_42 (dk_at dksX1_append_0 0 rfl rfl)
theorem dX1_append_1 : decode cX1_append 1 = .ok (.getfield 83, 3) := dk_180 0 83 (dk_at dksX1_append_0 1 rfl rfl)
theorem dX1_append_4 : decode cX1_append 4 = .ok (.invokevirtual 323, 3) := dk_182 1 67 (dk_at dksX1_append_0 4 rfl rfl)
theorem dX1_append_7 : decode cX1_append 7 = .ok (.bipush 60, 2) := dk_16 60 (dk_at dksX1_append_0 7 rfl rfl)
theorem dX1_append_9 : decode cX1_append 9 = .ok (.if_icmp .ge 7, 3) := dk_162 0 7 (dk_at dksX1_append_0 9 rfl rfl)
theorem dX1_append_12 : decode cX1_append 12 = .ok (.iconst 1, 1) := dk_4 (dk_at dksX1_append_0 12 rfl rfl)
theorem dX1_append_13 : decode cX1_append 13 = .ok (.goto 4, 3) := dk_167 0 4 (dk_at dksX1_append_0 13 rfl rfl)
theorem dX1_append_16 : decode cX1_append 16 = .ok (.iconst 0, 1) := dk_3 (dk_at dksX1_append_0 16 rfl rfl)
theorem dX1_append_17 : decode cX1_append 17 = .ok (.invokestatic 326, 3) := dk_184 1 70 (dk_at dksX1_append_0 17 rfl rfl)
theorem dX1_append_20 : decode cX1_append 20 = .ok (.aload_n 0, 1) := dk_42 (dk_at dksX1_append_0 20 rfl rfl)
theorem dX1_append_21 : decode cX1_append 21 = .ok (.getfield 83, 3) := dk_180 0 83 (dk_at dksX1_append_0 21 rfl rfl)
theorem dX1_append_24 : decode cX1_append 24 = .ok (.iload_n 1, 1) := dk_27 (dk_at dksX1_append_1 0 rfl rfl)
theorem dX1_append_25 : decode cX1_append 25 = .ok (.invokevirtual 55, 3) := dk_182 0 55 (dk_at dksX1_append_1 1 rfl rfl)
theorem dX1_append_28 : decode cX1_append 28 = .ok (.pop, 1) := dk_87 (dk_at dksX1_append_1 4 rfl rfl)
theorem dX1_append_29 : decode cX1_append 29 = .ok (.aload_n 0, 1) := dk_42 (dk_at dksX1_append_1 5 rfl rfl)
theorem dX1_append_30 : decode cX1_append 30 = .ok (.getfield 83, 3) := dk_180 0 83 (dk_at dksX1_append_1 6 rfl rfl)
theorem dX1_append_33 : decode cX1_append 33 = .ok (.invokevirtual 323, 3) := dk_182 1 67 (dk_at dksX1_append_1 9 rfl rfl)
theorem dX1_append_36 : decode cX1_append 36 = .ok (.ireturn, 1) := dk_172 (dk_at dksX1_append_1 12 rfl rfl)
abbrev cX1_run : ByteArray := prog_1_method_57_code
def yX1_run : MethodName := ⟨RX1, "run", "()I"⟩
def dkwX1_run_5 : List UInt8 := [29, 172]
abbrev dktX1_run_5 : List UInt8 := dkwX1_run_5 ++ []
def dkwX1_run_4 : List UInt8 := [153, 0, 10, 42, 180, 0, 97, 167, 0, 4, 29, 181, 0, 97, 21, 4, 184, 1, 111, 42, 44, 182, 0, 121]
abbrev dktX1_run_4 : List UInt8 := dkwX1_run_4 ++ dktX1_run_5
def dkwX1_run_3 : List UInt8 := [167, 0, 19, 58, 5, 42, 25, 5, 181, 1, 42, 167, 0, 8, 58, 5, 3, 54, 4, 42, 21, 4]
abbrev dktX1_run_3 : List UInt8 := dkwX1_run_3 ++ dktX1_run_4
def dkwX1_run_2 : List UInt8 := [192, 1, 105, 58, 6, 25, 6, 44, 182, 1, 107, 54, 7, 132, 3, 1, 167, 255, 223, 4, 54, 4]
abbrev dktX1_run_2 : List UInt8 := dkwX1_run_2 ++ dktX1_run_3
def dkwX1_run_1 : List UInt8 := [185, 1, 93, 1, 0, 58, 5, 25, 5, 185, 1, 97, 1, 0, 153, 0, 29, 25, 5, 185, 1, 102, 1, 0]
abbrev dktX1_run_1 : List UInt8 := dkwX1_run_1 ++ dktX1_run_2
def dkwX1_run_0 : List UInt8 := [42, 182, 1, 90, 76, 187, 0, 69, 89, 42, 180, 0, 72, 183, 0, 114, 77, 3, 62, 3, 54, 4, 43]
abbrev dktX1_run_0 : List UInt8 := dkwX1_run_0 ++ dktX1_run_1
theorem dksX1_run_0 : cX1_run.data.toList.drop 0 = dktX1_run_0 := by decide +kernel
theorem dksX1_run_1 : cX1_run.data.toList.drop 23 = dktX1_run_1 := dk_seg dksX1_run_0 23 rfl rfl
theorem dksX1_run_2 : cX1_run.data.toList.drop 47 = dktX1_run_2 := dk_seg dksX1_run_1 24 rfl rfl
theorem dksX1_run_3 : cX1_run.data.toList.drop 69 = dktX1_run_3 := dk_seg dksX1_run_2 22 rfl rfl
theorem dksX1_run_4 : cX1_run.data.toList.drop 91 = dktX1_run_4 := dk_seg dksX1_run_3 22 rfl rfl
theorem dksX1_run_5 : cX1_run.data.toList.drop 115 = dktX1_run_5 := dk_seg dksX1_run_4 24 rfl rfl
theorem dX1_run_0 : decode cX1_run 0 = .ok (.aload_n 0, 1) := dk_42 (dk_at dksX1_run_0 0 rfl rfl)
theorem dX1_run_1 : decode cX1_run 1 = .ok (.invokevirtual 346, 3) := dk_182 1 90 (dk_at dksX1_run_0 1 rfl rfl)
theorem dX1_run_4 : decode cX1_run 4 = .ok (.astore_n 1, 1) := dk_76 (dk_at dksX1_run_0 4 rfl rfl)
theorem dX1_run_5 : decode cX1_run 5 = .ok (.new 69, 3) := dk_187 0 69 (dk_at dksX1_run_0 5 rfl rfl)
theorem dX1_run_8 : decode cX1_run 8 = .ok (.dup, 1) := dk_89 (dk_at dksX1_run_0 8 rfl rfl)
theorem dX1_run_9 : decode cX1_run 9 = .ok (.aload_n 0, 1) := dk_42 (dk_at dksX1_run_0 9 rfl rfl)
theorem dX1_run_10 : decode cX1_run 10 = .ok (.getfield 72, 3) := dk_180 0 72 (dk_at dksX1_run_0 10 rfl rfl)
theorem dX1_run_13 : decode cX1_run 13 = .ok (.invokespecial 114, 3) := dk_183 0 114 (dk_at dksX1_run_0 13 rfl rfl)
theorem dX1_run_16 : decode cX1_run 16 = .ok (.astore_n 2, 1) := dk_77 (dk_at dksX1_run_0 16 rfl rfl)
theorem dX1_run_17 : decode cX1_run 17 = .ok (.iconst 0, 1) := dk_3 (dk_at dksX1_run_0 17 rfl rfl)
theorem dX1_run_18 : decode cX1_run 18 = .ok (.istore_n 3, 1) := dk_62 (dk_at dksX1_run_0 18 rfl rfl)
theorem dX1_run_19 : decode cX1_run 19 = .ok (.iconst 0, 1) := dk_3 (dk_at dksX1_run_0 19 rfl rfl)
theorem dX1_run_20 : decode cX1_run 20 = .ok (.istore 4, 2) := dk_54 4 (dk_at dksX1_run_0 20 rfl rfl)
theorem dX1_run_22 : decode cX1_run 22 = .ok (.aload_n 1, 1) := dk_43 (dk_at dksX1_run_0 22 rfl rfl)
theorem dX1_run_23 : decode cX1_run 23 = .ok (.invokeinterface 349 1, 5) := by decide +kernel
theorem dX1_run_28 : decode cX1_run 28 = .ok (.astore 5, 2) := dk_58 5 (dk_at dksX1_run_1 5 rfl rfl)
theorem dX1_run_30 : decode cX1_run 30 = .ok (.aload 5, 2) := dk_25 5 (dk_at dksX1_run_1 7 rfl rfl)
theorem dX1_run_32 : decode cX1_run 32 = .ok (.invokeinterface 353 1, 5) := by decide +kernel
theorem dX1_run_37 : decode cX1_run 37 = .ok (.ifCond .eq 29, 3) := dk_153 0 29 (dk_at dksX1_run_1 14 rfl rfl)
theorem dX1_run_40 : decode cX1_run 40 = .ok (.aload 5, 2) := dk_25 5 (dk_at dksX1_run_1 17 rfl rfl)
theorem dX1_run_42 : decode cX1_run 42 = .ok (.invokeinterface 358 1, 5) := by decide +kernel
theorem dX1_run_47 : decode cX1_run 47 = .ok (.checkcast 361, 3) := dk_192 1 105 (dk_at dksX1_run_2 0 rfl rfl)
theorem dX1_run_50 : decode cX1_run 50 = .ok (.astore 6, 2) := dk_58 6 (dk_at dksX1_run_2 3 rfl rfl)
theorem dX1_run_52 : decode cX1_run 52 = .ok (.aload 6, 2) := dk_25 6 (dk_at dksX1_run_2 5 rfl rfl)
theorem dX1_run_54 : decode cX1_run 54 = .ok (.aload_n 2, 1) := dk_44 (dk_at dksX1_run_2 7 rfl rfl)
theorem dX1_run_55 : decode cX1_run 55 = .ok (.invokevirtual 363, 3) := dk_182 1 107 (dk_at dksX1_run_2 8 rfl rfl)
theorem dX1_run_58 : decode cX1_run 58 = .ok (.istore 7, 2) := dk_54 7 (dk_at dksX1_run_2 11 rfl rfl)
theorem dX1_run_60 : decode cX1_run 60 = .ok (.iinc 3 1, 3) := dk_132 3 1 (dk_at dksX1_run_2 13 rfl rfl)
theorem dX1_run_63 : decode cX1_run 63 = .ok (.goto (-33), 3) := dk_167 255 223 (dk_at dksX1_run_2 16 rfl rfl)
theorem dX1_run_66 : decode cX1_run 66 = .ok (.iconst 1, 1) := dk_4 (dk_at dksX1_run_2 19 rfl rfl)
theorem dX1_run_67 : decode cX1_run 67 = .ok (.istore 4, 2) := dk_54 4 (dk_at dksX1_run_2 20 rfl rfl)
theorem dX1_run_69 : decode cX1_run 69 = .ok (.goto 19, 3) := dk_167 0 19 (dk_at dksX1_run_3 0 rfl rfl)
theorem dX1_run_72 : decode cX1_run 72 = .ok (.astore 5, 2) := dk_58 5 (dk_at dksX1_run_3 3 rfl rfl)
theorem dX1_run_74 : decode cX1_run 74 = .ok (.aload_n 0, 1) := dk_42 (dk_at dksX1_run_3 5 rfl rfl)
theorem dX1_run_75 : decode cX1_run 75 = .ok (.aload 5, 2) := dk_25 5 (dk_at dksX1_run_3 6 rfl rfl)
theorem dX1_run_77 : decode cX1_run 77 = .ok (.putfield 298, 3) := dk_181 1 42 (dk_at dksX1_run_3 8 rfl rfl)
theorem dX1_run_80 : decode cX1_run 80 = .ok (.goto 8, 3) := dk_167 0 8 (dk_at dksX1_run_3 11 rfl rfl)
theorem dX1_run_83 : decode cX1_run 83 = .ok (.astore 5, 2) := dk_58 5 (dk_at dksX1_run_3 14 rfl rfl)
theorem dX1_run_85 : decode cX1_run 85 = .ok (.iconst 0, 1) := dk_3 (dk_at dksX1_run_3 16 rfl rfl)
theorem dX1_run_86 : decode cX1_run 86 = .ok (.istore 4, 2) := dk_54 4 (dk_at dksX1_run_3 17 rfl rfl)
theorem dX1_run_88 : decode cX1_run 88 = .ok (.aload_n 0, 1) := dk_42 (dk_at dksX1_run_3 19 rfl rfl)
theorem dX1_run_89 : decode cX1_run 89 = .ok (.iload 4, 2) := dk_21 4 (dk_at dksX1_run_3 20 rfl rfl)
theorem dX1_run_91 : decode cX1_run 91 = .ok (.ifCond .eq 10, 3) := dk_153 0 10 (dk_at dksX1_run_4 0 rfl rfl)
theorem dX1_run_94 : decode cX1_run 94 = .ok (.aload_n 0, 1) := dk_42 (dk_at dksX1_run_4 3 rfl rfl)
theorem dX1_run_95 : decode cX1_run 95 = .ok (.getfield 97, 3) := dk_180 0 97 (dk_at dksX1_run_4 4 rfl rfl)
theorem dX1_run_98 : decode cX1_run 98 = .ok (.goto 4, 3) := dk_167 0 4 (dk_at dksX1_run_4 7 rfl rfl)
theorem dX1_run_101 : decode cX1_run 101 = .ok (.iload_n 3, 1) := dk_29 (dk_at dksX1_run_4 10 rfl rfl)
theorem dX1_run_102 : decode cX1_run 102 = .ok (.putfield 97, 3) := dk_181 0 97 (dk_at dksX1_run_4 11 rfl rfl)
theorem dX1_run_105 : decode cX1_run 105 = .ok (.iload 4, 2) := dk_21 4 (dk_at dksX1_run_4 14 rfl rfl)
theorem dX1_run_107 : decode cX1_run 107 = .ok (.invokestatic 367, 3) := dk_184 1 111 (dk_at dksX1_run_4 16 rfl rfl)
theorem dX1_run_110 : decode cX1_run 110 = .ok (.aload_n 0, 1) := dk_42 (dk_at dksX1_run_4 19 rfl rfl)
theorem dX1_run_111 : decode cX1_run 111 = .ok (.aload_n 2, 1) := dk_44 (dk_at dksX1_run_4 20 rfl rfl)
theorem dX1_run_112 : decode cX1_run 112 = .ok (.invokevirtual 121, 3) := dk_182 0 121 (dk_at dksX1_run_4 21 rfl rfl)
theorem dX1_run_115 : decode cX1_run 115 = .ok (.iload_n 3, 1) := dk_29 (dk_at dksX1_run_5 0 rfl rfl)
theorem dX1_run_116 : decode cX1_run 116 = .ok (.ireturn, 1) := dk_172 (dk_at dksX1_run_5 1 rfl rfl)
abbrev cX1_parseBuffer : ByteArray := prog_1_method_56_code
def yX1_parseBuffer : MethodName := ⟨RX1, "parseBuffer", "()Ljava/util/List;"⟩
def dkwX1_parseBuffer_1 : List UInt8 := [44, 180, 1, 87, 181, 0, 93, 187, 0, 13, 89, 183, 0, 15, 191]
abbrev dktX1_parseBuffer_1 : List UInt8 := dkwX1_parseBuffer_1 ++ []
def dkwX1_parseBuffer_0 : List UInt8 := [187, 1, 73, 89, 42, 183, 1, 75, 76, 42, 180, 0, 83, 3, 182, 1, 78, 43, 182, 1, 81, 176, 77, 42]
abbrev dktX1_parseBuffer_0 : List UInt8 := dkwX1_parseBuffer_0 ++ dktX1_parseBuffer_1
theorem dksX1_parseBuffer_0 : cX1_parseBuffer.data.toList.drop 0 = dktX1_parseBuffer_0 := by decide +kernel
theorem dksX1_parseBuffer_1 : cX1_parseBuffer.data.toList.drop 24 = dktX1_parseBuffer_1 := dk_seg dksX1_parseBuffer_0 24 rfl rfl
theorem dX1_parseBuffer_0 : decode cX1_parseBuffer 0 = .ok (.new 329, 3) := dk_187 1 73 (dk_at dksX1_parseBuffer_0 0 rfl rfl)
theorem dX1_parseBuffer_3 : decode cX1_parseBuffer 3 = .ok (.dup, 1) := dk_89 (dk_at dksX1_parseBuffer_0 3 rfl rfl)
theorem dX1_parseBuffer_4 : decode cX1_parseBuffer 4 = .ok (.aload_n 0, 1) := dk_42 (dk_at dksX1_parseBuffer_0 4 rfl rfl)
theorem dX1_parseBuffer_5 : decode cX1_parseBuffer 5 = .ok (.invokespecial 331, 3) := dk_183 1 75 (dk_at dksX1_parseBuffer_0 5 rfl rfl)
theorem dX1_parseBuffer_8 : decode cX1_parseBuffer 8 = .ok (.astore_n 1, 1) := dk_76 (dk_at dksX1_parseBuffer_0 8 rfl rfl)
theorem dX1_parseBuffer_9 : decode cX1_parseBuffer 9 = .ok (.aload_n 0, 1) := dk_42 (dk_at dksX1_parseBuffer_0 9 rfl rfl)
theorem dX1_parseBuffer_10 : decode cX1_parseBuffer 10 = .ok (.getfield 83, 3) := dk_180 0 83 (dk_at dksX1_parseBuffer_0 10 rfl rfl)
theorem dX1_parseBuffer_13 : decode cX1_parseBuffer 13 = .ok (.iconst 0, 1) := dk_3 (dk_at dksX1_parseBuffer_0 13 rfl rfl)
theorem dX1_parseBuffer_14 : decode cX1_parseBuffer 14 = .ok (.invokevirtual 334, 3) := dk_182 1 78 (dk_at dksX1_parseBuffer_0 14 rfl rfl)
theorem dX1_parseBuffer_17 : decode cX1_parseBuffer 17 = .ok (.aload_n 1, 1) := dk_43 (dk_at dksX1_parseBuffer_0 17 rfl rfl)
theorem dX1_parseBuffer_18 : decode cX1_parseBuffer 18 = .ok (.invokevirtual 337, 3) := dk_182 1 81 (dk_at dksX1_parseBuffer_0 18 rfl rfl)
theorem dX1_parseBuffer_21 : decode cX1_parseBuffer 21 = .ok (.areturn, 1) := dk_176 (dk_at dksX1_parseBuffer_0 21 rfl rfl)
theorem dX1_parseBuffer_22 : decode cX1_parseBuffer 22 = .ok (.astore_n 2, 1) := dk_77 (dk_at dksX1_parseBuffer_0 22 rfl rfl)
theorem dX1_parseBuffer_23 : decode cX1_parseBuffer 23 = .ok (.aload_n 0, 1) := dk_42 (dk_at dksX1_parseBuffer_0 23 rfl rfl)
theorem dX1_parseBuffer_24 : decode cX1_parseBuffer 24 = .ok (.aload_n 2, 1) := dk_44 (dk_at dksX1_parseBuffer_1 0 rfl rfl)
theorem dX1_parseBuffer_25 : decode cX1_parseBuffer 25 = .ok (.getfield 343, 3) := dk_180 1 87 (dk_at dksX1_parseBuffer_1 1 rfl rfl)
theorem dX1_parseBuffer_28 : decode cX1_parseBuffer 28 = .ok (.putfield 93, 3) := dk_181 0 93 (dk_at dksX1_parseBuffer_1 4 rfl rfl)
theorem dX1_parseBuffer_31 : decode cX1_parseBuffer 31 = .ok (.new 13, 3) := dk_187 0 13 (dk_at dksX1_parseBuffer_1 7 rfl rfl)
theorem dX1_parseBuffer_34 : decode cX1_parseBuffer 34 = .ok (.dup, 1) := dk_89 (dk_at dksX1_parseBuffer_1 10 rfl rfl)
theorem dX1_parseBuffer_35 : decode cX1_parseBuffer 35 = .ok (.invokespecial 15, 3) := dk_183 0 15 (dk_at dksX1_parseBuffer_1 11 rfl rfl)
theorem dX1_parseBuffer_38 : decode cX1_parseBuffer 38 = .ok (.athrow, 1) := dk_191 (dk_at dksX1_parseBuffer_1 14 rfl rfl)
abbrev cX1_maskOf : ByteArray := prog_1_method_17_code
def yX1_maskOf : MethodName := ⟨RX1, "maskOf", "(I)I"⟩
def dkwX1_maskOf_0 : List UInt8 := [26, 16, 10, 162, 0, 7, 3, 167, 0, 9, 4, 26, 16, 10, 100, 120, 172]
abbrev dktX1_maskOf_0 : List UInt8 := dkwX1_maskOf_0 ++ []
theorem dksX1_maskOf_0 : cX1_maskOf.data.toList.drop 0 = dktX1_maskOf_0 := by decide +kernel
theorem dX1_maskOf_0 : decode cX1_maskOf 0 = .ok (.iload_n 0, 1) := dk_26 (dk_at dksX1_maskOf_0 0 rfl rfl)
theorem dX1_maskOf_1 : decode cX1_maskOf 1 = .ok (.bipush 10, 2) := dk_16 10 (dk_at dksX1_maskOf_0 1 rfl rfl)
theorem dX1_maskOf_3 : decode cX1_maskOf 3 = .ok (.if_icmp .ge 7, 3) := dk_162 0 7 (dk_at dksX1_maskOf_0 3 rfl rfl)
theorem dX1_maskOf_6 : decode cX1_maskOf 6 = .ok (.iconst 0, 1) := dk_3 (dk_at dksX1_maskOf_0 6 rfl rfl)
theorem dX1_maskOf_7 : decode cX1_maskOf 7 = .ok (.goto 9, 3) := dk_167 0 9 (dk_at dksX1_maskOf_0 7 rfl rfl)
theorem dX1_maskOf_10 : decode cX1_maskOf 10 = .ok (.iconst 1, 1) := dk_4 (dk_at dksX1_maskOf_0 10 rfl rfl)
theorem dX1_maskOf_11 : decode cX1_maskOf 11 = .ok (.iload_n 0, 1) := dk_26 (dk_at dksX1_maskOf_0 11 rfl rfl)
theorem dX1_maskOf_12 : decode cX1_maskOf 12 = .ok (.bipush 10, 2) := dk_16 10 (dk_at dksX1_maskOf_0 12 rfl rfl)
theorem dX1_maskOf_14 : decode cX1_maskOf 14 = .ok (.isub, 1) := dk_100 (dk_at dksX1_maskOf_0 14 rfl rfl)
theorem dX1_maskOf_15 : decode cX1_maskOf 15 = .ok (.ishl, 1) := dk_120 (dk_at dksX1_maskOf_0 15 rfl rfl)
theorem dX1_maskOf_16 : decode cX1_maskOf 16 = .ok (.ireturn, 1) := dk_172 (dk_at dksX1_maskOf_0 16 rfl rfl)
abbrev cX1_refuseIf : ByteArray := prog_1_method_14_code
def yX1_refuseIf : MethodName := ⟨RX1, "refuseIf", "(ZII)V"⟩
def dkwX1_refuseIf_0 : List UInt8 := [26, 153, 0, 13, 187, 0, 47, 89, 27, 28, 183, 0, 49, 191, 177]
abbrev dktX1_refuseIf_0 : List UInt8 := dkwX1_refuseIf_0 ++ []
theorem dksX1_refuseIf_0 : cX1_refuseIf.data.toList.drop 0 = dktX1_refuseIf_0 := by decide +kernel
theorem dX1_refuseIf_0 : decode cX1_refuseIf 0 = .ok (.iload_n 0, 1) := dk_26 (dk_at dksX1_refuseIf_0 0 rfl rfl)
theorem dX1_refuseIf_1 : decode cX1_refuseIf 1 = .ok (.ifCond .eq 13, 3) := dk_153 0 13 (dk_at dksX1_refuseIf_0 1 rfl rfl)
theorem dX1_refuseIf_4 : decode cX1_refuseIf 4 = .ok (.new 47, 3) := dk_187 0 47 (dk_at dksX1_refuseIf_0 4 rfl rfl)
theorem dX1_refuseIf_7 : decode cX1_refuseIf 7 = .ok (.dup, 1) := dk_89 (dk_at dksX1_refuseIf_0 7 rfl rfl)
theorem dX1_refuseIf_8 : decode cX1_refuseIf 8 = .ok (.iload_n 1, 1) := dk_27 (dk_at dksX1_refuseIf_0 8 rfl rfl)
theorem dX1_refuseIf_9 : decode cX1_refuseIf 9 = .ok (.iload_n 2, 1) := dk_28 (dk_at dksX1_refuseIf_0 9 rfl rfl)
theorem dX1_refuseIf_10 : decode cX1_refuseIf 10 = .ok (.invokespecial 49, 3) := dk_183 0 49 (dk_at dksX1_refuseIf_0 10 rfl rfl)
theorem dX1_refuseIf_13 : decode cX1_refuseIf 13 = .ok (.athrow, 1) := dk_191 (dk_at dksX1_refuseIf_0 13 rfl rfl)
theorem dX1_refuseIf_14 : decode cX1_refuseIf 14 = .ok (.return_, 1) := dk_177 (dk_at dksX1_refuseIf_0 14 rfl rfl)
abbrev cX1_errorPosition : ByteArray := prog_1_method_58_code
def yX1_errorPosition : MethodName := ⟨RX1, "errorPosition", "()I"⟩
def dkwX1_errorPosition_0 : List UInt8 := [42, 180, 0, 93, 184, 0, 173, 172]
abbrev dktX1_errorPosition_0 : List UInt8 := dkwX1_errorPosition_0 ++ []
theorem dksX1_errorPosition_0 : cX1_errorPosition.data.toList.drop 0 = dktX1_errorPosition_0 := by decide +kernel
theorem dX1_errorPosition_0 : decode cX1_errorPosition 0 = .ok (.aload_n 0, 1) := dk_42 (dk_at dksX1_errorPosition_0 0 rfl rfl)
theorem dX1_errorPosition_1 : decode cX1_errorPosition 1 = .ok (.getfield 93, 3) := dk_180 0 93 (dk_at dksX1_errorPosition_0 1 rfl rfl)
theorem dX1_errorPosition_4 : decode cX1_errorPosition 4 = .ok (.invokestatic 173, 3) := dk_184 0 173 (dk_at dksX1_errorPosition_0 4 rfl rfl)
theorem dX1_errorPosition_7 : decode cX1_errorPosition 7 = .ok (.ireturn, 1) := dk_172 (dk_at dksX1_errorPosition_0 7 rfl rfl)
abbrev cX1_failedCommand : ByteArray := prog_1_method_59_code
def yX1_failedCommand : MethodName := ⟨RX1, "failedCommand", "()I"⟩
def dkwX1_failedCommand_0 : List UInt8 := [42, 180, 0, 97, 184, 0, 173, 172]
abbrev dktX1_failedCommand_0 : List UInt8 := dkwX1_failedCommand_0 ++ []
theorem dksX1_failedCommand_0 : cX1_failedCommand.data.toList.drop 0 = dktX1_failedCommand_0 := by decide +kernel
theorem dX1_failedCommand_0 : decode cX1_failedCommand 0 = .ok (.aload_n 0, 1) := dk_42 (dk_at dksX1_failedCommand_0 0 rfl rfl)
theorem dX1_failedCommand_1 : decode cX1_failedCommand 1 = .ok (.getfield 97, 3) := dk_180 0 97 (dk_at dksX1_failedCommand_0 1 rfl rfl)
theorem dX1_failedCommand_4 : decode cX1_failedCommand 4 = .ok (.invokestatic 173, 3) := dk_184 0 173 (dk_at dksX1_failedCommand_0 4 rfl rfl)
theorem dX1_failedCommand_7 : decode cX1_failedCommand 7 = .ok (.ireturn, 1) := dk_172 (dk_at dksX1_failedCommand_0 7 rfl rfl)
abbrev cX1_writeRule : ByteArray := prog_1_method_61_code
def yX1_writeRule : MethodName := ⟨RX1, "writeRule", "(I)I"⟩
def dkwX1_writeRule_0 : List UInt8 := [42, 42, 27, 182, 0, 254, 180, 1, 117, 182, 1, 120, 172]
abbrev dktX1_writeRule_0 : List UInt8 := dkwX1_writeRule_0 ++ []
theorem dksX1_writeRule_0 : cX1_writeRule.data.toList.drop 0 = dktX1_writeRule_0 := by decide +kernel
theorem dX1_writeRule_0 : decode cX1_writeRule 0 = .ok (.aload_n 0, 1) := dk_42 (dk_at dksX1_writeRule_0 0 rfl rfl)
theorem dX1_writeRule_1 : decode cX1_writeRule 1 = .ok (.aload_n 0, 1) := dk_42 (dk_at dksX1_writeRule_0 1 rfl rfl)
theorem dX1_writeRule_2 : decode cX1_writeRule 2 = .ok (.iload_n 1, 1) := dk_27 (dk_at dksX1_writeRule_0 2 rfl rfl)
theorem dX1_writeRule_3 : decode cX1_writeRule 3 = .ok (.invokevirtual 254, 3) := dk_182 0 254 (dk_at dksX1_writeRule_0 3 rfl rfl)
theorem dX1_writeRule_6 : decode cX1_writeRule 6 = .ok (.getfield 373, 3) := dk_180 1 117 (dk_at dksX1_writeRule_0 6 rfl rfl)
theorem dX1_writeRule_9 : decode cX1_writeRule 9 = .ok (.invokevirtual 376, 3) := dk_182 1 120 (dk_at dksX1_writeRule_0 9 rfl rfl)
theorem dX1_writeRule_12 : decode cX1_writeRule 12 = .ok (.ireturn, 1) := dk_172 (dk_at dksX1_writeRule_0 12 rfl rfl)
abbrev cX1_writeStep : ByteArray := prog_1_method_62_code
def yX1_writeStep : MethodName := ⟨RX1, "writeStep", "(CII)I"⟩
def dkwX1_writeStep_1 : List UInt8 := [182, 1, 120, 172]
abbrev dktX1_writeStep_1 : List UInt8 := dkwX1_writeStep_1 ++ []
def dkwX1_writeStep_0 : List UInt8 := [42, 27, 28, 29, 182, 0, 182, 54, 4, 42, 42, 180, 0, 72, 27, 16, 97, 100, 21, 4, 182, 1, 124]
abbrev dktX1_writeStep_0 : List UInt8 := dkwX1_writeStep_0 ++ dktX1_writeStep_1
theorem dksX1_writeStep_0 : cX1_writeStep.data.toList.drop 0 = dktX1_writeStep_0 := by decide +kernel
theorem dksX1_writeStep_1 : cX1_writeStep.data.toList.drop 23 = dktX1_writeStep_1 := dk_seg dksX1_writeStep_0 23 rfl rfl
theorem dX1_writeStep_0 : decode cX1_writeStep 0 = .ok (.aload_n 0, 1) := dk_42 (dk_at dksX1_writeStep_0 0 rfl rfl)
theorem dX1_writeStep_1 : decode cX1_writeStep 1 = .ok (.iload_n 1, 1) := dk_27 (dk_at dksX1_writeStep_0 1 rfl rfl)
theorem dX1_writeStep_2 : decode cX1_writeStep 2 = .ok (.iload_n 2, 1) := dk_28 (dk_at dksX1_writeStep_0 2 rfl rfl)
theorem dX1_writeStep_3 : decode cX1_writeStep 3 = .ok (.iload_n 3, 1) := dk_29 (dk_at dksX1_writeStep_0 3 rfl rfl)
theorem dX1_writeStep_4 : decode cX1_writeStep 4 = .ok (.invokevirtual 182, 3) := dk_182 0 182 (dk_at dksX1_writeStep_0 4 rfl rfl)
theorem dX1_writeStep_7 : decode cX1_writeStep 7 = .ok (.istore 4, 2) := dk_54 4 (dk_at dksX1_writeStep_0 7 rfl rfl)
theorem dX1_writeStep_9 : decode cX1_writeStep 9 = .ok (.aload_n 0, 1) := dk_42 (dk_at dksX1_writeStep_0 9 rfl rfl)
theorem dX1_writeStep_10 : decode cX1_writeStep 10 = .ok (.aload_n 0, 1) := dk_42 (dk_at dksX1_writeStep_0 10 rfl rfl)
theorem dX1_writeStep_11 : decode cX1_writeStep 11 = .ok (.getfield 72, 3) := dk_180 0 72 (dk_at dksX1_writeStep_0 11 rfl rfl)
theorem dX1_writeStep_14 : decode cX1_writeStep 14 = .ok (.iload_n 1, 1) := dk_27 (dk_at dksX1_writeStep_0 14 rfl rfl)
theorem dX1_writeStep_15 : decode cX1_writeStep 15 = .ok (.bipush 97, 2) := dk_16 97 (dk_at dksX1_writeStep_0 15 rfl rfl)
theorem dX1_writeStep_17 : decode cX1_writeStep 17 = .ok (.isub, 1) := dk_100 (dk_at dksX1_writeStep_0 17 rfl rfl)
theorem dX1_writeStep_18 : decode cX1_writeStep 18 = .ok (.iload 4, 2) := dk_21 4 (dk_at dksX1_writeStep_0 18 rfl rfl)
theorem dX1_writeStep_20 : decode cX1_writeStep 20 = .ok (.invokevirtual 380, 3) := dk_182 1 124 (dk_at dksX1_writeStep_0 20 rfl rfl)
theorem dX1_writeStep_23 : decode cX1_writeStep 23 = .ok (.invokevirtual 376, 3) := dk_182 1 120 (dk_at dksX1_writeStep_1 0 rfl rfl)
theorem dX1_writeStep_26 : decode cX1_writeStep 26 = .ok (.ireturn, 1) := dk_172 (dk_at dksX1_writeStep_1 3 rfl rfl)
abbrev cX1_outputAt : ByteArray := prog_1_method_64_code
def yX1_outputAt : MethodName := ⟨RX1, "outputAt", "(I)C"⟩
def dkwX1_outputAt_0 : List UInt8 := [27, 42, 180, 0, 89, 182, 1, 114, 184, 0, 245, 42, 180, 0, 89, 27, 182, 1, 131, 172]
abbrev dktX1_outputAt_0 : List UInt8 := dkwX1_outputAt_0 ++ []
theorem dksX1_outputAt_0 : cX1_outputAt.data.toList.drop 0 = dktX1_outputAt_0 := by decide +kernel
theorem dX1_outputAt_0 : decode cX1_outputAt 0 = .ok (.iload_n 1, 1) := dk_27 (dk_at dksX1_outputAt_0 0 rfl rfl)
theorem dX1_outputAt_1 : decode cX1_outputAt 1 = .ok (.aload_n 0, 1) := dk_42 (dk_at dksX1_outputAt_0 1 rfl rfl)
theorem dX1_outputAt_2 : decode cX1_outputAt 2 = .ok (.getfield 89, 3) := dk_180 0 89 (dk_at dksX1_outputAt_0 2 rfl rfl)
theorem dX1_outputAt_5 : decode cX1_outputAt 5 = .ok (.invokevirtual 370, 3) := dk_182 1 114 (dk_at dksX1_outputAt_0 5 rfl rfl)
theorem dX1_outputAt_8 : decode cX1_outputAt 8 = .ok (.invokestatic 245, 3) := dk_184 0 245 (dk_at dksX1_outputAt_0 8 rfl rfl)
theorem dX1_outputAt_11 : decode cX1_outputAt 11 = .ok (.aload_n 0, 1) := dk_42 (dk_at dksX1_outputAt_0 11 rfl rfl)
theorem dX1_outputAt_12 : decode cX1_outputAt 12 = .ok (.getfield 89, 3) := dk_180 0 89 (dk_at dksX1_outputAt_0 12 rfl rfl)
theorem dX1_outputAt_15 : decode cX1_outputAt 15 = .ok (.iload_n 1, 1) := dk_27 (dk_at dksX1_outputAt_0 15 rfl rfl)
theorem dX1_outputAt_16 : decode cX1_outputAt 16 = .ok (.invokevirtual 387, 3) := dk_182 1 131 (dk_at dksX1_outputAt_0 16 rfl rfl)
theorem dX1_outputAt_19 : decode cX1_outputAt 19 = .ok (.ireturn, 1) := dk_172 (dk_at dksX1_outputAt_0 19 rfl rfl)
abbrev cX1_undo : ByteArray := prog_1_method_65_code
def yX1_undo : MethodName := ⟨RX1, "undo", "()I"⟩
def dkwX1_undo_1 : List UInt8 := [180, 0, 79, 185, 1, 138, 1, 0, 192, 0, 69, 181, 0, 72, 42, 180, 0, 79, 185, 0, 100, 1, 0, 172]
abbrev dktX1_undo_1 : List UInt8 := dkwX1_undo_1 ++ []
def dkwX1_undo_0 : List UInt8 := [42, 180, 0, 79, 185, 1, 135, 1, 0, 154, 0, 7, 4, 167, 0, 4, 3, 184, 1, 70, 42, 42]
abbrev dktX1_undo_0 : List UInt8 := dkwX1_undo_0 ++ dktX1_undo_1
theorem dksX1_undo_0 : cX1_undo.data.toList.drop 0 = dktX1_undo_0 := by decide +kernel
theorem dksX1_undo_1 : cX1_undo.data.toList.drop 22 = dktX1_undo_1 := dk_seg dksX1_undo_0 22 rfl rfl
theorem dX1_undo_0 : decode cX1_undo 0 = .ok (.aload_n 0, 1) := dk_42 (dk_at dksX1_undo_0 0 rfl rfl)
theorem dX1_undo_1 : decode cX1_undo 1 = .ok (.getfield 79, 3) := dk_180 0 79 (dk_at dksX1_undo_0 1 rfl rfl)
theorem dX1_undo_4 : decode cX1_undo 4 = .ok (.invokeinterface 391 1, 5) := by decide +kernel
theorem dX1_undo_9 : decode cX1_undo 9 = .ok (.ifCond .ne 7, 3) := dk_154 0 7 (dk_at dksX1_undo_0 9 rfl rfl)
theorem dX1_undo_12 : decode cX1_undo 12 = .ok (.iconst 1, 1) := dk_4 (dk_at dksX1_undo_0 12 rfl rfl)
theorem dX1_undo_13 : decode cX1_undo 13 = .ok (.goto 4, 3) := dk_167 0 4 (dk_at dksX1_undo_0 13 rfl rfl)
theorem dX1_undo_16 : decode cX1_undo 16 = .ok (.iconst 0, 1) := dk_3 (dk_at dksX1_undo_0 16 rfl rfl)
theorem dX1_undo_17 : decode cX1_undo 17 = .ok (.invokestatic 326, 3) := dk_184 1 70 (dk_at dksX1_undo_0 17 rfl rfl)
theorem dX1_undo_20 : decode cX1_undo 20 = .ok (.aload_n 0, 1) := dk_42 (dk_at dksX1_undo_0 20 rfl rfl)
theorem dX1_undo_21 : decode cX1_undo 21 = .ok (.aload_n 0, 1) := dk_42 (dk_at dksX1_undo_0 21 rfl rfl)
theorem dX1_undo_22 : decode cX1_undo 22 = .ok (.getfield 79, 3) := dk_180 0 79 (dk_at dksX1_undo_1 0 rfl rfl)
theorem dX1_undo_25 : decode cX1_undo 25 = .ok (.invokeinterface 394 1, 5) := by decide +kernel
theorem dX1_undo_30 : decode cX1_undo 30 = .ok (.checkcast 69, 3) := dk_192 0 69 (dk_at dksX1_undo_1 8 rfl rfl)
theorem dX1_undo_33 : decode cX1_undo 33 = .ok (.putfield 72, 3) := dk_181 0 72 (dk_at dksX1_undo_1 11 rfl rfl)
theorem dX1_undo_36 : decode cX1_undo 36 = .ok (.aload_n 0, 1) := dk_42 (dk_at dksX1_undo_1 14 rfl rfl)
theorem dX1_undo_37 : decode cX1_undo 37 = .ok (.getfield 79, 3) := dk_180 0 79 (dk_at dksX1_undo_1 15 rfl rfl)
theorem dX1_undo_40 : decode cX1_undo 40 = .ok (.invokeinterface 100 1, 5) := by decide +kernel
theorem dX1_undo_45 : decode cX1_undo 45 = .ok (.ireturn, 1) := dk_172 (dk_at dksX1_undo_1 23 rfl rfl)
abbrev cX1_restore : ByteArray := prog_1_method_67_code
def yX1_restore : MethodName := ⟨RX1, "restore", "()V"⟩
def dkwX1_restore_1 : List UInt8 := [180, 0, 79, 185, 1, 144, 1, 0, 177]
abbrev dktX1_restore_1 : List UInt8 := dkwX1_restore_1 ++ []
def dkwX1_restore_0 : List UInt8 := [42, 180, 1, 141, 198, 0, 7, 4, 167, 0, 4, 3, 184, 1, 70, 42, 42, 180, 1, 141, 181, 0, 72, 42]
abbrev dktX1_restore_0 : List UInt8 := dkwX1_restore_0 ++ dktX1_restore_1
theorem dksX1_restore_0 : cX1_restore.data.toList.drop 0 = dktX1_restore_0 := by decide +kernel
theorem dksX1_restore_1 : cX1_restore.data.toList.drop 24 = dktX1_restore_1 := dk_seg dksX1_restore_0 24 rfl rfl
theorem dX1_restore_0 : decode cX1_restore 0 = .ok (.aload_n 0, 1) := dk_42 (dk_at dksX1_restore_0 0 rfl rfl)
theorem dX1_restore_1 : decode cX1_restore 1 = .ok (.getfield 397, 3) := dk_180 1 141 (dk_at dksX1_restore_0 1 rfl rfl)
theorem dX1_restore_4 : decode cX1_restore 4 = .ok (.ifnull 7, 3) := dk_198 0 7 (dk_at dksX1_restore_0 4 rfl rfl)
theorem dX1_restore_7 : decode cX1_restore 7 = .ok (.iconst 1, 1) := dk_4 (dk_at dksX1_restore_0 7 rfl rfl)
theorem dX1_restore_8 : decode cX1_restore 8 = .ok (.goto 4, 3) := dk_167 0 4 (dk_at dksX1_restore_0 8 rfl rfl)
theorem dX1_restore_11 : decode cX1_restore 11 = .ok (.iconst 0, 1) := dk_3 (dk_at dksX1_restore_0 11 rfl rfl)
theorem dX1_restore_12 : decode cX1_restore 12 = .ok (.invokestatic 326, 3) := dk_184 1 70 (dk_at dksX1_restore_0 12 rfl rfl)
theorem dX1_restore_15 : decode cX1_restore 15 = .ok (.aload_n 0, 1) := dk_42 (dk_at dksX1_restore_0 15 rfl rfl)
theorem dX1_restore_16 : decode cX1_restore 16 = .ok (.aload_n 0, 1) := dk_42 (dk_at dksX1_restore_0 16 rfl rfl)
theorem dX1_restore_17 : decode cX1_restore 17 = .ok (.getfield 397, 3) := dk_180 1 141 (dk_at dksX1_restore_0 17 rfl rfl)
theorem dX1_restore_20 : decode cX1_restore 20 = .ok (.putfield 72, 3) := dk_181 0 72 (dk_at dksX1_restore_0 20 rfl rfl)
theorem dX1_restore_23 : decode cX1_restore 23 = .ok (.aload_n 0, 1) := dk_42 (dk_at dksX1_restore_0 23 rfl rfl)
theorem dX1_restore_24 : decode cX1_restore 24 = .ok (.getfield 79, 3) := dk_180 0 79 (dk_at dksX1_restore_1 0 rfl rfl)
theorem dX1_restore_27 : decode cX1_restore 27 = .ok (.invokeinterface 400 1, 5) := by decide +kernel
theorem dX1_restore_32 : decode cX1_restore 32 = .ok (.return_, 1) := dk_177 (dk_at dksX1_restore_1 8 rfl rfl)
theorem q108 : (Jvm.Cond.initialized "BrambleLogic") ∈ lw_all := lw_g (lw_at lw_m1 1 rfl) rfl
theorem q168 : (Jvm.Cond.instantiable "BrambleLogic" (8 : Nat)) ∈ lw_all := lw_g (lw_at lw_m1 61 rfl) rfl
theorem q170 : (Jvm.Cond.instanceMethod ({ cls := "BrambleLogic", name := "<init>", desc := "()V" } : Jvm.MethodName)) ∈ lw_all := lw_g (lw_at lw_m1 63 rfl) rfl
theorem q171 : (Jvm.Cond.code ({ cls := "BrambleLogic", name := "<init>", desc := "()V" } : Jvm.MethodName) prog_1_method_18_code (1 : Nat) (Option.none : Option Jvm.ClassFile.FieldType)) ∈ lw_all := lw_g (lw_at lw_m1 64 rfl) rfl
theorem q172 : (Jvm.Cond.methodLink "BrambleLogic" (66 : Nat) ({ cls := "java/lang/Object", name := "<init>", desc := "()V" } : Jvm.MethodName)) ∈ lw_all := lw_g (lw_at lw_m1 65 rfl) rfl
theorem q175 : (Jvm.Cond.classLink "BrambleLogic" (69 : Nat) "BrambleLogic$Logic") ∈ lw_all := lw_g (lw_at lw_m1 68 rfl) rfl
theorem q177 : (Jvm.Cond.methodLink "BrambleLogic" (71 : Nat) ({ cls := "BrambleLogic$Logic", name := "<init>", desc := "()V" } : Jvm.MethodName)) ∈ lw_all := lw_g (lw_at lw_m1 70 rfl) rfl
theorem q244 : (Jvm.Cond.fieldLinkNest "BrambleLogic" (154 : Nat) "BrambleLogic$Facts" "codes" "[LBrambleLogic$Codes;" "BrambleLogic") ∈ lw_tbl := lw_at lw_m1 137 rfl
theorem q251 : (Jvm.Cond.fieldLinkNest "BrambleLogic" (131 : Nat) "BrambleLogic$Logic" "given" "LBrambleLogic$Facts;" "BrambleLogic") ∈ lw_tbl := lw_at lw_m1 144 rfl
theorem q255 : (Jvm.Cond.fieldLinkNest "BrambleLogic" (238 : Nat) "BrambleLogic$Logic" "rules" "Ljava/util/List;" "BrambleLogic") ∈ lw_tbl := lw_at lw_m1 148 rfl
theorem q257 : (Jvm.Cond.fieldLinkNest "BrambleLogic" (289 : Nat) "BrambleLogic$Logic" "account" "LBrambleLogic$Account;" "BrambleLogic") ∈ lw_tbl := lw_at lw_m1 150 rfl
theorem q268 : (Jvm.Cond.classLink "BrambleLogic" (76 : Nat) "java/util/ArrayDeque") ∈ lw_all := lw_g (lw_at lw_m1 161 rfl) rfl
theorem q270 : (Jvm.Cond.methodLink "BrambleLogic" (78 : Nat) ({ cls := "java/util/ArrayDeque", name := "<init>", desc := "()V" } : Jvm.MethodName)) ∈ lw_all := lw_g (lw_at lw_m1 163 rfl) rfl
theorem q286 : (Jvm.Cond.classLink "BrambleLogic" (52 : Nat) "java/lang/StringBuilder") ∈ lw_all := lw_g (lw_at lw_m1 179 rfl) rfl
theorem q288 : (Jvm.Cond.methodLink "BrambleLogic" (54 : Nat) ({ cls := "java/lang/StringBuilder", name := "<init>", desc := "()V" } : Jvm.MethodName)) ∈ lw_all := lw_g (lw_at lw_m1 181 rfl) rfl
theorem q319 : (Jvm.Cond.stringRef "BrambleLogic" (87 : Nat) "") ∈ lw_tbl := lw_at lw_m1 212 rfl
theorem q320 : (Jvm.Cond.fieldLink "BrambleLogic" (72 : Nat) "BrambleLogic" "logic" "LBrambleLogic$Logic;") ∈ lw_all := lw_g (lw_at lw_m1 213 rfl) rfl
theorem q321 : (Jvm.Cond.fieldLink "BrambleLogic" (397 : Nat) "BrambleLogic" "saved" "LBrambleLogic$Logic;") ∈ lw_all := lw_g (lw_at lw_m1 214 rfl) rfl
theorem q322 : (Jvm.Cond.fieldLink "BrambleLogic" (298 : Nat) "BrambleLogic" "refusal" "LBrambleLogic$RefusedException;") ∈ lw_all := lw_g (lw_at lw_m1 215 rfl) rfl
theorem q323 : (Jvm.Cond.fieldLink "BrambleLogic" (79 : Nat) "BrambleLogic" "history" "Ljava/util/Deque;") ∈ lw_all := lw_g (lw_at lw_m1 216 rfl) rfl
theorem q325 : (Jvm.Cond.fieldLink "BrambleLogic" (83 : Nat) "BrambleLogic" "buffer" "Ljava/lang/StringBuilder;") ∈ lw_all := lw_g (lw_at lw_m1 218 rfl) rfl
theorem q326 : (Jvm.Cond.fieldLink "BrambleLogic" (89 : Nat) "BrambleLogic" "output" "Ljava/lang/String;") ∈ lw_all := lw_g (lw_at lw_m1 219 rfl) rfl
theorem q327 : (Jvm.Cond.fieldLink "BrambleLogic" (93 : Nat) "BrambleLogic" "errorPosition" "I") ∈ lw_all := lw_g (lw_at lw_m1 220 rfl) rfl
theorem q328 : (Jvm.Cond.fieldLink "BrambleLogic" (97 : Nat) "BrambleLogic" "failedCommand" "I") ∈ lw_all := lw_g (lw_at lw_m1 221 rfl) rfl
theorem q329 : (Jvm.Cond.lays "BrambleLogic" "BrambleLogic" "logic" "LBrambleLogic$Logic;") ∈ lw_all := lw_g (lw_at lw_m1 222 rfl) rfl
theorem q330 : (Jvm.Cond.soleField "BrambleLogic" "logic") ∈ lw_all := lw_g (lw_at lw_m1 223 rfl) rfl
theorem q331 : (Jvm.Cond.lays "BrambleLogic" "BrambleLogic" "saved" "LBrambleLogic$Logic;") ∈ lw_all := lw_g (lw_at lw_m1 224 rfl) rfl
theorem q332 : (Jvm.Cond.soleField "BrambleLogic" "saved") ∈ lw_all := lw_g (lw_at lw_m1 225 rfl) rfl
theorem q333 : (Jvm.Cond.lays "BrambleLogic" "BrambleLogic" "refusal" "LBrambleLogic$RefusedException;") ∈ lw_all := lw_g (lw_at lw_m1 226 rfl) rfl
theorem q334 : (Jvm.Cond.soleField "BrambleLogic" "refusal") ∈ lw_all := lw_g (lw_at lw_m1 227 rfl) rfl
theorem q335 : (Jvm.Cond.laysFinal "BrambleLogic" "BrambleLogic" "history" "Ljava/util/Deque;") ∈ lw_all := lw_g (lw_at lw_m1 228 rfl) rfl
theorem q336 : (Jvm.Cond.soleField "BrambleLogic" "history") ∈ lw_all := lw_g (lw_at lw_m1 229 rfl) rfl
theorem q337 : (Jvm.Cond.laysFinal "BrambleLogic" "BrambleLogic" "buffer" "Ljava/lang/StringBuilder;") ∈ lw_all := lw_g (lw_at lw_m1 230 rfl) rfl
theorem q338 : (Jvm.Cond.soleField "BrambleLogic" "buffer") ∈ lw_all := lw_g (lw_at lw_m1 231 rfl) rfl
theorem q339 : (Jvm.Cond.lays "BrambleLogic" "BrambleLogic" "output" "Ljava/lang/String;") ∈ lw_all := lw_g (lw_at lw_m1 232 rfl) rfl
theorem q340 : (Jvm.Cond.soleField "BrambleLogic" "output") ∈ lw_all := lw_g (lw_at lw_m1 233 rfl) rfl
theorem q341 : (Jvm.Cond.lays "BrambleLogic" "BrambleLogic" "errorPosition" "I") ∈ lw_all := lw_g (lw_at lw_m1 234 rfl) rfl
theorem q342 : (Jvm.Cond.soleField "BrambleLogic" "errorPosition") ∈ lw_all := lw_g (lw_at lw_m1 235 rfl) rfl
theorem q343 : (Jvm.Cond.lays "BrambleLogic" "BrambleLogic" "failedCommand" "I") ∈ lw_all := lw_g (lw_at lw_m1 236 rfl) rfl
theorem q344 : (Jvm.Cond.soleField "BrambleLogic" "failedCommand") ∈ lw_all := lw_g (lw_at lw_m1 237 rfl) rfl
theorem q345 : (Jvm.Cond.superclass "BrambleLogic" "java/lang/Object") ∈ lw_all := lw_g (lw_at lw_m1 238 rfl) rfl
theorem q347 : (Jvm.Cond.instanceMethod ({ cls := "BrambleLogic", name := "givenCount", desc := "()I" } : Jvm.MethodName)) ∈ lw_all := lw_g (lw_at lw_m2 0 rfl) rfl
theorem q348 : (Jvm.Cond.selects "BrambleLogic" ({ cls := "BrambleLogic", name := "givenCount", desc := "()I" } : Jvm.MethodName) ({ cls := "BrambleLogic", name := "givenCount", desc := "()I" } : Jvm.MethodName)) ∈ lw_all := lw_g (lw_at lw_m2 1 rfl) rfl
theorem q349 : (Jvm.Cond.code ({ cls := "BrambleLogic", name := "givenCount", desc := "()I" } : Jvm.MethodName) prog_1_method_23_code (1 : Nat) (Option.some Jvm.ClassFile.FieldType.int)) ∈ lw_all := lw_g (lw_at lw_m2 2 rfl) rfl
theorem q350 : (Jvm.Cond.methodLink "BrambleLogic" (135 : Nat) ({ cls := "BrambleLogic$Facts", name := "count", desc := "()I" } : Jvm.MethodName)) ∈ lw_all := lw_g (lw_at lw_m2 3 rfl) rfl
theorem q365 : (Jvm.Cond.instanceMethod ({ cls := "BrambleLogic", name := "allTrue", desc := "()I" } : Jvm.MethodName)) ∈ lw_all := lw_g (lw_at lw_m2 18 rfl) rfl
theorem q366 : (Jvm.Cond.selects "BrambleLogic" ({ cls := "BrambleLogic", name := "allTrue", desc := "()I" } : Jvm.MethodName) ({ cls := "BrambleLogic", name := "allTrue", desc := "()I" } : Jvm.MethodName)) ∈ lw_all := lw_g (lw_at lw_m2 19 rfl) rfl
theorem q367 : (Jvm.Cond.code ({ cls := "BrambleLogic", name := "allTrue", desc := "()I" } : Jvm.MethodName) prog_1_method_28_code (1 : Nat) (Option.some Jvm.ClassFile.FieldType.int)) ∈ lw_all := lw_g (lw_at lw_m2 20 rfl) rfl
theorem q368 : (Jvm.Cond.methodLink "BrambleLogic" (147 : Nat) ({ cls := "BrambleLogic$Logic", name := "facts", desc := "()LBrambleLogic$Facts;" } : Jvm.MethodName)) ∈ lw_all := lw_g (lw_at lw_m2 21 rfl) rfl
theorem q692 : (Jvm.Cond.selects "BrambleLogic" ({ cls := "java/lang/Object", name := "getClass", desc := "()Ljava/lang/Class;" } : Jvm.MethodName) ({ cls := "java/lang/Object", name := "getClass", desc := "()Ljava/lang/Class;" } : Jvm.MethodName)) ∈ lw_all := lw_g (lw_at lw_m3 105 rfl) rfl
theorem q804 : (Jvm.Cond.static ({ cls := "BrambleLogic", name := "valueOf", desc := "(I[I)I" } : Jvm.MethodName)) ∈ lw_all := lw_g (lw_at lw_m3 217 rfl) rfl
theorem q805 : (Jvm.Cond.code ({ cls := "BrambleLogic", name := "valueOf", desc := "(I[I)I" } : Jvm.MethodName) prog_1_method_16_code (2 : Nat) (Option.some Jvm.ClassFile.FieldType.int)) ∈ lw_all := lw_g (lw_at lw_m3 218 rfl) rfl
theorem q807 : (Jvm.Cond.static ({ cls := "BrambleLogic", name := "isPair", desc := "(I)Z" } : Jvm.MethodName)) ∈ lw_all := lw_g (lw_at lw_m3 220 rfl) rfl
theorem q808 : (Jvm.Cond.code ({ cls := "BrambleLogic", name := "isPair", desc := "(I)Z" } : Jvm.MethodName) prog_1_method_10_code (1 : Nat) (Option.some Jvm.ClassFile.FieldType.boolean)) ∈ lw_all := lw_g (lw_at lw_m3 221 rfl) rfl
theorem q810 : (Jvm.Cond.static ({ cls := "BrambleLogic", name := "codeOf", desc := "(III)I" } : Jvm.MethodName)) ∈ lw_all := lw_g (lw_at lw_m3 223 rfl) rfl
theorem q811 : (Jvm.Cond.code ({ cls := "BrambleLogic", name := "codeOf", desc := "(III)I" } : Jvm.MethodName) prog_1_method_11_code (3 : Nat) (Option.some Jvm.ClassFile.FieldType.int)) ∈ lw_all := lw_g (lw_at lw_m3 224 rfl) rfl
theorem q812 : (Jvm.Cond.methodLink "BrambleLogic" (35 : Nat) ({ cls := "BrambleLogic", name := "isPair", desc := "(I)Z" } : Jvm.MethodName)) ∈ lw_all := lw_g (lw_at lw_m3 225 rfl) rfl
theorem q876 : (Jvm.Cond.instanceMethod ({ cls := "BrambleLogic", name := "ruleCount", desc := "()I" } : Jvm.MethodName)) ∈ lw_all := lw_g (lw_at lw_m4 49 rfl) rfl
theorem q877 : (Jvm.Cond.selects "BrambleLogic" ({ cls := "BrambleLogic", name := "ruleCount", desc := "()I" } : Jvm.MethodName) ({ cls := "BrambleLogic", name := "ruleCount", desc := "()I" } : Jvm.MethodName)) ∈ lw_all := lw_g (lw_at lw_m4 50 rfl) rfl
theorem q878 : (Jvm.Cond.code ({ cls := "BrambleLogic", name := "ruleCount", desc := "()I" } : Jvm.MethodName) prog_1_method_40_code (1 : Nat) (Option.some Jvm.ClassFile.FieldType.int)) ∈ lw_all := lw_g (lw_at lw_m4 51 rfl) rfl
theorem q879 : (Jvm.Cond.interfaceEntry "BrambleLogic" (242 : Nat)) ∈ lw_tbl := lw_at lw_m4 52 rfl
theorem q880 : (Jvm.Cond.methodLink "BrambleLogic" (242 : Nat) ({ cls := "java/util/List", name := "size", desc := "()I" } : Jvm.MethodName)) ∈ lw_all := lw_g (lw_at lw_m4 53 rfl) rfl
theorem q882 : (Jvm.Cond.instanceMethod ({ cls := "BrambleLogic", name := "givenByAccounts", desc := "()I" } : Jvm.MethodName)) ∈ lw_all := lw_g (lw_at lw_m4 55 rfl) rfl
theorem q883 : (Jvm.Cond.selects "BrambleLogic" ({ cls := "BrambleLogic", name := "givenByAccounts", desc := "()I" } : Jvm.MethodName) ({ cls := "BrambleLogic", name := "givenByAccounts", desc := "()I" } : Jvm.MethodName)) ∈ lw_all := lw_g (lw_at lw_m4 56 rfl) rfl
theorem q884 : (Jvm.Cond.code ({ cls := "BrambleLogic", name := "givenByAccounts", desc := "()I" } : Jvm.MethodName) prog_1_method_48_code (1 : Nat) (Option.some Jvm.ClassFile.FieldType.int)) ∈ lw_all := lw_g (lw_at lw_m4 57 rfl) rfl
theorem q885 : (Jvm.Cond.methodLink "BrambleLogic" (293 : Nat) ({ cls := "BrambleLogic$Account", name := "left", desc := "()I" } : Jvm.MethodName)) ∈ lw_all := lw_g (lw_at lw_m4 58 rfl) rfl
theorem q890 : (Jvm.Cond.instanceMethod ({ cls := "BrambleLogic", name := "isConsistent", desc := "()Z" } : Jvm.MethodName)) ∈ lw_all := lw_g (lw_at lw_m4 63 rfl) rfl
theorem q891 : (Jvm.Cond.selects "BrambleLogic" ({ cls := "BrambleLogic", name := "isConsistent", desc := "()Z" } : Jvm.MethodName) ({ cls := "BrambleLogic", name := "isConsistent", desc := "()Z" } : Jvm.MethodName)) ∈ lw_all := lw_g (lw_at lw_m4 64 rfl) rfl
theorem q892 : (Jvm.Cond.code ({ cls := "BrambleLogic", name := "isConsistent", desc := "()Z" } : Jvm.MethodName) prog_1_method_54_code (1 : Nat) (Option.some Jvm.ClassFile.FieldType.boolean)) ∈ lw_all := lw_g (lw_at lw_m4 65 rfl) rfl
theorem q893 : (Jvm.Cond.methodLink "BrambleLogic" (319 : Nat) ({ cls := "BrambleLogic$Logic", name := "isConsistent", desc := "()Z" } : Jvm.MethodName)) ∈ lw_all := lw_g (lw_at lw_m4 66 rfl) rfl
theorem q1002 : (Jvm.Cond.fieldLinkNest "BrambleLogic" (191 : Nat) "BrambleLogic$Heights" "heights" "[[I" "BrambleLogic") ∈ lw_tbl := lw_at lw_m4 175 rfl
theorem q1203 : (Jvm.Cond.instanceMethod ({ cls := "BrambleLogic", name := "writeGiven", desc := "()I" } : Jvm.MethodName)) ∈ lw_all := lw_g (lw_at lw_m5 136 rfl) rfl
theorem q1204 : (Jvm.Cond.selects "BrambleLogic" ({ cls := "BrambleLogic", name := "writeGiven", desc := "()I" } : Jvm.MethodName) ({ cls := "BrambleLogic", name := "writeGiven", desc := "()I" } : Jvm.MethodName)) ∈ lw_all := lw_g (lw_at lw_m5 137 rfl) rfl
theorem q1205 : (Jvm.Cond.code ({ cls := "BrambleLogic", name := "writeGiven", desc := "()I" } : Jvm.MethodName) prog_1_method_63_code (1 : Nat) (Option.some Jvm.ClassFile.FieldType.int)) ∈ lw_all := lw_g (lw_at lw_m5 138 rfl) rfl
theorem q1206 : (Jvm.Cond.methodLink "BrambleLogic" (384 : Nat) ({ cls := "BrambleLogic$Logic", name := "describeGiven", desc := "()Ljava/lang/String;" } : Jvm.MethodName)) ∈ lw_all := lw_g (lw_at lw_m5 139 rfl) rfl
theorem q1326 : (Jvm.Cond.static ({ cls := "BrambleLogic", name := "textOf", desc := "(II)Ljava/lang/String;" } : Jvm.MethodName)) ∈ lw_all := lw_g (lw_at lw_m6 19 rfl) rfl
theorem q1327 : (Jvm.Cond.code ({ cls := "BrambleLogic", name := "textOf", desc := "(II)Ljava/lang/String;" } : Jvm.MethodName) prog_1_method_15_code (3 : Nat) (Option.some (Jvm.ClassFile.FieldType.object "java/lang/String"))) ∈ lw_all := lw_g (lw_at lw_m6 20 rfl) rfl
theorem q1328 : (Jvm.Cond.methodLink "BrambleLogic" (55 : Nat) ({ cls := "java/lang/StringBuilder", name := "append", desc := "(C)Ljava/lang/StringBuilder;" } : Jvm.MethodName)) ∈ lw_all := lw_g (lw_at lw_m6 21 rfl) rfl
theorem q1348 : (Jvm.Cond.methodLink "BrambleLogic" (59 : Nat) ({ cls := "java/lang/StringBuilder", name := "append", desc := "(I)Ljava/lang/StringBuilder;" } : Jvm.MethodName)) ∈ lw_all := lw_g (lw_at lw_m6 41 rfl) rfl
theorem q1373 : (Jvm.Cond.methodLink "BrambleLogic" (62 : Nat) ({ cls := "java/lang/StringBuilder", name := "toString", desc := "()Ljava/lang/String;" } : Jvm.MethodName)) ∈ lw_all := lw_g (lw_at lw_m6 66 rfl) rfl
theorem q1450 : (Jvm.Cond.methodLink "BrambleLogic" (376 : Nat) ({ cls := "BrambleLogic", name := "write", desc := "(Ljava/lang/String;)I" } : Jvm.MethodName)) ∈ lw_all := lw_g (lw_at lw_m6 143 rfl) rfl
theorem q1451 : (Jvm.Cond.privateMethod ({ cls := "BrambleLogic", name := "write", desc := "(Ljava/lang/String;)I" } : Jvm.MethodName)) ∈ lw_tbl := lw_at lw_m6 144 rfl
theorem q1452 : (Jvm.Cond.instanceMethod ({ cls := "BrambleLogic", name := "write", desc := "(Ljava/lang/String;)I" } : Jvm.MethodName)) ∈ lw_all := lw_g (lw_at lw_m6 145 rfl) rfl
theorem q1453 : (Jvm.Cond.code ({ cls := "BrambleLogic", name := "write", desc := "(Ljava/lang/String;)I" } : Jvm.MethodName) prog_1_method_60_code (2 : Nat) (Option.some Jvm.ClassFile.FieldType.int)) ∈ lw_all := lw_g (lw_at lw_m6 146 rfl) rfl
theorem q1454 : (Jvm.Cond.methodLink "BrambleLogic" (370 : Nat) ({ cls := "java/lang/String", name := "length", desc := "()I" } : Jvm.MethodName)) ∈ lw_all := lw_g (lw_at lw_m6 147 rfl) rfl
theorem q1456 : (Jvm.Cond.instanceMethod ({ cls := "BrambleLogic", name := "save", desc := "()V" } : Jvm.MethodName)) ∈ lw_all := lw_g (lw_at lw_m6 149 rfl) rfl
theorem q1457 : (Jvm.Cond.selects "BrambleLogic" ({ cls := "BrambleLogic", name := "save", desc := "()V" } : Jvm.MethodName) ({ cls := "BrambleLogic", name := "save", desc := "()V" } : Jvm.MethodName)) ∈ lw_all := lw_g (lw_at lw_m6 150 rfl) rfl
theorem q1458 : (Jvm.Cond.code ({ cls := "BrambleLogic", name := "save", desc := "()V" } : Jvm.MethodName) prog_1_method_66_code (1 : Nat) (Option.none : Option Jvm.ClassFile.FieldType)) ∈ lw_all := lw_g (lw_at lw_m6 151 rfl) rfl
theorem q1466 : (Jvm.Cond.instanceMethod ({ cls := "BrambleLogic", name := "addFact", desc := "(CII)I" } : Jvm.MethodName)) ∈ lw_all := lw_g (lw_at lw_m6 159 rfl) rfl
theorem q1467 : (Jvm.Cond.selects "BrambleLogic" ({ cls := "BrambleLogic", name := "addFact", desc := "(CII)I" } : Jvm.MethodName) ({ cls := "BrambleLogic", name := "addFact", desc := "(CII)I" } : Jvm.MethodName)) ∈ lw_all := lw_g (lw_at lw_m6 160 rfl) rfl
theorem q1468 : (Jvm.Cond.code ({ cls := "BrambleLogic", name := "addFact", desc := "(CII)I" } : Jvm.MethodName) prog_1_method_20_code (6 : Nat) (Option.some Jvm.ClassFile.FieldType.int)) ∈ lw_all := lw_g (lw_at lw_m6 161 rfl) rfl
theorem q1469 : (Jvm.Cond.methodLink "BrambleLogic" (114 : Nat) ({ cls := "BrambleLogic$Logic", name := "<init>", desc := "(LBrambleLogic$Logic;)V" } : Jvm.MethodName)) ∈ lw_all := lw_g (lw_at lw_m6 162 rfl) rfl
theorem q1512 : (Jvm.Cond.methodLink "BrambleLogic" (117 : Nat) ({ cls := "BrambleLogic$Logic", name := "addFact", desc := "(CII)I" } : Jvm.MethodName)) ∈ lw_all := lw_g (lw_at lw_m6 205 rfl) rfl
theorem q1517 : (Jvm.Cond.static ({ cls := "BrambleLogic", name := "requireCode", desc := "(CII)I" } : Jvm.MethodName)) ∈ lw_all := lw_g (lw_at lw_m6 210 rfl) rfl
theorem q1518 : (Jvm.Cond.code ({ cls := "BrambleLogic", name := "requireCode", desc := "(CII)I" } : Jvm.MethodName) prog_1_method_12_code (5 : Nat) (Option.some Jvm.ClassFile.FieldType.int)) ∈ lw_all := lw_g (lw_at lw_m6 211 rfl) rfl
theorem q1519 : (Jvm.Cond.methodLink "BrambleLogic" (39 : Nat) ({ cls := "BrambleLogic", name := "requirePredicate", desc := "(C)I" } : Jvm.MethodName)) ∈ lw_all := lw_g (lw_at lw_m6 212 rfl) rfl
theorem q1520 : (Jvm.Cond.static ({ cls := "BrambleLogic", name := "requirePredicate", desc := "(C)I" } : Jvm.MethodName)) ∈ lw_all := lw_g (lw_at lw_m6 213 rfl) rfl
theorem q1521 : (Jvm.Cond.code ({ cls := "BrambleLogic", name := "requirePredicate", desc := "(C)I" } : Jvm.MethodName) prog_1_method_9_code (1 : Nat) (Option.some Jvm.ClassFile.FieldType.int)) ∈ lw_all := lw_g (lw_at lw_m6 214 rfl) rfl
theorem q1522 : (Jvm.Cond.methodLink "BrambleLogic" (3 : Nat) ({ cls := "BrambleLogic", name := "isBetween", desc := "(III)Z" } : Jvm.MethodName)) ∈ lw_all := lw_g (lw_at lw_m6 215 rfl) rfl
theorem q1523 : (Jvm.Cond.static ({ cls := "BrambleLogic", name := "isBetween", desc := "(III)Z" } : Jvm.MethodName)) ∈ lw_all := lw_g (lw_at lw_m6 216 rfl) rfl
theorem q1524 : (Jvm.Cond.code ({ cls := "BrambleLogic", name := "isBetween", desc := "(III)Z" } : Jvm.MethodName) prog_1_method_1_code (3 : Nat) (Option.some Jvm.ClassFile.FieldType.boolean)) ∈ lw_all := lw_g (lw_at lw_m6 217 rfl) rfl
theorem q1525 : (Jvm.Cond.methodLink "BrambleLogic" (32 : Nat) ({ cls := "BrambleLogic", name := "requireArgument", desc := "(Z)V" } : Jvm.MethodName)) ∈ lw_all := lw_g (lw_at lw_m6 218 rfl) rfl
theorem q1526 : (Jvm.Cond.static ({ cls := "BrambleLogic", name := "requireArgument", desc := "(Z)V" } : Jvm.MethodName)) ∈ lw_all := lw_g (lw_at lw_m6 219 rfl) rfl
theorem q1527 : (Jvm.Cond.code ({ cls := "BrambleLogic", name := "requireArgument", desc := "(Z)V" } : Jvm.MethodName) prog_1_method_3_code (1 : Nat) (Option.none : Option Jvm.ClassFile.FieldType)) ∈ lw_all := lw_g (lw_at lw_m6 220 rfl) rfl
theorem q1528 : (Jvm.Cond.classLink "BrambleLogic" (13 : Nat) "java/lang/IllegalArgumentException") ∈ lw_all := lw_g (lw_at lw_m6 221 rfl) rfl
theorem q1529 : (Jvm.Cond.methodLink "BrambleLogic" (15 : Nat) ({ cls := "java/lang/IllegalArgumentException", name := "<init>", desc := "()V" } : Jvm.MethodName)) ∈ lw_all := lw_g (lw_at lw_m6 222 rfl) rfl
theorem q1533 : (Jvm.Cond.methodLink "BrambleLogic" (43 : Nat) ({ cls := "BrambleLogic", name := "codeOf", desc := "(III)I" } : Jvm.MethodName)) ∈ lw_all := lw_g (lw_at lw_m6 226 rfl) rfl
theorem q1535 : (Jvm.Cond.static ({ cls := "BrambleLogic", name := "requireSupport", desc := "(Z)V" } : Jvm.MethodName)) ∈ lw_all := lw_g (lw_at lw_m6 228 rfl) rfl
theorem q1536 : (Jvm.Cond.code ({ cls := "BrambleLogic", name := "requireSupport", desc := "(Z)V" } : Jvm.MethodName) prog_1_method_6_code (1 : Nat) (Option.none : Option Jvm.ClassFile.FieldType)) ∈ lw_all := lw_g (lw_at lw_m6 229 rfl) rfl
theorem q1537 : (Jvm.Cond.classLink "BrambleLogic" (22 : Nat) "java/lang/UnsupportedOperationException") ∈ lw_all := lw_g (lw_at lw_m6 230 rfl) rfl
theorem q1546 : (Jvm.Cond.methodLink "BrambleLogic" (24 : Nat) ({ cls := "java/lang/UnsupportedOperationException", name := "<init>", desc := "()V" } : Jvm.MethodName)) ∈ lw_all := lw_g (lw_at lw_m6 239 rfl) rfl
theorem q1553 : (Jvm.Cond.static ({ cls := "BrambleLogic", name := "requireState", desc := "(Z)V" } : Jvm.MethodName)) ∈ lw_all := lw_g (lw_at lw_m7 6 rfl) rfl
theorem q1554 : (Jvm.Cond.code ({ cls := "BrambleLogic", name := "requireState", desc := "(Z)V" } : Jvm.MethodName) prog_1_method_4_code (1 : Nat) (Option.none : Option Jvm.ClassFile.FieldType)) ∈ lw_all := lw_g (lw_at lw_m7 7 rfl) rfl
theorem q1555 : (Jvm.Cond.classLink "BrambleLogic" (16 : Nat) "java/lang/IllegalStateException") ∈ lw_all := lw_g (lw_at lw_m7 8 rfl) rfl
theorem q1564 : (Jvm.Cond.methodLink "BrambleLogic" (18 : Nat) ({ cls := "java/lang/IllegalStateException", name := "<init>", desc := "()V" } : Jvm.MethodName)) ∈ lw_all := lw_g (lw_at lw_m7 17 rfl) rfl
theorem q1575 : (Jvm.Cond.methodLink "BrambleLogic" (121 : Nat) ({ cls := "BrambleLogic", name := "replaceLogic", desc := "(LBrambleLogic$Logic;)V" } : Jvm.MethodName)) ∈ lw_all := lw_g (lw_at lw_m7 28 rfl) rfl
theorem q1576 : (Jvm.Cond.privateMethod ({ cls := "BrambleLogic", name := "replaceLogic", desc := "(LBrambleLogic$Logic;)V" } : Jvm.MethodName)) ∈ lw_tbl := lw_at lw_m7 29 rfl
theorem q1577 : (Jvm.Cond.instanceMethod ({ cls := "BrambleLogic", name := "replaceLogic", desc := "(LBrambleLogic$Logic;)V" } : Jvm.MethodName)) ∈ lw_all := lw_g (lw_at lw_m7 30 rfl) rfl
theorem q1578 : (Jvm.Cond.code ({ cls := "BrambleLogic", name := "replaceLogic", desc := "(LBrambleLogic$Logic;)V" } : Jvm.MethodName) prog_1_method_19_code (2 : Nat) (Option.none : Option Jvm.ClassFile.FieldType)) ∈ lw_all := lw_g (lw_at lw_m7 31 rfl) rfl
theorem q1579 : (Jvm.Cond.interfaceEntry "BrambleLogic" (100 : Nat)) ∈ lw_tbl := lw_at lw_m7 32 rfl
theorem q1580 : (Jvm.Cond.methodLink "BrambleLogic" (100 : Nat) ({ cls := "java/util/Deque", name := "size", desc := "()I" } : Jvm.MethodName)) ∈ lw_all := lw_g (lw_at lw_m7 33 rfl) rfl
theorem q1592 : (Jvm.Cond.interfaceEntry "BrambleLogic" (106 : Nat)) ∈ lw_tbl := lw_at lw_m7 45 rfl
theorem q1593 : (Jvm.Cond.methodLink "BrambleLogic" (106 : Nat) ({ cls := "java/util/Deque", name := "removeFirst", desc := "()Ljava/lang/Object;" } : Jvm.MethodName)) ∈ lw_all := lw_g (lw_at lw_m7 46 rfl) rfl
theorem q1613 : (Jvm.Cond.interfaceEntry "BrambleLogic" (110 : Nat)) ∈ lw_tbl := lw_at lw_m7 66 rfl
theorem q1614 : (Jvm.Cond.methodLink "BrambleLogic" (110 : Nat) ({ cls := "java/util/Deque", name := "addLast", desc := "(Ljava/lang/Object;)V" } : Jvm.MethodName)) ∈ lw_all := lw_g (lw_at lw_m7 67 rfl) rfl
theorem q1644 : (Jvm.Cond.instanceMethod ({ cls := "BrambleLogic", name := "takeFact", desc := "(CII)I" } : Jvm.MethodName)) ∈ lw_all := lw_g (lw_at lw_m7 97 rfl) rfl
theorem q1645 : (Jvm.Cond.selects "BrambleLogic" ({ cls := "BrambleLogic", name := "takeFact", desc := "(CII)I" } : Jvm.MethodName) ({ cls := "BrambleLogic", name := "takeFact", desc := "(CII)I" } : Jvm.MethodName)) ∈ lw_all := lw_g (lw_at lw_m7 98 rfl) rfl
theorem q1646 : (Jvm.Cond.code ({ cls := "BrambleLogic", name := "takeFact", desc := "(CII)I" } : Jvm.MethodName) prog_1_method_21_code (6 : Nat) (Option.some Jvm.ClassFile.FieldType.int)) ∈ lw_all := lw_g (lw_at lw_m7 99 rfl) rfl
theorem q1647 : (Jvm.Cond.methodLink "BrambleLogic" (124 : Nat) ({ cls := "BrambleLogic$Logic", name := "takeFact", desc := "(CII)I" } : Jvm.MethodName)) ∈ lw_all := lw_g (lw_at lw_m7 100 rfl) rfl
theorem q1656 : (Jvm.Cond.static ({ cls := "BrambleLogic", name := "requireElement", desc := "(Z)V" } : Jvm.MethodName)) ∈ lw_all := lw_g (lw_at lw_m7 109 rfl) rfl
theorem q1657 : (Jvm.Cond.code ({ cls := "BrambleLogic", name := "requireElement", desc := "(Z)V" } : Jvm.MethodName) prog_1_method_5_code (1 : Nat) (Option.none : Option Jvm.ClassFile.FieldType)) ∈ lw_all := lw_g (lw_at lw_m7 110 rfl) rfl
theorem q1658 : (Jvm.Cond.classLink "BrambleLogic" (19 : Nat) "java/util/NoSuchElementException") ∈ lw_all := lw_g (lw_at lw_m7 111 rfl) rfl
theorem q1659 : (Jvm.Cond.methodLink "BrambleLogic" (21 : Nat) ({ cls := "java/util/NoSuchElementException", name := "<init>", desc := "()V" } : Jvm.MethodName)) ∈ lw_all := lw_g (lw_at lw_m7 112 rfl) rfl
theorem q1693 : (Jvm.Cond.instanceMethod ({ cls := "BrambleLogic", name := "dropRule", desc := "(I)I" } : Jvm.MethodName)) ∈ lw_all := lw_g (lw_at lw_m7 146 rfl) rfl
theorem q1694 : (Jvm.Cond.selects "BrambleLogic" ({ cls := "BrambleLogic", name := "dropRule", desc := "(I)I" } : Jvm.MethodName) ({ cls := "BrambleLogic", name := "dropRule", desc := "(I)I" } : Jvm.MethodName)) ∈ lw_all := lw_g (lw_at lw_m7 147 rfl) rfl
theorem q1695 : (Jvm.Cond.code ({ cls := "BrambleLogic", name := "dropRule", desc := "(I)I" } : Jvm.MethodName) prog_1_method_22_code (4 : Nat) (Option.some Jvm.ClassFile.FieldType.int)) ∈ lw_all := lw_g (lw_at lw_m7 148 rfl) rfl
theorem q1696 : (Jvm.Cond.methodLink "BrambleLogic" (127 : Nat) ({ cls := "BrambleLogic$Logic", name := "dropRule", desc := "(I)I" } : Jvm.MethodName)) ∈ lw_all := lw_g (lw_at lw_m7 149 rfl) rfl
theorem q1703 : (Jvm.Cond.static ({ cls := "BrambleLogic", name := "requireIndex", desc := "(II)V" } : Jvm.MethodName)) ∈ lw_all := lw_g (lw_at lw_m7 156 rfl) rfl
theorem q1704 : (Jvm.Cond.code ({ cls := "BrambleLogic", name := "requireIndex", desc := "(II)V" } : Jvm.MethodName) prog_1_method_2_code (2 : Nat) (Option.none : Option Jvm.ClassFile.FieldType)) ∈ lw_all := lw_g (lw_at lw_m7 157 rfl) rfl
theorem q1705 : (Jvm.Cond.classLink "BrambleLogic" (7 : Nat) "java/lang/IndexOutOfBoundsException") ∈ lw_all := lw_g (lw_at lw_m7 158 rfl) rfl
theorem q1714 : (Jvm.Cond.methodLink "BrambleLogic" (9 : Nat) ({ cls := "java/lang/IndexOutOfBoundsException", name := "<init>", desc := "()V" } : Jvm.MethodName)) ∈ lw_all := lw_g (lw_at lw_m7 167 rfl) rfl
theorem q1737 : (Jvm.Cond.instanceMethod ({ cls := "BrambleLogic", name := "isGiven", desc := "(CII)Z" } : Jvm.MethodName)) ∈ lw_all := lw_g (lw_at lw_m7 190 rfl) rfl
theorem q1738 : (Jvm.Cond.selects "BrambleLogic" ({ cls := "BrambleLogic", name := "isGiven", desc := "(CII)Z" } : Jvm.MethodName) ({ cls := "BrambleLogic", name := "isGiven", desc := "(CII)Z" } : Jvm.MethodName)) ∈ lw_all := lw_g (lw_at lw_m7 191 rfl) rfl
theorem q1739 : (Jvm.Cond.code ({ cls := "BrambleLogic", name := "isGiven", desc := "(CII)Z" } : Jvm.MethodName) prog_1_method_24_code (5 : Nat) (Option.some Jvm.ClassFile.FieldType.boolean)) ∈ lw_all := lw_g (lw_at lw_m7 192 rfl) rfl
theorem q1740 : (Jvm.Cond.methodLink "BrambleLogic" (140 : Nat) ({ cls := "BrambleLogic", name := "requireCode", desc := "(CII)I" } : Jvm.MethodName)) ∈ lw_all := lw_g (lw_at lw_m7 193 rfl) rfl
theorem q1741 : (Jvm.Cond.methodLink "BrambleLogic" (143 : Nat) ({ cls := "BrambleLogic$Facts", name := "has", desc := "(II)Z" } : Jvm.MethodName)) ∈ lw_all := lw_g (lw_at lw_m7 194 rfl) rfl
theorem q1746 : (Jvm.Cond.instanceMethod ({ cls := "BrambleLogic", name := "isTrue", desc := "(CII)Z" } : Jvm.MethodName)) ∈ lw_all := lw_g (lw_at lw_m7 199 rfl) rfl
theorem q1747 : (Jvm.Cond.selects "BrambleLogic" ({ cls := "BrambleLogic", name := "isTrue", desc := "(CII)Z" } : Jvm.MethodName) ({ cls := "BrambleLogic", name := "isTrue", desc := "(CII)Z" } : Jvm.MethodName)) ∈ lw_all := lw_g (lw_at lw_m7 200 rfl) rfl
theorem q1748 : (Jvm.Cond.code ({ cls := "BrambleLogic", name := "isTrue", desc := "(CII)Z" } : Jvm.MethodName) prog_1_method_25_code (5 : Nat) (Option.some Jvm.ClassFile.FieldType.boolean)) ∈ lw_all := lw_g (lw_at lw_m7 201 rfl) rfl
theorem q1753 : (Jvm.Cond.instanceMethod ({ cls := "BrambleLogic", name := "isTrueByTrying", desc := "(CII)Z" } : Jvm.MethodName)) ∈ lw_all := lw_g (lw_at lw_m7 206 rfl) rfl
theorem q1754 : (Jvm.Cond.selects "BrambleLogic" ({ cls := "BrambleLogic", name := "isTrueByTrying", desc := "(CII)Z" } : Jvm.MethodName) ({ cls := "BrambleLogic", name := "isTrueByTrying", desc := "(CII)Z" } : Jvm.MethodName)) ∈ lw_all := lw_g (lw_at lw_m7 207 rfl) rfl
theorem q1755 : (Jvm.Cond.code ({ cls := "BrambleLogic", name := "isTrueByTrying", desc := "(CII)Z" } : Jvm.MethodName) prog_1_method_26_code (5 : Nat) (Option.some Jvm.ClassFile.FieldType.boolean)) ∈ lw_all := lw_g (lw_at lw_m7 208 rfl) rfl
theorem q1756 : (Jvm.Cond.methodLink "BrambleLogic" (151 : Nat) ({ cls := "BrambleLogic$Logic", name := "byTrying", desc := "()LBrambleLogic$Facts;" } : Jvm.MethodName)) ∈ lw_all := lw_g (lw_at lw_m7 209 rfl) rfl
theorem q1761 : (Jvm.Cond.instanceMethod ({ cls := "BrambleLogic", name := "trueCount", desc := "(C)I" } : Jvm.MethodName)) ∈ lw_all := lw_g (lw_at lw_m7 214 rfl) rfl
theorem q1762 : (Jvm.Cond.selects "BrambleLogic" ({ cls := "BrambleLogic", name := "trueCount", desc := "(C)I" } : Jvm.MethodName) ({ cls := "BrambleLogic", name := "trueCount", desc := "(C)I" } : Jvm.MethodName)) ∈ lw_all := lw_g (lw_at lw_m7 215 rfl) rfl
theorem q1763 : (Jvm.Cond.code ({ cls := "BrambleLogic", name := "trueCount", desc := "(C)I" } : Jvm.MethodName) prog_1_method_27_code (2 : Nat) (Option.some Jvm.ClassFile.FieldType.int)) ∈ lw_all := lw_g (lw_at lw_m7 216 rfl) rfl
theorem q1764 : (Jvm.Cond.methodLink "BrambleLogic" (158 : Nat) ({ cls := "BrambleLogic$Codes", name := "count", desc := "()I" } : Jvm.MethodName)) ∈ lw_all := lw_g (lw_at lw_m7 217 rfl) rfl
theorem q1769 : (Jvm.Cond.instanceMethod ({ cls := "BrambleLogic", name := "gainedWithout", desc := "(CII)I" } : Jvm.MethodName)) ∈ lw_all := lw_g (lw_at lw_m7 222 rfl) rfl
theorem q1770 : (Jvm.Cond.selects "BrambleLogic" ({ cls := "BrambleLogic", name := "gainedWithout", desc := "(CII)I" } : Jvm.MethodName) ({ cls := "BrambleLogic", name := "gainedWithout", desc := "(CII)I" } : Jvm.MethodName)) ∈ lw_all := lw_g (lw_at lw_m7 223 rfl) rfl
theorem q1771 : (Jvm.Cond.code ({ cls := "BrambleLogic", name := "gainedWithout", desc := "(CII)I" } : Jvm.MethodName) prog_1_method_29_code (5 : Nat) (Option.some Jvm.ClassFile.FieldType.int)) ∈ lw_all := lw_g (lw_at lw_m7 224 rfl) rfl
theorem q1772 : (Jvm.Cond.methodLink "BrambleLogic" (161 : Nat) ({ cls := "BrambleLogic$Logic", name := "without", desc := "(CI)LBrambleLogic$Facts;" } : Jvm.MethodName)) ∈ lw_all := lw_g (lw_at lw_m7 225 rfl) rfl
theorem q1773 : (Jvm.Cond.methodLink "BrambleLogic" (165 : Nat) ({ cls := "BrambleLogic$Facts", name := "countWithout", desc := "(LBrambleLogic$Facts;)I" } : Jvm.MethodName)) ∈ lw_all := lw_g (lw_at lw_m7 226 rfl) rfl
theorem q1778 : (Jvm.Cond.instanceMethod ({ cls := "BrambleLogic", name := "constantAtRank", desc := "(CI)I" } : Jvm.MethodName)) ∈ lw_all := lw_g (lw_at lw_m7 231 rfl) rfl
theorem q1779 : (Jvm.Cond.selects "BrambleLogic" ({ cls := "BrambleLogic", name := "constantAtRank", desc := "(CI)I" } : Jvm.MethodName) ({ cls := "BrambleLogic", name := "constantAtRank", desc := "(CI)I" } : Jvm.MethodName)) ∈ lw_all := lw_g (lw_at lw_m7 232 rfl) rfl
theorem q1780 : (Jvm.Cond.code ({ cls := "BrambleLogic", name := "constantAtRank", desc := "(CI)I" } : Jvm.MethodName) prog_1_method_30_code (4 : Nat) (Option.some Jvm.ClassFile.FieldType.int)) ∈ lw_all := lw_g (lw_at lw_m7 233 rfl) rfl
theorem q1781 : (Jvm.Cond.methodLink "BrambleLogic" (169 : Nat) ({ cls := "BrambleLogic$Logic", name := "constantAtRank", desc := "(II)I" } : Jvm.MethodName)) ∈ lw_all := lw_g (lw_at lw_m7 234 rfl) rfl
theorem q1790 : (Jvm.Cond.methodLink "BrambleLogic" (173 : Nat) ({ cls := "BrambleLogic", name := "requireFound", desc := "(I)I" } : Jvm.MethodName)) ∈ lw_all := lw_g (lw_at lw_m8 3 rfl) rfl
theorem q1791 : (Jvm.Cond.static ({ cls := "BrambleLogic", name := "requireFound", desc := "(I)I" } : Jvm.MethodName)) ∈ lw_all := lw_g (lw_at lw_m8 4 rfl) rfl
theorem q1792 : (Jvm.Cond.code ({ cls := "BrambleLogic", name := "requireFound", desc := "(I)I" } : Jvm.MethodName) prog_1_method_7_code (1 : Nat) (Option.some Jvm.ClassFile.FieldType.int)) ∈ lw_all := lw_g (lw_at lw_m8 5 rfl) rfl
theorem q1793 : (Jvm.Cond.methodLink "BrambleLogic" (25 : Nat) ({ cls := "BrambleLogic", name := "requireElement", desc := "(Z)V" } : Jvm.MethodName)) ∈ lw_all := lw_g (lw_at lw_m8 6 rfl) rfl
theorem q1798 : (Jvm.Cond.instanceMethod ({ cls := "BrambleLogic", name := "greatest", desc := "(C)I" } : Jvm.MethodName)) ∈ lw_all := lw_g (lw_at lw_m8 11 rfl) rfl
theorem q1799 : (Jvm.Cond.selects "BrambleLogic" ({ cls := "BrambleLogic", name := "greatest", desc := "(C)I" } : Jvm.MethodName) ({ cls := "BrambleLogic", name := "greatest", desc := "(C)I" } : Jvm.MethodName)) ∈ lw_all := lw_g (lw_at lw_m8 12 rfl) rfl
theorem q1800 : (Jvm.Cond.code ({ cls := "BrambleLogic", name := "greatest", desc := "(C)I" } : Jvm.MethodName) prog_1_method_31_code (3 : Nat) (Option.some Jvm.ClassFile.FieldType.int)) ∈ lw_all := lw_g (lw_at lw_m8 13 rfl) rfl
theorem q1801 : (Jvm.Cond.methodLink "BrambleLogic" (176 : Nat) ({ cls := "BrambleLogic$Logic", name := "greatest", desc := "(I)I" } : Jvm.MethodName)) ∈ lw_all := lw_g (lw_at lw_m8 14 rfl) rfl
theorem q1810 : (Jvm.Cond.instanceMethod ({ cls := "BrambleLogic", name := "height", desc := "(CII)I" } : Jvm.MethodName)) ∈ lw_all := lw_g (lw_at lw_m8 23 rfl) rfl
theorem q1811 : (Jvm.Cond.selects "BrambleLogic" ({ cls := "BrambleLogic", name := "height", desc := "(CII)I" } : Jvm.MethodName) ({ cls := "BrambleLogic", name := "height", desc := "(CII)I" } : Jvm.MethodName)) ∈ lw_all := lw_g (lw_at lw_m8 24 rfl) rfl
theorem q1812 : (Jvm.Cond.code ({ cls := "BrambleLogic", name := "height", desc := "(CII)I" } : Jvm.MethodName) prog_1_method_33_code (5 : Nat) (Option.some Jvm.ClassFile.FieldType.int)) ∈ lw_all := lw_g (lw_at lw_m8 25 rfl) rfl
theorem q1813 : (Jvm.Cond.methodLink "BrambleLogic" (182 : Nat) ({ cls := "BrambleLogic", name := "requireTrue", desc := "(CII)I" } : Jvm.MethodName)) ∈ lw_all := lw_g (lw_at lw_m8 26 rfl) rfl
theorem q1814 : (Jvm.Cond.privateMethod ({ cls := "BrambleLogic", name := "requireTrue", desc := "(CII)I" } : Jvm.MethodName)) ∈ lw_tbl := lw_at lw_m8 27 rfl
theorem q1815 : (Jvm.Cond.instanceMethod ({ cls := "BrambleLogic", name := "requireTrue", desc := "(CII)I" } : Jvm.MethodName)) ∈ lw_all := lw_g (lw_at lw_m8 28 rfl) rfl
theorem q1816 : (Jvm.Cond.code ({ cls := "BrambleLogic", name := "requireTrue", desc := "(CII)I" } : Jvm.MethodName) prog_1_method_32_code (5 : Nat) (Option.some Jvm.ClassFile.FieldType.int)) ∈ lw_all := lw_g (lw_at lw_m8 29 rfl) rfl
theorem q1817 : (Jvm.Cond.methodLink "BrambleLogic" (179 : Nat) ({ cls := "BrambleLogic$Logic", name := "requireTrue", desc := "(II)V" } : Jvm.MethodName)) ∈ lw_all := lw_g (lw_at lw_m8 30 rfl) rfl
theorem q1821 : (Jvm.Cond.classLink "BrambleLogic" (184 : Nat) "BrambleLogic$Heights") ∈ lw_all := lw_g (lw_at lw_m8 34 rfl) rfl
theorem q1822 : (Jvm.Cond.methodLink "BrambleLogic" (186 : Nat) ({ cls := "BrambleLogic$Heights", name := "<init>", desc := "(LBrambleLogic$Logic;)V" } : Jvm.MethodName)) ∈ lw_all := lw_g (lw_at lw_m8 35 rfl) rfl
theorem q1823 : (Jvm.Cond.methodLink "BrambleLogic" (187 : Nat) ({ cls := "BrambleLogic$Heights", name := "inRounds", desc := "()LBrambleLogic$Heights;" } : Jvm.MethodName)) ∈ lw_all := lw_g (lw_at lw_m8 36 rfl) rfl
theorem q1828 : (Jvm.Cond.instanceMethod ({ cls := "BrambleLogic", name := "heightByLevels", desc := "(CII)I" } : Jvm.MethodName)) ∈ lw_all := lw_g (lw_at lw_m8 41 rfl) rfl
theorem q1829 : (Jvm.Cond.selects "BrambleLogic" ({ cls := "BrambleLogic", name := "heightByLevels", desc := "(CII)I" } : Jvm.MethodName) ({ cls := "BrambleLogic", name := "heightByLevels", desc := "(CII)I" } : Jvm.MethodName)) ∈ lw_all := lw_g (lw_at lw_m8 42 rfl) rfl
theorem q1830 : (Jvm.Cond.code ({ cls := "BrambleLogic", name := "heightByLevels", desc := "(CII)I" } : Jvm.MethodName) prog_1_method_34_code (5 : Nat) (Option.some Jvm.ClassFile.FieldType.int)) ∈ lw_all := lw_g (lw_at lw_m8 43 rfl) rfl
theorem q1831 : (Jvm.Cond.methodLink "BrambleLogic" (195 : Nat) ({ cls := "BrambleLogic$Heights", name := "byLevels", desc := "()LBrambleLogic$Heights;" } : Jvm.MethodName)) ∈ lw_all := lw_g (lw_at lw_m8 44 rfl) rfl
theorem q1836 : (Jvm.Cond.instanceMethod ({ cls := "BrambleLogic", name := "ruleOf", desc := "(CII)I" } : Jvm.MethodName)) ∈ lw_all := lw_g (lw_at lw_m8 49 rfl) rfl
theorem q1837 : (Jvm.Cond.selects "BrambleLogic" ({ cls := "BrambleLogic", name := "ruleOf", desc := "(CII)I" } : Jvm.MethodName) ({ cls := "BrambleLogic", name := "ruleOf", desc := "(CII)I" } : Jvm.MethodName)) ∈ lw_all := lw_g (lw_at lw_m8 50 rfl) rfl
theorem q1838 : (Jvm.Cond.code ({ cls := "BrambleLogic", name := "ruleOf", desc := "(CII)I" } : Jvm.MethodName) prog_1_method_35_code (5 : Nat) (Option.some Jvm.ClassFile.FieldType.int)) ∈ lw_all := lw_g (lw_at lw_m8 51 rfl) rfl
theorem q1839 : (Jvm.Cond.methodLink "BrambleLogic" (198 : Nat) ({ cls := "BrambleLogic$Logic", name := "isDerived", desc := "(II)Z" } : Jvm.MethodName)) ∈ lw_all := lw_g (lw_at lw_m8 52 rfl) rfl
theorem q1843 : (Jvm.Cond.methodLink "BrambleLogic" (201 : Nat) ({ cls := "BrambleLogic$Heights", name := "step", desc := "(II)LBrambleLogic$Step;" } : Jvm.MethodName)) ∈ lw_all := lw_g (lw_at lw_m8 56 rfl) rfl
theorem q1885 : (Jvm.Cond.fieldLinkNest "BrambleLogic" (205 : Nat) "BrambleLogic$Step" "number" "I" "BrambleLogic") ∈ lw_tbl := lw_at lw_m8 98 rfl
theorem q1901 : (Jvm.Cond.instanceMethod ({ cls := "BrambleLogic", name := "proofSize", desc := "(CII)J" } : Jvm.MethodName)) ∈ lw_all := lw_g (lw_at lw_m8 114 rfl) rfl
theorem q1902 : (Jvm.Cond.selects "BrambleLogic" ({ cls := "BrambleLogic", name := "proofSize", desc := "(CII)J" } : Jvm.MethodName) ({ cls := "BrambleLogic", name := "proofSize", desc := "(CII)J" } : Jvm.MethodName)) ∈ lw_all := lw_g (lw_at lw_m8 115 rfl) rfl
theorem q1903 : (Jvm.Cond.code ({ cls := "BrambleLogic", name := "proofSize", desc := "(CII)J" } : Jvm.MethodName) prog_1_method_36_code (5 : Nat) (Option.some Jvm.ClassFile.FieldType.long)) ∈ lw_all := lw_g (lw_at lw_m8 116 rfl) rfl
theorem q1904 : (Jvm.Cond.classLink "BrambleLogic" (210 : Nat) "[[J") ∈ lw_all := lw_g (lw_at lw_m8 117 rfl) rfl
theorem q1906 : (Jvm.Cond.methodLink "BrambleLogic" (212 : Nat) ({ cls := "BrambleLogic$Heights", name := "size", desc := "(II[[J)J" } : Jvm.MethodName)) ∈ lw_all := lw_g (lw_at lw_m8 119 rfl) rfl
theorem q1921 : (Jvm.Cond.instanceMethod ({ cls := "BrambleLogic", name := "answers", desc := "(CII)I" } : Jvm.MethodName)) ∈ lw_all := lw_g (lw_at lw_m8 134 rfl) rfl
theorem q1922 : (Jvm.Cond.selects "BrambleLogic" ({ cls := "BrambleLogic", name := "answers", desc := "(CII)I" } : Jvm.MethodName) ({ cls := "BrambleLogic", name := "answers", desc := "(CII)I" } : Jvm.MethodName)) ∈ lw_all := lw_g (lw_at lw_m8 135 rfl) rfl
theorem q1923 : (Jvm.Cond.code ({ cls := "BrambleLogic", name := "answers", desc := "(CII)I" } : Jvm.MethodName) prog_1_method_37_code (5 : Nat) (Option.some Jvm.ClassFile.FieldType.int)) ∈ lw_all := lw_g (lw_at lw_m8 136 rfl) rfl
theorem q1924 : (Jvm.Cond.methodLink "BrambleLogic" (215 : Nat) ({ cls := "BrambleLogic", name := "requireGoal", desc := "(CII)I" } : Jvm.MethodName)) ∈ lw_all := lw_g (lw_at lw_m8 137 rfl) rfl
theorem q1925 : (Jvm.Cond.static ({ cls := "BrambleLogic", name := "requireGoal", desc := "(CII)I" } : Jvm.MethodName)) ∈ lw_all := lw_g (lw_at lw_m8 138 rfl) rfl
theorem q1926 : (Jvm.Cond.code ({ cls := "BrambleLogic", name := "requireGoal", desc := "(CII)I" } : Jvm.MethodName) prog_1_method_13_code (4 : Nat) (Option.some Jvm.ClassFile.FieldType.int)) ∈ lw_all := lw_g (lw_at lw_m8 139 rfl) rfl
theorem q1927 : (Jvm.Cond.classLink "BrambleLogic" (218 : Nat) "BrambleLogic$Goal") ∈ lw_all := lw_g (lw_at lw_m8 140 rfl) rfl
theorem q1928 : (Jvm.Cond.methodLink "BrambleLogic" (220 : Nat) ({ cls := "BrambleLogic$Goal", name := "<init>", desc := "(III)V" } : Jvm.MethodName)) ∈ lw_all := lw_g (lw_at lw_m8 141 rfl) rfl
theorem q1929 : (Jvm.Cond.methodLink "BrambleLogic" (223 : Nat) ({ cls := "BrambleLogic$Logic", name := "answers", desc := "(LBrambleLogic$Goal;)I" } : Jvm.MethodName)) ∈ lw_all := lw_g (lw_at lw_m8 142 rfl) rfl
theorem q1938 : (Jvm.Cond.instanceMethod ({ cls := "BrambleLogic", name := "answersByGoals", desc := "(CII)I" } : Jvm.MethodName)) ∈ lw_all := lw_g (lw_at lw_m8 151 rfl) rfl
theorem q1939 : (Jvm.Cond.selects "BrambleLogic" ({ cls := "BrambleLogic", name := "answersByGoals", desc := "(CII)I" } : Jvm.MethodName) ({ cls := "BrambleLogic", name := "answersByGoals", desc := "(CII)I" } : Jvm.MethodName)) ∈ lw_all := lw_g (lw_at lw_m8 152 rfl) rfl
theorem q1940 : (Jvm.Cond.code ({ cls := "BrambleLogic", name := "answersByGoals", desc := "(CII)I" } : Jvm.MethodName) prog_1_method_38_code (5 : Nat) (Option.some Jvm.ClassFile.FieldType.int)) ∈ lw_all := lw_g (lw_at lw_m8 153 rfl) rfl
theorem q1941 : (Jvm.Cond.classLink "BrambleLogic" (227 : Nat) "BrambleLogic$Goals") ∈ lw_all := lw_g (lw_at lw_m8 154 rfl) rfl
theorem q1942 : (Jvm.Cond.methodLink "BrambleLogic" (229 : Nat) ({ cls := "BrambleLogic$Goals", name := "<init>", desc := "(LBrambleLogic$Logic;)V" } : Jvm.MethodName)) ∈ lw_all := lw_g (lw_at lw_m8 155 rfl) rfl
theorem q1943 : (Jvm.Cond.methodLink "BrambleLogic" (230 : Nat) ({ cls := "BrambleLogic$Goals", name := "solve", desc := "(III)LBrambleLogic$Codes;" } : Jvm.MethodName)) ∈ lw_all := lw_g (lw_at lw_m8 156 rfl) rfl
theorem q1948 : (Jvm.Cond.instanceMethod ({ cls := "BrambleLogic", name := "answerAt", desc := "(CIII)I" } : Jvm.MethodName)) ∈ lw_all := lw_g (lw_at lw_m8 161 rfl) rfl
theorem q1949 : (Jvm.Cond.selects "BrambleLogic" ({ cls := "BrambleLogic", name := "answerAt", desc := "(CIII)I" } : Jvm.MethodName) ({ cls := "BrambleLogic", name := "answerAt", desc := "(CIII)I" } : Jvm.MethodName)) ∈ lw_all := lw_g (lw_at lw_m8 162 rfl) rfl
theorem q1950 : (Jvm.Cond.code ({ cls := "BrambleLogic", name := "answerAt", desc := "(CIII)I" } : Jvm.MethodName) prog_1_method_39_code (6 : Nat) (Option.some Jvm.ClassFile.FieldType.int)) ∈ lw_all := lw_g (lw_at lw_m8 163 rfl) rfl
theorem q1951 : (Jvm.Cond.methodLink "BrambleLogic" (234 : Nat) ({ cls := "BrambleLogic$Logic", name := "answerAt", desc := "(LBrambleLogic$Goal;I)I" } : Jvm.MethodName)) ∈ lw_all := lw_g (lw_at lw_m8 164 rfl) rfl
theorem q1959 : (Jvm.Cond.instanceMethod ({ cls := "BrambleLogic", name := "variables", desc := "(I)I" } : Jvm.MethodName)) ∈ lw_all := lw_g (lw_at lw_m8 172 rfl) rfl
theorem q1960 : (Jvm.Cond.selects "BrambleLogic" ({ cls := "BrambleLogic", name := "variables", desc := "(I)I" } : Jvm.MethodName) ({ cls := "BrambleLogic", name := "variables", desc := "(I)I" } : Jvm.MethodName)) ∈ lw_all := lw_g (lw_at lw_m8 173 rfl) rfl
theorem q1961 : (Jvm.Cond.code ({ cls := "BrambleLogic", name := "variables", desc := "(I)I" } : Jvm.MethodName) prog_1_method_42_code (2 : Nat) (Option.some Jvm.ClassFile.FieldType.int)) ∈ lw_all := lw_g (lw_at lw_m8 174 rfl) rfl
theorem q1962 : (Jvm.Cond.methodLink "BrambleLogic" (254 : Nat) ({ cls := "BrambleLogic", name := "requireRule", desc := "(I)LBrambleLogic$Rule;" } : Jvm.MethodName)) ∈ lw_all := lw_g (lw_at lw_m8 175 rfl) rfl
theorem q1963 : (Jvm.Cond.privateMethod ({ cls := "BrambleLogic", name := "requireRule", desc := "(I)LBrambleLogic$Rule;" } : Jvm.MethodName)) ∈ lw_tbl := lw_at lw_m8 176 rfl
theorem q1964 : (Jvm.Cond.instanceMethod ({ cls := "BrambleLogic", name := "requireRule", desc := "(I)LBrambleLogic$Rule;" } : Jvm.MethodName)) ∈ lw_all := lw_g (lw_at lw_m8 177 rfl) rfl
theorem q1965 : (Jvm.Cond.code ({ cls := "BrambleLogic", name := "requireRule", desc := "(I)LBrambleLogic$Rule;" } : Jvm.MethodName) prog_1_method_41_code (2 : Nat) (Option.some (Jvm.ClassFile.FieldType.object "BrambleLogic$Rule"))) ∈ lw_all := lw_g (lw_at lw_m8 178 rfl) rfl
theorem q1966 : (Jvm.Cond.methodLink "BrambleLogic" (245 : Nat) ({ cls := "BrambleLogic", name := "requireIndex", desc := "(II)V" } : Jvm.MethodName)) ∈ lw_all := lw_g (lw_at lw_m8 179 rfl) rfl
theorem q1967 : (Jvm.Cond.interfaceEntry "BrambleLogic" (248 : Nat)) ∈ lw_tbl := lw_at lw_m8 180 rfl
theorem q1968 : (Jvm.Cond.methodLink "BrambleLogic" (248 : Nat) ({ cls := "java/util/List", name := "get", desc := "(I)Ljava/lang/Object;" } : Jvm.MethodName)) ∈ lw_all := lw_g (lw_at lw_m8 181 rfl) rfl
theorem q1969 : (Jvm.Cond.classLink "BrambleLogic" (252 : Nat) "BrambleLogic$Rule") ∈ lw_all := lw_g (lw_at lw_m8 182 rfl) rfl
theorem q1970 : (Jvm.Cond.methodLink "BrambleLogic" (261 : Nat) ({ cls := "java/lang/Integer", name := "bitCount", desc := "(I)I" } : Jvm.MethodName)) ∈ lw_all := lw_g (lw_at lw_m8 183 rfl) rfl
theorem q1975 : (Jvm.Cond.instanceMethod ({ cls := "BrambleLogic", name := "isRecursive", desc := "(I)Z" } : Jvm.MethodName)) ∈ lw_all := lw_g (lw_at lw_m8 188 rfl) rfl
theorem q1976 : (Jvm.Cond.selects "BrambleLogic" ({ cls := "BrambleLogic", name := "isRecursive", desc := "(I)Z" } : Jvm.MethodName) ({ cls := "BrambleLogic", name := "isRecursive", desc := "(I)Z" } : Jvm.MethodName)) ∈ lw_all := lw_g (lw_at lw_m8 189 rfl) rfl
theorem q1977 : (Jvm.Cond.code ({ cls := "BrambleLogic", name := "isRecursive", desc := "(I)Z" } : Jvm.MethodName) prog_1_method_43_code (2 : Nat) (Option.some Jvm.ClassFile.FieldType.boolean)) ∈ lw_all := lw_g (lw_at lw_m8 190 rfl) rfl
theorem q1978 : (Jvm.Cond.methodLink "BrambleLogic" (266 : Nat) ({ cls := "BrambleLogic$Logic", name := "isRecursive", desc := "(LBrambleLogic$Rule;)Z" } : Jvm.MethodName)) ∈ lw_all := lw_g (lw_at lw_m8 191 rfl) rfl
theorem q2035 : (Jvm.Cond.instanceMethod ({ cls := "BrambleLogic", name := "stepsOf", desc := "(I)I" } : Jvm.MethodName)) ∈ lw_all := lw_g (lw_at lw_m9 8 rfl) rfl
theorem q2036 : (Jvm.Cond.selects "BrambleLogic" ({ cls := "BrambleLogic", name := "stepsOf", desc := "(I)I" } : Jvm.MethodName) ({ cls := "BrambleLogic", name := "stepsOf", desc := "(I)I" } : Jvm.MethodName)) ∈ lw_all := lw_g (lw_at lw_m9 9 rfl) rfl
theorem q2037 : (Jvm.Cond.code ({ cls := "BrambleLogic", name := "stepsOf", desc := "(I)I" } : Jvm.MethodName) prog_1_method_44_code (2 : Nat) (Option.some Jvm.ClassFile.FieldType.int)) ∈ lw_all := lw_g (lw_at lw_m9 10 rfl) rfl
theorem q2038 : (Jvm.Cond.methodLink "BrambleLogic" (270 : Nat) ({ cls := "BrambleLogic$Logic", name := "countSteps", desc := "(LBrambleLogic$Rule;)I" } : Jvm.MethodName)) ∈ lw_all := lw_g (lw_at lw_m9 11 rfl) rfl
theorem q2060 : (Jvm.Cond.instanceMethod ({ cls := "BrambleLogic", name := "layerOf", desc := "(C)I" } : Jvm.MethodName)) ∈ lw_all := lw_g (lw_at lw_m9 33 rfl) rfl
theorem q2061 : (Jvm.Cond.selects "BrambleLogic" ({ cls := "BrambleLogic", name := "layerOf", desc := "(C)I" } : Jvm.MethodName) ({ cls := "BrambleLogic", name := "layerOf", desc := "(C)I" } : Jvm.MethodName)) ∈ lw_all := lw_g (lw_at lw_m9 34 rfl) rfl
theorem q2062 : (Jvm.Cond.code ({ cls := "BrambleLogic", name := "layerOf", desc := "(C)I" } : Jvm.MethodName) prog_1_method_45_code (3 : Nat) (Option.some Jvm.ClassFile.FieldType.int)) ∈ lw_all := lw_g (lw_at lw_m9 35 rfl) rfl
theorem q2063 : (Jvm.Cond.classLink "BrambleLogic" (274 : Nat) "BrambleLogic$Needs") ∈ lw_all := lw_g (lw_at lw_m9 36 rfl) rfl
theorem q2064 : (Jvm.Cond.methodLink "BrambleLogic" (276 : Nat) ({ cls := "BrambleLogic$Needs", name := "<init>", desc := "(Ljava/util/List;)V" } : Jvm.MethodName)) ∈ lw_all := lw_g (lw_at lw_m9 37 rfl) rfl
theorem q2065 : (Jvm.Cond.methodLink "BrambleLogic" (279 : Nat) ({ cls := "BrambleLogic$Needs", name := "layers", desc := "()[I" } : Jvm.MethodName)) ∈ lw_all := lw_g (lw_at lw_m9 38 rfl) rfl
theorem q2070 : (Jvm.Cond.instanceMethod ({ cls := "BrambleLogic", name := "layerByChains", desc := "(C)I" } : Jvm.MethodName)) ∈ lw_all := lw_g (lw_at lw_m9 43 rfl) rfl
theorem q2071 : (Jvm.Cond.selects "BrambleLogic" ({ cls := "BrambleLogic", name := "layerByChains", desc := "(C)I" } : Jvm.MethodName) ({ cls := "BrambleLogic", name := "layerByChains", desc := "(C)I" } : Jvm.MethodName)) ∈ lw_all := lw_g (lw_at lw_m9 44 rfl) rfl
theorem q2072 : (Jvm.Cond.code ({ cls := "BrambleLogic", name := "layerByChains", desc := "(C)I" } : Jvm.MethodName) prog_1_method_46_code (3 : Nat) (Option.some Jvm.ClassFile.FieldType.int)) ∈ lw_all := lw_g (lw_at lw_m9 45 rfl) rfl
theorem q2073 : (Jvm.Cond.methodLink "BrambleLogic" (283 : Nat) ({ cls := "BrambleLogic$Needs", name := "longestChain", desc := "(II)I" } : Jvm.MethodName)) ∈ lw_all := lw_g (lw_at lw_m9 46 rfl) rfl
theorem q2078 : (Jvm.Cond.instanceMethod ({ cls := "BrambleLogic", name := "dependsOn", desc := "(CC)Z" } : Jvm.MethodName)) ∈ lw_all := lw_g (lw_at lw_m9 51 rfl) rfl
theorem q2079 : (Jvm.Cond.selects "BrambleLogic" ({ cls := "BrambleLogic", name := "dependsOn", desc := "(CC)Z" } : Jvm.MethodName) ({ cls := "BrambleLogic", name := "dependsOn", desc := "(CC)Z" } : Jvm.MethodName)) ∈ lw_all := lw_g (lw_at lw_m9 52 rfl) rfl
theorem q2080 : (Jvm.Cond.code ({ cls := "BrambleLogic", name := "dependsOn", desc := "(CC)Z" } : Jvm.MethodName) prog_1_method_47_code (5 : Nat) (Option.some Jvm.ClassFile.FieldType.boolean)) ∈ lw_all := lw_g (lw_at lw_m9 53 rfl) rfl
theorem q2081 : (Jvm.Cond.methodLink "BrambleLogic" (286 : Nat) ({ cls := "BrambleLogic$Needs", name := "reached", desc := "(I)I" } : Jvm.MethodName)) ∈ lw_all := lw_g (lw_at lw_m9 54 rfl) rfl
theorem q2086 : (Jvm.Cond.instanceMethod ({ cls := "BrambleLogic", name := "reason", desc := "()I" } : Jvm.MethodName)) ∈ lw_all := lw_g (lw_at lw_m9 59 rfl) rfl
theorem q2087 : (Jvm.Cond.selects "BrambleLogic" ({ cls := "BrambleLogic", name := "reason", desc := "()I" } : Jvm.MethodName) ({ cls := "BrambleLogic", name := "reason", desc := "()I" } : Jvm.MethodName)) ∈ lw_all := lw_g (lw_at lw_m9 60 rfl) rfl
theorem q2088 : (Jvm.Cond.code ({ cls := "BrambleLogic", name := "reason", desc := "()I" } : Jvm.MethodName) prog_1_method_50_code (1 : Nat) (Option.some Jvm.ClassFile.FieldType.int)) ∈ lw_all := lw_g (lw_at lw_m9 61 rfl) rfl
theorem q2089 : (Jvm.Cond.methodLink "BrambleLogic" (302 : Nat) ({ cls := "BrambleLogic", name := "requireRefusal", desc := "()LBrambleLogic$RefusedException;" } : Jvm.MethodName)) ∈ lw_all := lw_g (lw_at lw_m9 62 rfl) rfl
theorem q2090 : (Jvm.Cond.privateMethod ({ cls := "BrambleLogic", name := "requireRefusal", desc := "()LBrambleLogic$RefusedException;" } : Jvm.MethodName)) ∈ lw_tbl := lw_at lw_m9 63 rfl
theorem q2091 : (Jvm.Cond.instanceMethod ({ cls := "BrambleLogic", name := "requireRefusal", desc := "()LBrambleLogic$RefusedException;" } : Jvm.MethodName)) ∈ lw_all := lw_g (lw_at lw_m9 64 rfl) rfl
theorem q2092 : (Jvm.Cond.code ({ cls := "BrambleLogic", name := "requireRefusal", desc := "()LBrambleLogic$RefusedException;" } : Jvm.MethodName) prog_1_method_49_code (1 : Nat) (Option.some (Jvm.ClassFile.FieldType.object "BrambleLogic$RefusedException"))) ∈ lw_all := lw_g (lw_at lw_m9 65 rfl) rfl
theorem q2097 : (Jvm.Cond.instanceMethod ({ cls := "BrambleLogic", name := "detail", desc := "()I" } : Jvm.MethodName)) ∈ lw_all := lw_g (lw_at lw_m9 70 rfl) rfl
theorem q2098 : (Jvm.Cond.selects "BrambleLogic" ({ cls := "BrambleLogic", name := "detail", desc := "()I" } : Jvm.MethodName) ({ cls := "BrambleLogic", name := "detail", desc := "()I" } : Jvm.MethodName)) ∈ lw_all := lw_g (lw_at lw_m9 71 rfl) rfl
theorem q2099 : (Jvm.Cond.code ({ cls := "BrambleLogic", name := "detail", desc := "()I" } : Jvm.MethodName) prog_1_method_51_code (1 : Nat) (Option.some Jvm.ClassFile.FieldType.int)) ∈ lw_all := lw_g (lw_at lw_m9 72 rfl) rfl
theorem q2118 : (Jvm.Cond.instanceMethod ({ cls := "BrambleLogic", name := "meanHeight", desc := "()D" } : Jvm.MethodName)) ∈ lw_all := lw_g (lw_at lw_m9 91 rfl) rfl
theorem q2119 : (Jvm.Cond.selects "BrambleLogic" ({ cls := "BrambleLogic", name := "meanHeight", desc := "()D" } : Jvm.MethodName) ({ cls := "BrambleLogic", name := "meanHeight", desc := "()D" } : Jvm.MethodName)) ∈ lw_all := lw_g (lw_at lw_m9 92 rfl) rfl
theorem q2120 : (Jvm.Cond.code ({ cls := "BrambleLogic", name := "meanHeight", desc := "()D" } : Jvm.MethodName) prog_1_method_52_code (2 : Nat) (Option.some Jvm.ClassFile.FieldType.double)) ∈ lw_all := lw_g (lw_at lw_m9 93 rfl) rfl
theorem q2121 : (Jvm.Cond.methodLink "BrambleLogic" (312 : Nat) ({ cls := "BrambleLogic", name := "requireSome", desc := "(I)V" } : Jvm.MethodName)) ∈ lw_all := lw_g (lw_at lw_m9 94 rfl) rfl
theorem q2122 : (Jvm.Cond.static ({ cls := "BrambleLogic", name := "requireSome", desc := "(I)V" } : Jvm.MethodName)) ∈ lw_all := lw_g (lw_at lw_m9 95 rfl) rfl
theorem q2123 : (Jvm.Cond.code ({ cls := "BrambleLogic", name := "requireSome", desc := "(I)V" } : Jvm.MethodName) prog_1_method_8_code (1 : Nat) (Option.none : Option Jvm.ClassFile.FieldType)) ∈ lw_all := lw_g (lw_at lw_m9 96 rfl) rfl
theorem q2124 : (Jvm.Cond.classLink "BrambleLogic" (29 : Nat) "java/lang/ArithmeticException") ∈ lw_all := lw_g (lw_at lw_m9 97 rfl) rfl
theorem q2125 : (Jvm.Cond.methodLink "BrambleLogic" (31 : Nat) ({ cls := "java/lang/ArithmeticException", name := "<init>", desc := "()V" } : Jvm.MethodName)) ∈ lw_all := lw_g (lw_at lw_m9 98 rfl) rfl
theorem q2129 : (Jvm.Cond.methodLink "BrambleLogic" (316 : Nat) ({ cls := "BrambleLogic$Heights", name := "sumOfTrue", desc := "()I" } : Jvm.MethodName)) ∈ lw_all := lw_g (lw_at lw_m9 102 rfl) rfl
theorem q2137 : (Jvm.Cond.instanceMethod ({ cls := "BrambleLogic", name := "derivedShare", desc := "()F" } : Jvm.MethodName)) ∈ lw_all := lw_g (lw_at lw_m9 110 rfl) rfl
theorem q2138 : (Jvm.Cond.selects "BrambleLogic" ({ cls := "BrambleLogic", name := "derivedShare", desc := "()F" } : Jvm.MethodName) ({ cls := "BrambleLogic", name := "derivedShare", desc := "()F" } : Jvm.MethodName)) ∈ lw_all := lw_g (lw_at lw_m9 111 rfl) rfl
theorem q2139 : (Jvm.Cond.code ({ cls := "BrambleLogic", name := "derivedShare", desc := "()F" } : Jvm.MethodName) prog_1_method_53_code (2 : Nat) (Option.some Jvm.ClassFile.FieldType.float)) ∈ lw_all := lw_g (lw_at lw_m9 112 rfl) rfl
theorem q2144 : (Jvm.Cond.instanceMethod ({ cls := "BrambleLogic", name := "append", desc := "(C)I" } : Jvm.MethodName)) ∈ lw_all := lw_g (lw_at lw_m9 117 rfl) rfl
theorem q2145 : (Jvm.Cond.selects "BrambleLogic" ({ cls := "BrambleLogic", name := "append", desc := "(C)I" } : Jvm.MethodName) ({ cls := "BrambleLogic", name := "append", desc := "(C)I" } : Jvm.MethodName)) ∈ lw_all := lw_g (lw_at lw_m9 118 rfl) rfl
theorem q2146 : (Jvm.Cond.code ({ cls := "BrambleLogic", name := "append", desc := "(C)I" } : Jvm.MethodName) prog_1_method_55_code (2 : Nat) (Option.some Jvm.ClassFile.FieldType.int)) ∈ lw_all := lw_g (lw_at lw_m9 119 rfl) rfl
theorem q2147 : (Jvm.Cond.methodLink "BrambleLogic" (323 : Nat) ({ cls := "java/lang/StringBuilder", name := "length", desc := "()I" } : Jvm.MethodName)) ∈ lw_all := lw_g (lw_at lw_m9 120 rfl) rfl
theorem q2148 : (Jvm.Cond.methodLink "BrambleLogic" (326 : Nat) ({ cls := "BrambleLogic", name := "requireState", desc := "(Z)V" } : Jvm.MethodName)) ∈ lw_all := lw_g (lw_at lw_m9 121 rfl) rfl
theorem q2153 : (Jvm.Cond.instanceMethod ({ cls := "BrambleLogic", name := "run", desc := "()I" } : Jvm.MethodName)) ∈ lw_all := lw_g (lw_at lw_m9 126 rfl) rfl
theorem q2154 : (Jvm.Cond.selects "BrambleLogic" ({ cls := "BrambleLogic", name := "run", desc := "()I" } : Jvm.MethodName) ({ cls := "BrambleLogic", name := "run", desc := "()I" } : Jvm.MethodName)) ∈ lw_all := lw_g (lw_at lw_m9 127 rfl) rfl
theorem q2155 : (Jvm.Cond.codeWith ({ cls := "BrambleLogic", name := "run", desc := "()I" } : Jvm.MethodName) prog_1_method_57_code (8 : Nat) (Option.some Jvm.ClassFile.FieldType.int) [((22 : Nat), (69 : Nat), (72 : Nat), (47 : Nat)), ((22 : Nat), (69 : Nat), (83 : Nat), (7 : Nat)), ((22 : Nat), (69 : Nat), (83 : Nat), (22 : Nat)), ((22 : Nat), (69 : Nat), (83 : Nat), (16 : Nat)), ((22 : Nat), (69 : Nat), (83 : Nat), (19 : Nat))]) ∈ lw_all := lw_g (lw_at lw_m9 128 rfl) rfl
theorem q2156 : (Jvm.Cond.classLink "BrambleLogic" (47 : Nat) "BrambleLogic$RefusedException") ∈ lw_all := lw_g (lw_at lw_m9 129 rfl) rfl
theorem q2157 : (Jvm.Cond.methodLink "BrambleLogic" (346 : Nat) ({ cls := "BrambleLogic", name := "parseBuffer", desc := "()Ljava/util/List;" } : Jvm.MethodName)) ∈ lw_all := lw_g (lw_at lw_m9 130 rfl) rfl
theorem q2158 : (Jvm.Cond.privateMethod ({ cls := "BrambleLogic", name := "parseBuffer", desc := "()Ljava/util/List;" } : Jvm.MethodName)) ∈ lw_tbl := lw_at lw_m9 131 rfl
theorem q2159 : (Jvm.Cond.instanceMethod ({ cls := "BrambleLogic", name := "parseBuffer", desc := "()Ljava/util/List;" } : Jvm.MethodName)) ∈ lw_all := lw_g (lw_at lw_m9 132 rfl) rfl
theorem q2160 : (Jvm.Cond.codeWith ({ cls := "BrambleLogic", name := "parseBuffer", desc := "()Ljava/util/List;" } : Jvm.MethodName) prog_1_method_56_code (3 : Nat) (Option.some (Jvm.ClassFile.FieldType.object "java/util/List")) [((17 : Nat), (21 : Nat), (22 : Nat), (341 : Nat))]) ∈ lw_all := lw_g (lw_at lw_m9 133 rfl) rfl
theorem q2161 : (Jvm.Cond.classLink "BrambleLogic" (341 : Nat) "BrambleLogic$SyntaxException") ∈ lw_all := lw_g (lw_at lw_m9 134 rfl) rfl
theorem q2162 : (Jvm.Cond.classLink "BrambleLogic" (329 : Nat) "BrambleLogic$Parser") ∈ lw_all := lw_g (lw_at lw_m9 135 rfl) rfl
theorem q2164 : (Jvm.Cond.methodLinkNest "BrambleLogic" (331 : Nat) ({ cls := "BrambleLogic$Parser", name := "<init>", desc := "(LBrambleLogic;)V" } : Jvm.MethodName) "BrambleLogic") ∈ lw_tbl := lw_at lw_m9 137 rfl
theorem q2179 : (Jvm.Cond.methodLink "BrambleLogic" (334 : Nat) ({ cls := "java/lang/StringBuilder", name := "setLength", desc := "(I)V" } : Jvm.MethodName)) ∈ lw_all := lw_g (lw_at lw_m9 152 rfl) rfl
theorem q2231 : (Jvm.Cond.methodLink "BrambleLogic" (337 : Nat) ({ cls := "BrambleLogic$Parser", name := "parseProgram", desc := "()Ljava/util/List;" } : Jvm.MethodName)) ∈ lw_all := lw_g (lw_at lw_m9 204 rfl) rfl
theorem q2279 : (Jvm.Cond.fieldLinkNest "BrambleLogic" (343 : Nat) "BrambleLogic$SyntaxException" "position" "I" "BrambleLogic") ∈ lw_tbl := lw_at lw_m10 12 rfl
theorem q2456 : (Jvm.Cond.static ({ cls := "BrambleLogic", name := "maskOf", desc := "(I)I" } : Jvm.MethodName)) ∈ lw_all := lw_g (lw_at lw_m10 189 rfl) rfl
theorem q2457 : (Jvm.Cond.code ({ cls := "BrambleLogic", name := "maskOf", desc := "(I)I" } : Jvm.MethodName) prog_1_method_17_code (1 : Nat) (Option.some Jvm.ClassFile.FieldType.int)) ∈ lw_all := lw_g (lw_at lw_m10 190 rfl) rfl
theorem q2513 : (Jvm.Cond.fieldLinkNest "BrambleLogic" (373 : Nat) "BrambleLogic$Rule" "text" "Ljava/lang/String;" "BrambleLogic") ∈ lw_tbl := lw_at lw_m11 6 rfl
theorem q2515 : (Jvm.Cond.fieldLinkNest "BrambleLogic" (258 : Nat) "BrambleLogic$Rule" "mask" "I" "BrambleLogic") ∈ lw_tbl := lw_at lw_m11 8 rfl
theorem q2529 : (Jvm.Cond.interfaceEntry "BrambleLogic" (349 : Nat)) ∈ lw_tbl := lw_at lw_m11 22 rfl
theorem q2530 : (Jvm.Cond.methodLink "BrambleLogic" (349 : Nat) ({ cls := "java/util/List", name := "iterator", desc := "()Ljava/util/Iterator;" } : Jvm.MethodName)) ∈ lw_all := lw_g (lw_at lw_m11 23 rfl) rfl
theorem q2531 : (Jvm.Cond.interfaceEntry "BrambleLogic" (353 : Nat)) ∈ lw_tbl := lw_at lw_m11 24 rfl
theorem q2532 : (Jvm.Cond.methodLink "BrambleLogic" (353 : Nat) ({ cls := "java/util/Iterator", name := "hasNext", desc := "()Z" } : Jvm.MethodName)) ∈ lw_all := lw_g (lw_at lw_m11 25 rfl) rfl
theorem q2533 : (Jvm.Cond.interfaceEntry "BrambleLogic" (358 : Nat)) ∈ lw_tbl := lw_at lw_m11 26 rfl
theorem q2534 : (Jvm.Cond.methodLink "BrambleLogic" (358 : Nat) ({ cls := "java/util/Iterator", name := "next", desc := "()Ljava/lang/Object;" } : Jvm.MethodName)) ∈ lw_all := lw_g (lw_at lw_m11 27 rfl) rfl
theorem q2535 : (Jvm.Cond.classLink "BrambleLogic" (361 : Nat) "BrambleLogic$Command") ∈ lw_all := lw_g (lw_at lw_m11 28 rfl) rfl
theorem q2536 : (Jvm.Cond.methodLink "BrambleLogic" (363 : Nat) ({ cls := "BrambleLogic$Command", name := "execute", desc := "(LBrambleLogic$Logic;)I" } : Jvm.MethodName)) ∈ lw_all := lw_g (lw_at lw_m11 29 rfl) rfl
theorem q2619 : (Jvm.Cond.static ({ cls := "BrambleLogic", name := "refuseIf", desc := "(ZII)V" } : Jvm.MethodName)) ∈ lw_all := lw_g (lw_at lw_m11 112 rfl) rfl
theorem q2620 : (Jvm.Cond.code ({ cls := "BrambleLogic", name := "refuseIf", desc := "(ZII)V" } : Jvm.MethodName) prog_1_method_14_code (3 : Nat) (Option.none : Option Jvm.ClassFile.FieldType)) ∈ lw_all := lw_g (lw_at lw_m11 113 rfl) rfl
theorem q2629 : (Jvm.Cond.methodLink "BrambleLogic" (49 : Nat) ({ cls := "BrambleLogic$RefusedException", name := "<init>", desc := "(II)V" } : Jvm.MethodName)) ∈ lw_all := lw_g (lw_at lw_m11 122 rfl) rfl
theorem q2634 : (Jvm.Cond.fieldLinkNest "BrambleLogic" (306 : Nat) "BrambleLogic$RefusedException" "reason" "I" "BrambleLogic") ∈ lw_tbl := lw_at lw_m11 127 rfl
theorem q2636 : (Jvm.Cond.fieldLinkNest "BrambleLogic" (309 : Nat) "BrambleLogic$RefusedException" "detail" "I" "BrambleLogic") ∈ lw_tbl := lw_at lw_m11 129 rfl
theorem q2675 : (Jvm.Cond.methodLink "BrambleLogic" (367 : Nat) ({ cls := "BrambleLogic", name := "requireSupport", desc := "(Z)V" } : Jvm.MethodName)) ∈ lw_all := lw_g (lw_at lw_m11 168 rfl) rfl
theorem q2680 : (Jvm.Cond.instanceMethod ({ cls := "BrambleLogic", name := "errorPosition", desc := "()I" } : Jvm.MethodName)) ∈ lw_all := lw_g (lw_at lw_m11 173 rfl) rfl
theorem q2681 : (Jvm.Cond.selects "BrambleLogic" ({ cls := "BrambleLogic", name := "errorPosition", desc := "()I" } : Jvm.MethodName) ({ cls := "BrambleLogic", name := "errorPosition", desc := "()I" } : Jvm.MethodName)) ∈ lw_all := lw_g (lw_at lw_m11 174 rfl) rfl
theorem q2682 : (Jvm.Cond.code ({ cls := "BrambleLogic", name := "errorPosition", desc := "()I" } : Jvm.MethodName) prog_1_method_58_code (1 : Nat) (Option.some Jvm.ClassFile.FieldType.int)) ∈ lw_all := lw_g (lw_at lw_m11 175 rfl) rfl
theorem q2687 : (Jvm.Cond.instanceMethod ({ cls := "BrambleLogic", name := "failedCommand", desc := "()I" } : Jvm.MethodName)) ∈ lw_all := lw_g (lw_at lw_m11 180 rfl) rfl
theorem q2688 : (Jvm.Cond.selects "BrambleLogic" ({ cls := "BrambleLogic", name := "failedCommand", desc := "()I" } : Jvm.MethodName) ({ cls := "BrambleLogic", name := "failedCommand", desc := "()I" } : Jvm.MethodName)) ∈ lw_all := lw_g (lw_at lw_m11 181 rfl) rfl
theorem q2689 : (Jvm.Cond.code ({ cls := "BrambleLogic", name := "failedCommand", desc := "()I" } : Jvm.MethodName) prog_1_method_59_code (1 : Nat) (Option.some Jvm.ClassFile.FieldType.int)) ∈ lw_all := lw_g (lw_at lw_m11 182 rfl) rfl
theorem q2694 : (Jvm.Cond.instanceMethod ({ cls := "BrambleLogic", name := "writeRule", desc := "(I)I" } : Jvm.MethodName)) ∈ lw_all := lw_g (lw_at lw_m11 187 rfl) rfl
theorem q2695 : (Jvm.Cond.selects "BrambleLogic" ({ cls := "BrambleLogic", name := "writeRule", desc := "(I)I" } : Jvm.MethodName) ({ cls := "BrambleLogic", name := "writeRule", desc := "(I)I" } : Jvm.MethodName)) ∈ lw_all := lw_g (lw_at lw_m11 188 rfl) rfl
theorem q2696 : (Jvm.Cond.code ({ cls := "BrambleLogic", name := "writeRule", desc := "(I)I" } : Jvm.MethodName) prog_1_method_61_code (2 : Nat) (Option.some Jvm.ClassFile.FieldType.int)) ∈ lw_all := lw_g (lw_at lw_m11 189 rfl) rfl
theorem q2701 : (Jvm.Cond.instanceMethod ({ cls := "BrambleLogic", name := "writeStep", desc := "(CII)I" } : Jvm.MethodName)) ∈ lw_all := lw_g (lw_at lw_m11 194 rfl) rfl
theorem q2702 : (Jvm.Cond.selects "BrambleLogic" ({ cls := "BrambleLogic", name := "writeStep", desc := "(CII)I" } : Jvm.MethodName) ({ cls := "BrambleLogic", name := "writeStep", desc := "(CII)I" } : Jvm.MethodName)) ∈ lw_all := lw_g (lw_at lw_m11 195 rfl) rfl
theorem q2703 : (Jvm.Cond.code ({ cls := "BrambleLogic", name := "writeStep", desc := "(CII)I" } : Jvm.MethodName) prog_1_method_62_code (5 : Nat) (Option.some Jvm.ClassFile.FieldType.int)) ∈ lw_all := lw_g (lw_at lw_m11 196 rfl) rfl
theorem q2704 : (Jvm.Cond.methodLink "BrambleLogic" (380 : Nat) ({ cls := "BrambleLogic$Logic", name := "describeStep", desc := "(II)Ljava/lang/String;" } : Jvm.MethodName)) ∈ lw_all := lw_g (lw_at lw_m11 197 rfl) rfl
theorem q2733 : (Jvm.Cond.instanceMethod ({ cls := "BrambleLogic", name := "outputAt", desc := "(I)C" } : Jvm.MethodName)) ∈ lw_all := lw_g (lw_at lw_m11 226 rfl) rfl
theorem q2734 : (Jvm.Cond.selects "BrambleLogic" ({ cls := "BrambleLogic", name := "outputAt", desc := "(I)C" } : Jvm.MethodName) ({ cls := "BrambleLogic", name := "outputAt", desc := "(I)C" } : Jvm.MethodName)) ∈ lw_all := lw_g (lw_at lw_m11 227 rfl) rfl
theorem q2735 : (Jvm.Cond.code ({ cls := "BrambleLogic", name := "outputAt", desc := "(I)C" } : Jvm.MethodName) prog_1_method_64_code (2 : Nat) (Option.some Jvm.ClassFile.FieldType.char)) ∈ lw_all := lw_g (lw_at lw_m11 228 rfl) rfl
theorem q2736 : (Jvm.Cond.methodLink "BrambleLogic" (387 : Nat) ({ cls := "java/lang/String", name := "charAt", desc := "(I)C" } : Jvm.MethodName)) ∈ lw_all := lw_g (lw_at lw_m11 229 rfl) rfl
theorem q2741 : (Jvm.Cond.instanceMethod ({ cls := "BrambleLogic", name := "undo", desc := "()I" } : Jvm.MethodName)) ∈ lw_all := lw_g (lw_at lw_m11 234 rfl) rfl
theorem q2742 : (Jvm.Cond.selects "BrambleLogic" ({ cls := "BrambleLogic", name := "undo", desc := "()I" } : Jvm.MethodName) ({ cls := "BrambleLogic", name := "undo", desc := "()I" } : Jvm.MethodName)) ∈ lw_all := lw_g (lw_at lw_m11 235 rfl) rfl
theorem q2743 : (Jvm.Cond.code ({ cls := "BrambleLogic", name := "undo", desc := "()I" } : Jvm.MethodName) prog_1_method_65_code (1 : Nat) (Option.some Jvm.ClassFile.FieldType.int)) ∈ lw_all := lw_g (lw_at lw_m11 236 rfl) rfl
theorem q2744 : (Jvm.Cond.interfaceEntry "BrambleLogic" (391 : Nat)) ∈ lw_tbl := lw_at lw_m11 237 rfl
theorem q2745 : (Jvm.Cond.interfaceEntry "BrambleLogic" (394 : Nat)) ∈ lw_tbl := lw_at lw_m11 238 rfl
theorem q2746 : (Jvm.Cond.methodLink "BrambleLogic" (394 : Nat) ({ cls := "java/util/Deque", name := "removeLast", desc := "()Ljava/lang/Object;" } : Jvm.MethodName)) ∈ lw_all := lw_g (lw_at lw_m11 239 rfl) rfl
theorem q2765 : (Jvm.Cond.instanceMethod ({ cls := "BrambleLogic", name := "restore", desc := "()V" } : Jvm.MethodName)) ∈ lw_all := lw_g (lw_at lw_m12 18 rfl) rfl
theorem q2766 : (Jvm.Cond.selects "BrambleLogic" ({ cls := "BrambleLogic", name := "restore", desc := "()V" } : Jvm.MethodName) ({ cls := "BrambleLogic", name := "restore", desc := "()V" } : Jvm.MethodName)) ∈ lw_all := lw_g (lw_at lw_m12 19 rfl) rfl
theorem q2767 : (Jvm.Cond.code ({ cls := "BrambleLogic", name := "restore", desc := "()V" } : Jvm.MethodName) prog_1_method_67_code (1 : Nat) (Option.none : Option Jvm.ClassFile.FieldType)) ∈ lw_all := lw_g (lw_at lw_m12 20 rfl) rfl
theorem q2768 : (Jvm.Cond.interfaceEntry "BrambleLogic" (400 : Nat)) ∈ lw_tbl := lw_at lw_m12 21 rfl
theorem q3365 : (Jvm.Cond.castable "BrambleLogic" "java/lang/Object") ∈ lw_tbl := lw_at lw_m14 138 rfl
theorem in_X1 : ∀ w ∈ wsX10, w ∈ lw_all := lw_in wsX10 [329, 331, 333, 335, 337, 339, 341, 343] (by decide +kernel) (by decide +kernel)
/-! BrambleLogic$Logic -/
set_option maxRecDepth 100000
def RX2 : String := "BrambleLogic$Logic"
def TX2 : u_T := fun k => match k with
  | 0 => ("BrambleLogic$Logic", "given", "LBrambleLogic$Facts;", true)
  | 1 => ("BrambleLogic$Logic", "rules", "Ljava/util/List;", true)
  | 2 => ("BrambleLogic$Logic", "account", "LBrambleLogic$Account;", true)
  | _ => ("BrambleLogic$Logic", "known", "LBrambleLogic$Facts;", false)
def tyX2 : Nat → FieldType := fun k => match k with
  | 0 => .object "BrambleLogic$Facts"
  | 1 => .object "java/util/List"
  | 2 => .object "BrambleLogic$Account"
  | _ => .object "BrambleLogic$Facts"
abbrev wsX20 : List Cond := u_ws RX2 TX2 4
theorem nmX2 : ∀ a, a < 4 → ∀ b, b < 4 → a ≠ b → (TX2 a).2.1 ≠ (TX2 b).2.1 := by decide +kernel
theorem tyX2_ok : ∀ k, k < 4 → parseFieldDescriptor (TX2 k).2.2.1 = some (tyX2 k) := by decide +kernel
abbrev cX2_init : ByteArray := prog_17_method_1_code
def yX2_init : MethodName := ⟨RX2, "<init>", "()V"⟩
def dkwX2_init_1 : List UInt8 := [181, 0, 21, 42, 187, 0, 25, 89, 183, 0, 27, 181, 0, 28, 177]
abbrev dktX2_init_1 : List UInt8 := dkwX2_init_1 ++ []
def dkwX2_init_0 : List UInt8 := [42, 183, 0, 3, 42, 187, 0, 9, 89, 183, 0, 11, 181, 0, 12, 42, 187, 0, 18, 89, 183, 0, 20]
abbrev dktX2_init_0 : List UInt8 := dkwX2_init_0 ++ dktX2_init_1
theorem dksX2_init_0 : cX2_init.data.toList.drop 0 = dktX2_init_0 := by decide +kernel
theorem dksX2_init_1 : cX2_init.data.toList.drop 23 = dktX2_init_1 := dk_seg dksX2_init_0 23 rfl rfl
theorem dX2_init_0 : decode cX2_init 0 = .ok (.aload_n 0, 1) := dk_42 (dk_at dksX2_init_0 0 rfl rfl)
theorem dX2_init_1 : decode cX2_init 1 = .ok (.invokespecial 3, 3) := dk_183 0 3 (dk_at dksX2_init_0 1 rfl rfl)
theorem dX2_init_4 : decode cX2_init 4 = .ok (.aload_n 0, 1) := dk_42 (dk_at dksX2_init_0 4 rfl rfl)
theorem dX2_init_5 : decode cX2_init 5 = .ok (.new 9, 3) := dk_187 0 9 (dk_at dksX2_init_0 5 rfl rfl)
theorem dX2_init_8 : decode cX2_init 8 = .ok (.dup, 1) := dk_89 (dk_at dksX2_init_0 8 rfl rfl)
theorem dX2_init_9 : decode cX2_init 9 = .ok (.invokespecial 11, 3) := dk_183 0 11 (dk_at dksX2_init_0 9 rfl rfl)
theorem dX2_init_12 : decode cX2_init 12 = .ok (.putfield 12, 3) := dk_181 0 12 (dk_at dksX2_init_0 12 rfl rfl)
theorem dX2_init_15 : decode cX2_init 15 = .ok (.aload_n 0, 1) := dk_42 (dk_at dksX2_init_0 15 rfl rfl)
theorem dX2_init_16 : decode cX2_init 16 = .ok (.new 18, 3) := dk_187 0 18 (dk_at dksX2_init_0 16 rfl rfl)
theorem dX2_init_19 : decode cX2_init 19 = .ok (.dup, 1) := dk_89 (dk_at dksX2_init_0 19 rfl rfl)
theorem dX2_init_20 : decode cX2_init 20 = .ok (.invokespecial 20, 3) := dk_183 0 20 (dk_at dksX2_init_0 20 rfl rfl)
theorem dX2_init_23 : decode cX2_init 23 = .ok (.putfield 21, 3) := dk_181 0 21 (dk_at dksX2_init_1 0 rfl rfl)
theorem dX2_init_26 : decode cX2_init 26 = .ok (.aload_n 0, 1) := dk_42 (dk_at dksX2_init_1 3 rfl rfl)
theorem dX2_init_27 : decode cX2_init 27 = .ok (.new 25, 3) := dk_187 0 25 (dk_at dksX2_init_1 4 rfl rfl)
theorem dX2_init_30 : decode cX2_init 30 = .ok (.dup, 1) := dk_89 (dk_at dksX2_init_1 7 rfl rfl)
theorem dX2_init_31 : decode cX2_init 31 = .ok (.invokespecial 27, 3) := dk_183 0 27 (dk_at dksX2_init_1 8 rfl rfl)
theorem dX2_init_34 : decode cX2_init 34 = .ok (.putfield 28, 3) := dk_181 0 28 (dk_at dksX2_init_1 11 rfl rfl)
theorem dX2_init_37 : decode cX2_init 37 = .ok (.return_, 1) := dk_177 (dk_at dksX2_init_1 14 rfl rfl)
abbrev cX2_facts : ByteArray := prog_17_method_4_code
def yX2_facts : MethodName := ⟨RX2, "facts", "()LBrambleLogic$Facts;"⟩
def dkwX2_facts_3 : List UInt8 := [176]
abbrev dktX2_facts_3 : List UInt8 := dkwX2_facts_3 ++ []
def dkwX2_facts_2 : List UInt8 := [182, 0, 90, 182, 0, 94, 132, 3, 1, 167, 255, 237, 42, 44, 180, 0, 97, 181, 0, 75, 42, 180, 0, 75]
abbrev dktX2_facts_2 : List UInt8 := dkwX2_facts_2 ++ dktX2_facts_3
def dkwX2_facts_1 : List UInt8 := [187, 0, 87, 89, 42, 180, 0, 28, 183, 0, 89, 77, 3, 62, 29, 16, 8, 162, 0, 19, 44, 42, 29, 43]
abbrev dktX2_facts_1 : List UInt8 := dkwX2_facts_1 ++ dktX2_facts_2
def dkwX2_facts_0 : List UInt8 := [42, 180, 0, 75, 199, 0, 62, 187, 0, 78, 89, 42, 180, 0, 12, 183, 0, 80, 182, 0, 83, 76]
abbrev dktX2_facts_0 : List UInt8 := dkwX2_facts_0 ++ dktX2_facts_1
theorem dksX2_facts_0 : cX2_facts.data.toList.drop 0 = dktX2_facts_0 := by decide +kernel
theorem dksX2_facts_1 : cX2_facts.data.toList.drop 22 = dktX2_facts_1 := dk_seg dksX2_facts_0 22 rfl rfl
theorem dksX2_facts_2 : cX2_facts.data.toList.drop 46 = dktX2_facts_2 := dk_seg dksX2_facts_1 24 rfl rfl
theorem dksX2_facts_3 : cX2_facts.data.toList.drop 70 = dktX2_facts_3 := dk_seg dksX2_facts_2 24 rfl rfl
theorem dX2_facts_0 : decode cX2_facts 0 = .ok (.aload_n 0, 1) := dk_42 (dk_at dksX2_facts_0 0 rfl rfl)
theorem dX2_facts_1 : decode cX2_facts 1 = .ok (.getfield 75, 3) := dk_180 0 75 (dk_at dksX2_facts_0 1 rfl rfl)
theorem dX2_facts_4 : decode cX2_facts 4 = .ok (.ifnonnull 62, 3) := dk_199 0 62 (dk_at dksX2_facts_0 4 rfl rfl)
theorem dX2_facts_7 : decode cX2_facts 7 = .ok (.new 78, 3) := dk_187 0 78 (dk_at dksX2_facts_0 7 rfl rfl)
theorem dX2_facts_10 : decode cX2_facts 10 = .ok (.dup, 1) := dk_89 (dk_at dksX2_facts_0 10 rfl rfl)
theorem dX2_facts_11 : decode cX2_facts 11 = .ok (.aload_n 0, 1) := dk_42 (dk_at dksX2_facts_0 11 rfl rfl)
theorem dX2_facts_12 : decode cX2_facts 12 = .ok (.getfield 12, 3) := dk_180 0 12 (dk_at dksX2_facts_0 12 rfl rfl)
theorem dX2_facts_15 : decode cX2_facts 15 = .ok (.invokespecial 80, 3) := dk_183 0 80 (dk_at dksX2_facts_0 15 rfl rfl)
theorem dX2_facts_18 : decode cX2_facts 18 = .ok (.invokevirtual 83, 3) := dk_182 0 83 (dk_at dksX2_facts_0 18 rfl rfl)
theorem dX2_facts_21 : decode cX2_facts 21 = .ok (.astore_n 1, 1) := dk_76 (dk_at dksX2_facts_0 21 rfl rfl)
theorem dX2_facts_22 : decode cX2_facts 22 = .ok (.new 87, 3) := dk_187 0 87 (dk_at dksX2_facts_1 0 rfl rfl)
theorem dX2_facts_25 : decode cX2_facts 25 = .ok (.dup, 1) := dk_89 (dk_at dksX2_facts_1 3 rfl rfl)
theorem dX2_facts_26 : decode cX2_facts 26 = .ok (.aload_n 0, 1) := dk_42 (dk_at dksX2_facts_1 4 rfl rfl)
theorem dX2_facts_27 : decode cX2_facts 27 = .ok (.getfield 28, 3) := dk_180 0 28 (dk_at dksX2_facts_1 5 rfl rfl)
theorem dX2_facts_30 : decode cX2_facts 30 = .ok (.invokespecial 89, 3) := dk_183 0 89 (dk_at dksX2_facts_1 8 rfl rfl)
theorem dX2_facts_33 : decode cX2_facts 33 = .ok (.astore_n 2, 1) := dk_77 (dk_at dksX2_facts_1 11 rfl rfl)
theorem dX2_facts_34 : decode cX2_facts 34 = .ok (.iconst 0, 1) := dk_3 (dk_at dksX2_facts_1 12 rfl rfl)
theorem dX2_facts_35 : decode cX2_facts 35 = .ok (.istore_n 3, 1) := dk_62 (dk_at dksX2_facts_1 13 rfl rfl)
theorem dX2_facts_36 : decode cX2_facts 36 = .ok (.iload_n 3, 1) := dk_29 (dk_at dksX2_facts_1 14 rfl rfl)
theorem dX2_facts_37 : decode cX2_facts 37 = .ok (.bipush 8, 2) := dk_16 8 (dk_at dksX2_facts_1 15 rfl rfl)
theorem dX2_facts_39 : decode cX2_facts 39 = .ok (.if_icmp .ge 19, 3) := dk_162 0 19 (dk_at dksX2_facts_1 17 rfl rfl)
theorem dX2_facts_42 : decode cX2_facts 42 = .ok (.aload_n 2, 1) := dk_44 (dk_at dksX2_facts_1 20 rfl rfl)
theorem dX2_facts_43 : decode cX2_facts 43 = .ok (.aload_n 0, 1) := dk_42 (dk_at dksX2_facts_1 21 rfl rfl)
theorem dX2_facts_44 : decode cX2_facts 44 = .ok (.iload_n 3, 1) := dk_29 (dk_at dksX2_facts_1 22 rfl rfl)
theorem dX2_facts_45 : decode cX2_facts 45 = .ok (.aload_n 1, 1) := dk_43 (dk_at dksX2_facts_1 23 rfl rfl)
theorem dX2_facts_46 : decode cX2_facts 46 = .ok (.invokevirtual 90, 3) := dk_182 0 90 (dk_at dksX2_facts_2 0 rfl rfl)
theorem dX2_facts_49 : decode cX2_facts 49 = .ok (.invokevirtual 94, 3) := dk_182 0 94 (dk_at dksX2_facts_2 3 rfl rfl)
theorem dX2_facts_52 : decode cX2_facts 52 = .ok (.iinc 3 1, 3) := dk_132 3 1 (dk_at dksX2_facts_2 6 rfl rfl)
theorem dX2_facts_55 : decode cX2_facts 55 = .ok (.goto (-19), 3) := dk_167 255 237 (dk_at dksX2_facts_2 9 rfl rfl)
theorem dX2_facts_58 : decode cX2_facts 58 = .ok (.aload_n 0, 1) := dk_42 (dk_at dksX2_facts_2 12 rfl rfl)
theorem dX2_facts_59 : decode cX2_facts 59 = .ok (.aload_n 2, 1) := dk_44 (dk_at dksX2_facts_2 13 rfl rfl)
theorem dX2_facts_60 : decode cX2_facts 60 = .ok (.getfield 97, 3) := dk_180 0 97 (dk_at dksX2_facts_2 14 rfl rfl)
theorem dX2_facts_63 : decode cX2_facts 63 = .ok (.putfield 75, 3) := dk_181 0 75 (dk_at dksX2_facts_2 17 rfl rfl)
theorem dX2_facts_66 : decode cX2_facts 66 = .ok (.aload_n 0, 1) := dk_42 (dk_at dksX2_facts_2 20 rfl rfl)
theorem dX2_facts_67 : decode cX2_facts 67 = .ok (.getfield 75, 3) := dk_180 0 75 (dk_at dksX2_facts_2 21 rfl rfl)
theorem dX2_facts_70 : decode cX2_facts 70 = .ok (.areturn, 1) := dk_176 (dk_at dksX2_facts_3 0 rfl rfl)
abbrev cX2_rulesOf : ByteArray := prog_17_method_3_code
def yX2_rulesOf : MethodName := ⟨RX2, "rulesOf", "(I[I)Ljava/util/List;"⟩
def dkwX2_rulesOf_3 : List UInt8 := [176]
abbrev dktX2_rulesOf_3 : List UInt8 := dkwX2_rulesOf_3 ++ []
def dkwX2_rulesOf_2 : List UInt8 := [180, 0, 61, 180, 0, 65, 46, 27, 160, 0, 12, 45, 25, 5, 185, 0, 71, 2, 0, 87, 167, 255, 211, 45]
abbrev dktX2_rulesOf_2 : List UInt8 := dkwX2_rulesOf_2 ++ dktX2_rulesOf_3
def dkwX2_rulesOf_1 : List UInt8 := [185, 0, 49, 1, 0, 153, 0, 41, 25, 4, 185, 0, 55, 1, 0, 192, 0, 59, 58, 5, 44, 25, 5]
abbrev dktX2_rulesOf_1 : List UInt8 := dkwX2_rulesOf_1 ++ dktX2_rulesOf_2
def dkwX2_rulesOf_0 : List UInt8 := [187, 0, 9, 89, 183, 0, 11, 78, 42, 180, 0, 12, 185, 0, 45, 1, 0, 58, 4, 25, 4]
abbrev dktX2_rulesOf_0 : List UInt8 := dkwX2_rulesOf_0 ++ dktX2_rulesOf_1
theorem dksX2_rulesOf_0 : cX2_rulesOf.data.toList.drop 0 = dktX2_rulesOf_0 := by decide +kernel
theorem dksX2_rulesOf_1 : cX2_rulesOf.data.toList.drop 21 = dktX2_rulesOf_1 := dk_seg dksX2_rulesOf_0 21 rfl rfl
theorem dksX2_rulesOf_2 : cX2_rulesOf.data.toList.drop 44 = dktX2_rulesOf_2 := dk_seg dksX2_rulesOf_1 23 rfl rfl
theorem dksX2_rulesOf_3 : cX2_rulesOf.data.toList.drop 68 = dktX2_rulesOf_3 := dk_seg dksX2_rulesOf_2 24 rfl rfl
theorem dX2_rulesOf_0 : decode cX2_rulesOf 0 = .ok (.new 9, 3) := dk_187 0 9 (dk_at dksX2_rulesOf_0 0 rfl rfl)
theorem dX2_rulesOf_3 : decode cX2_rulesOf 3 = .ok (.dup, 1) := dk_89 (dk_at dksX2_rulesOf_0 3 rfl rfl)
theorem dX2_rulesOf_4 : decode cX2_rulesOf 4 = .ok (.invokespecial 11, 3) := dk_183 0 11 (dk_at dksX2_rulesOf_0 4 rfl rfl)
theorem dX2_rulesOf_7 : decode cX2_rulesOf 7 = .ok (.astore_n 3, 1) := dk_78 (dk_at dksX2_rulesOf_0 7 rfl rfl)
theorem dX2_rulesOf_8 : decode cX2_rulesOf 8 = .ok (.aload_n 0, 1) := dk_42 (dk_at dksX2_rulesOf_0 8 rfl rfl)
theorem dX2_rulesOf_9 : decode cX2_rulesOf 9 = .ok (.getfield 12, 3) := dk_180 0 12 (dk_at dksX2_rulesOf_0 9 rfl rfl)
theorem dX2_rulesOf_12 : decode cX2_rulesOf 12 = .ok (.invokeinterface 45 1, 5) := by decide +kernel
theorem dX2_rulesOf_17 : decode cX2_rulesOf 17 = .ok (.astore 4, 2) := dk_58 4 (dk_at dksX2_rulesOf_0 17 rfl rfl)
theorem dX2_rulesOf_19 : decode cX2_rulesOf 19 = .ok (.aload 4, 2) := dk_25 4 (dk_at dksX2_rulesOf_0 19 rfl rfl)
theorem dX2_rulesOf_21 : decode cX2_rulesOf 21 = .ok (.invokeinterface 49 1, 5) := by decide +kernel
theorem dX2_rulesOf_26 : decode cX2_rulesOf 26 = .ok (.ifCond .eq 41, 3) := dk_153 0 41 (dk_at dksX2_rulesOf_1 5 rfl rfl)
theorem dX2_rulesOf_29 : decode cX2_rulesOf 29 = .ok (.aload 4, 2) := dk_25 4 (dk_at dksX2_rulesOf_1 8 rfl rfl)
theorem dX2_rulesOf_31 : decode cX2_rulesOf 31 = .ok (.invokeinterface 55 1, 5) := by decide +kernel
theorem dX2_rulesOf_36 : decode cX2_rulesOf 36 = .ok (.checkcast 59, 3) := dk_192 0 59 (dk_at dksX2_rulesOf_1 15 rfl rfl)
theorem dX2_rulesOf_39 : decode cX2_rulesOf 39 = .ok (.astore 5, 2) := dk_58 5 (dk_at dksX2_rulesOf_1 18 rfl rfl)
theorem dX2_rulesOf_41 : decode cX2_rulesOf 41 = .ok (.aload_n 2, 1) := dk_44 (dk_at dksX2_rulesOf_1 20 rfl rfl)
theorem dX2_rulesOf_42 : decode cX2_rulesOf 42 = .ok (.aload 5, 2) := dk_25 5 (dk_at dksX2_rulesOf_1 21 rfl rfl)
theorem dX2_rulesOf_44 : decode cX2_rulesOf 44 = .ok (.getfield 61, 3) := dk_180 0 61 (dk_at dksX2_rulesOf_2 0 rfl rfl)
theorem dX2_rulesOf_47 : decode cX2_rulesOf 47 = .ok (.getfield 65, 3) := dk_180 0 65 (dk_at dksX2_rulesOf_2 3 rfl rfl)
theorem dX2_rulesOf_50 : decode cX2_rulesOf 50 = .ok (.iaload, 1) := dk_46 (dk_at dksX2_rulesOf_2 6 rfl rfl)
theorem dX2_rulesOf_51 : decode cX2_rulesOf 51 = .ok (.iload_n 1, 1) := dk_27 (dk_at dksX2_rulesOf_2 7 rfl rfl)
theorem dX2_rulesOf_52 : decode cX2_rulesOf 52 = .ok (.if_icmp .ne 12, 3) := dk_160 0 12 (dk_at dksX2_rulesOf_2 8 rfl rfl)
theorem dX2_rulesOf_55 : decode cX2_rulesOf 55 = .ok (.aload_n 3, 1) := dk_45 (dk_at dksX2_rulesOf_2 11 rfl rfl)
theorem dX2_rulesOf_56 : decode cX2_rulesOf 56 = .ok (.aload 5, 2) := dk_25 5 (dk_at dksX2_rulesOf_2 12 rfl rfl)
theorem dX2_rulesOf_58 : decode cX2_rulesOf 58 = .ok (.invokeinterface 71 2, 5) := by decide +kernel
theorem dX2_rulesOf_63 : decode cX2_rulesOf 63 = .ok (.pop, 1) := dk_87 (dk_at dksX2_rulesOf_2 19 rfl rfl)
theorem dX2_rulesOf_64 : decode cX2_rulesOf 64 = .ok (.goto (-45), 3) := dk_167 255 211 (dk_at dksX2_rulesOf_2 20 rfl rfl)
theorem dX2_rulesOf_67 : decode cX2_rulesOf 67 = .ok (.aload_n 3, 1) := dk_45 (dk_at dksX2_rulesOf_2 23 rfl rfl)
theorem dX2_rulesOf_68 : decode cX2_rulesOf 68 = .ok (.areturn, 1) := dk_176 (dk_at dksX2_rulesOf_3 0 rfl rfl)
abbrev cX2_isConsistent : ByteArray := prog_17_method_23_code
def yX2_isConsistent : MethodName := ⟨RX2, "isConsistent", "()Z"⟩
def dkwX2_isConsistent_5 : List UInt8 := [182, 1, 25, 126, 61, 132, 4, 1, 167, 255, 236, 28, 172]
abbrev dktX2_isConsistent_5 : List UInt8 := dkwX2_isConsistent_5 ++ []
def dkwX2_isConsistent_4 : List UInt8 := [180, 0, 12, 183, 0, 80, 78, 3, 54, 4, 21, 4, 16, 8, 162, 0, 19, 28, 42, 21, 4, 45]
abbrev dktX2_isConsistent_4 : List UInt8 := dkwX2_isConsistent_4 ++ dktX2_isConsistent_5
def dkwX2_isConsistent_3 : List UInt8 := [182, 1, 14, 187, 1, 11, 89, 42, 183, 1, 13, 182, 1, 18, 182, 1, 21, 126, 61, 187, 0, 78, 89, 42]
abbrev dktX2_isConsistent_3 : List UInt8 := dkwX2_isConsistent_3 ++ dktX2_isConsistent_4
def dkwX2_isConsistent_2 : List UInt8 := [182, 0, 152, 154, 0, 7, 4, 167, 0, 4, 3, 126, 61, 28, 187, 1, 11, 89, 42, 183, 1, 13]
abbrev dktX2_isConsistent_2 : List UInt8 := dkwX2_isConsistent_2 ++ dktX2_isConsistent_3
def dkwX2_isConsistent_1 : List UInt8 := [167, 0, 4, 3, 61, 28, 42, 182, 0, 105, 43, 182, 0, 152, 154, 0, 18, 43, 42, 182, 0, 105]
abbrev dktX2_isConsistent_1 : List UInt8 := dkwX2_isConsistent_1 ++ dktX2_isConsistent_2
def dkwX2_isConsistent_0 : List UInt8 := [42, 182, 1, 5, 76, 42, 180, 0, 28, 182, 0, 123, 42, 180, 0, 21, 182, 1, 8, 160, 0, 7, 4]
abbrev dktX2_isConsistent_0 : List UInt8 := dkwX2_isConsistent_0 ++ dktX2_isConsistent_1
theorem dksX2_isConsistent_0 : cX2_isConsistent.data.toList.drop 0 = dktX2_isConsistent_0 := by decide +kernel
theorem dksX2_isConsistent_1 : cX2_isConsistent.data.toList.drop 23 = dktX2_isConsistent_1 := dk_seg dksX2_isConsistent_0 23 rfl rfl
theorem dksX2_isConsistent_2 : cX2_isConsistent.data.toList.drop 45 = dktX2_isConsistent_2 := dk_seg dksX2_isConsistent_1 22 rfl rfl
theorem dksX2_isConsistent_3 : cX2_isConsistent.data.toList.drop 67 = dktX2_isConsistent_3 := dk_seg dksX2_isConsistent_2 22 rfl rfl
theorem dksX2_isConsistent_4 : cX2_isConsistent.data.toList.drop 91 = dktX2_isConsistent_4 := dk_seg dksX2_isConsistent_3 24 rfl rfl
theorem dksX2_isConsistent_5 : cX2_isConsistent.data.toList.drop 113 = dktX2_isConsistent_5 := dk_seg dksX2_isConsistent_4 22 rfl rfl
theorem dX2_isConsistent_0 : decode cX2_isConsistent 0 = .ok (.aload_n 0, 1) := dk_42 (dk_at dksX2_isConsistent_0 0 rfl rfl)
theorem dX2_isConsistent_1 : decode cX2_isConsistent 1 = .ok (.invokevirtual 261, 3) := dk_182 1 5 (dk_at dksX2_isConsistent_0 1 rfl rfl)
theorem dX2_isConsistent_4 : decode cX2_isConsistent 4 = .ok (.astore_n 1, 1) := dk_76 (dk_at dksX2_isConsistent_0 4 rfl rfl)
theorem dX2_isConsistent_5 : decode cX2_isConsistent 5 = .ok (.aload_n 0, 1) := dk_42 (dk_at dksX2_isConsistent_0 5 rfl rfl)
theorem dX2_isConsistent_6 : decode cX2_isConsistent 6 = .ok (.getfield 28, 3) := dk_180 0 28 (dk_at dksX2_isConsistent_0 6 rfl rfl)
theorem dX2_isConsistent_9 : decode cX2_isConsistent 9 = .ok (.invokevirtual 123, 3) := dk_182 0 123 (dk_at dksX2_isConsistent_0 9 rfl rfl)
theorem dX2_isConsistent_12 : decode cX2_isConsistent 12 = .ok (.aload_n 0, 1) := dk_42 (dk_at dksX2_isConsistent_0 12 rfl rfl)
theorem dX2_isConsistent_13 : decode cX2_isConsistent 13 = .ok (.getfield 21, 3) := dk_180 0 21 (dk_at dksX2_isConsistent_0 13 rfl rfl)
theorem dX2_isConsistent_16 : decode cX2_isConsistent 16 = .ok (.invokevirtual 264, 3) := dk_182 1 8 (dk_at dksX2_isConsistent_0 16 rfl rfl)
theorem dX2_isConsistent_19 : decode cX2_isConsistent 19 = .ok (.if_icmp .ne 7, 3) := dk_160 0 7 (dk_at dksX2_isConsistent_0 19 rfl rfl)
theorem dX2_isConsistent_22 : decode cX2_isConsistent 22 = .ok (.iconst 1, 1) := dk_4 (dk_at dksX2_isConsistent_0 22 rfl rfl)
theorem dX2_isConsistent_23 : decode cX2_isConsistent 23 = .ok (.goto 4, 3) := dk_167 0 4 (dk_at dksX2_isConsistent_1 0 rfl rfl)
theorem dX2_isConsistent_26 : decode cX2_isConsistent 26 = .ok (.iconst 0, 1) := dk_3 (dk_at dksX2_isConsistent_1 3 rfl rfl)
theorem dX2_isConsistent_27 : decode cX2_isConsistent 27 = .ok (.istore_n 2, 1) := dk_61 (dk_at dksX2_isConsistent_1 4 rfl rfl)
theorem dX2_isConsistent_28 : decode cX2_isConsistent 28 = .ok (.iload_n 2, 1) := dk_28 (dk_at dksX2_isConsistent_1 5 rfl rfl)
theorem dX2_isConsistent_29 : decode cX2_isConsistent 29 = .ok (.aload_n 0, 1) := dk_42 (dk_at dksX2_isConsistent_1 6 rfl rfl)
theorem dX2_isConsistent_30 : decode cX2_isConsistent 30 = .ok (.invokevirtual 105, 3) := dk_182 0 105 (dk_at dksX2_isConsistent_1 7 rfl rfl)
theorem dX2_isConsistent_33 : decode cX2_isConsistent 33 = .ok (.aload_n 1, 1) := dk_43 (dk_at dksX2_isConsistent_1 10 rfl rfl)
theorem dX2_isConsistent_34 : decode cX2_isConsistent 34 = .ok (.invokevirtual 152, 3) := dk_182 0 152 (dk_at dksX2_isConsistent_1 11 rfl rfl)
theorem dX2_isConsistent_37 : decode cX2_isConsistent 37 = .ok (.ifCond .ne 18, 3) := dk_154 0 18 (dk_at dksX2_isConsistent_1 14 rfl rfl)
theorem dX2_isConsistent_40 : decode cX2_isConsistent 40 = .ok (.aload_n 1, 1) := dk_43 (dk_at dksX2_isConsistent_1 17 rfl rfl)
theorem dX2_isConsistent_41 : decode cX2_isConsistent 41 = .ok (.aload_n 0, 1) := dk_42 (dk_at dksX2_isConsistent_1 18 rfl rfl)
theorem dX2_isConsistent_42 : decode cX2_isConsistent 42 = .ok (.invokevirtual 105, 3) := dk_182 0 105 (dk_at dksX2_isConsistent_1 19 rfl rfl)
theorem dX2_isConsistent_45 : decode cX2_isConsistent 45 = .ok (.invokevirtual 152, 3) := dk_182 0 152 (dk_at dksX2_isConsistent_2 0 rfl rfl)
theorem dX2_isConsistent_48 : decode cX2_isConsistent 48 = .ok (.ifCond .ne 7, 3) := dk_154 0 7 (dk_at dksX2_isConsistent_2 3 rfl rfl)
theorem dX2_isConsistent_51 : decode cX2_isConsistent 51 = .ok (.iconst 1, 1) := dk_4 (dk_at dksX2_isConsistent_2 6 rfl rfl)
theorem dX2_isConsistent_52 : decode cX2_isConsistent 52 = .ok (.goto 4, 3) := dk_167 0 4 (dk_at dksX2_isConsistent_2 7 rfl rfl)
theorem dX2_isConsistent_55 : decode cX2_isConsistent 55 = .ok (.iconst 0, 1) := dk_3 (dk_at dksX2_isConsistent_2 10 rfl rfl)
theorem dX2_isConsistent_56 : decode cX2_isConsistent 56 = .ok (.iand, 1) := dk_126 (dk_at dksX2_isConsistent_2 11 rfl rfl)
theorem dX2_isConsistent_57 : decode cX2_isConsistent 57 = .ok (.istore_n 2, 1) := dk_61 (dk_at dksX2_isConsistent_2 12 rfl rfl)
theorem dX2_isConsistent_58 : decode cX2_isConsistent 58 = .ok (.iload_n 2, 1) := dk_28 (dk_at dksX2_isConsistent_2 13 rfl rfl)
theorem dX2_isConsistent_59 : decode cX2_isConsistent 59 = .ok (.new 267, 3) := dk_187 1 11 (dk_at dksX2_isConsistent_2 14 rfl rfl)
theorem dX2_isConsistent_62 : decode cX2_isConsistent 62 = .ok (.dup, 1) := dk_89 (dk_at dksX2_isConsistent_2 17 rfl rfl)
theorem dX2_isConsistent_63 : decode cX2_isConsistent 63 = .ok (.aload_n 0, 1) := dk_42 (dk_at dksX2_isConsistent_2 18 rfl rfl)
theorem dX2_isConsistent_64 : decode cX2_isConsistent 64 = .ok (.invokespecial 269, 3) := dk_183 1 13 (dk_at dksX2_isConsistent_2 19 rfl rfl)
theorem dX2_isConsistent_67 : decode cX2_isConsistent 67 = .ok (.invokevirtual 270, 3) := dk_182 1 14 (dk_at dksX2_isConsistent_3 0 rfl rfl)
theorem dX2_isConsistent_70 : decode cX2_isConsistent 70 = .ok (.new 267, 3) := dk_187 1 11 (dk_at dksX2_isConsistent_3 3 rfl rfl)
theorem dX2_isConsistent_73 : decode cX2_isConsistent 73 = .ok (.dup, 1) := dk_89 (dk_at dksX2_isConsistent_3 6 rfl rfl)
theorem dX2_isConsistent_74 : decode cX2_isConsistent 74 = .ok (.aload_n 0, 1) := dk_42 (dk_at dksX2_isConsistent_3 7 rfl rfl)
theorem dX2_isConsistent_75 : decode cX2_isConsistent 75 = .ok (.invokespecial 269, 3) := dk_183 1 13 (dk_at dksX2_isConsistent_3 8 rfl rfl)
theorem dX2_isConsistent_78 : decode cX2_isConsistent 78 = .ok (.invokevirtual 274, 3) := dk_182 1 18 (dk_at dksX2_isConsistent_3 11 rfl rfl)
theorem dX2_isConsistent_81 : decode cX2_isConsistent 81 = .ok (.invokevirtual 277, 3) := dk_182 1 21 (dk_at dksX2_isConsistent_3 14 rfl rfl)
theorem dX2_isConsistent_84 : decode cX2_isConsistent 84 = .ok (.iand, 1) := dk_126 (dk_at dksX2_isConsistent_3 17 rfl rfl)
theorem dX2_isConsistent_85 : decode cX2_isConsistent 85 = .ok (.istore_n 2, 1) := dk_61 (dk_at dksX2_isConsistent_3 18 rfl rfl)
theorem dX2_isConsistent_86 : decode cX2_isConsistent 86 = .ok (.new 78, 3) := dk_187 0 78 (dk_at dksX2_isConsistent_3 19 rfl rfl)
theorem dX2_isConsistent_89 : decode cX2_isConsistent 89 = .ok (.dup, 1) := dk_89 (dk_at dksX2_isConsistent_3 22 rfl rfl)
theorem dX2_isConsistent_90 : decode cX2_isConsistent 90 = .ok (.aload_n 0, 1) := dk_42 (dk_at dksX2_isConsistent_3 23 rfl rfl)
theorem dX2_isConsistent_91 : decode cX2_isConsistent 91 = .ok (.getfield 12, 3) := dk_180 0 12 (dk_at dksX2_isConsistent_4 0 rfl rfl)
theorem dX2_isConsistent_94 : decode cX2_isConsistent 94 = .ok (.invokespecial 80, 3) := dk_183 0 80 (dk_at dksX2_isConsistent_4 3 rfl rfl)
theorem dX2_isConsistent_97 : decode cX2_isConsistent 97 = .ok (.astore_n 3, 1) := dk_78 (dk_at dksX2_isConsistent_4 6 rfl rfl)
theorem dX2_isConsistent_98 : decode cX2_isConsistent 98 = .ok (.iconst 0, 1) := dk_3 (dk_at dksX2_isConsistent_4 7 rfl rfl)
theorem dX2_isConsistent_99 : decode cX2_isConsistent 99 = .ok (.istore 4, 2) := dk_54 4 (dk_at dksX2_isConsistent_4 8 rfl rfl)
theorem dX2_isConsistent_101 : decode cX2_isConsistent 101 = .ok (.iload 4, 2) := dk_21 4 (dk_at dksX2_isConsistent_4 10 rfl rfl)
theorem dX2_isConsistent_103 : decode cX2_isConsistent 103 = .ok (.bipush 8, 2) := dk_16 8 (dk_at dksX2_isConsistent_4 12 rfl rfl)
theorem dX2_isConsistent_105 : decode cX2_isConsistent 105 = .ok (.if_icmp .ge 19, 3) := dk_162 0 19 (dk_at dksX2_isConsistent_4 14 rfl rfl)
theorem dX2_isConsistent_108 : decode cX2_isConsistent 108 = .ok (.iload_n 2, 1) := dk_28 (dk_at dksX2_isConsistent_4 17 rfl rfl)
theorem dX2_isConsistent_109 : decode cX2_isConsistent 109 = .ok (.aload_n 0, 1) := dk_42 (dk_at dksX2_isConsistent_4 18 rfl rfl)
theorem dX2_isConsistent_110 : decode cX2_isConsistent 110 = .ok (.iload 4, 2) := dk_21 4 (dk_at dksX2_isConsistent_4 19 rfl rfl)
theorem dX2_isConsistent_112 : decode cX2_isConsistent 112 = .ok (.aload_n 3, 1) := dk_45 (dk_at dksX2_isConsistent_4 21 rfl rfl)
theorem dX2_isConsistent_113 : decode cX2_isConsistent 113 = .ok (.invokevirtual 281, 3) := dk_182 1 25 (dk_at dksX2_isConsistent_5 0 rfl rfl)
theorem dX2_isConsistent_116 : decode cX2_isConsistent 116 = .ok (.iand, 1) := dk_126 (dk_at dksX2_isConsistent_5 3 rfl rfl)
theorem dX2_isConsistent_117 : decode cX2_isConsistent 117 = .ok (.istore_n 2, 1) := dk_61 (dk_at dksX2_isConsistent_5 4 rfl rfl)
theorem dX2_isConsistent_118 : decode cX2_isConsistent 118 = .ok (.iinc 4 1, 3) := dk_132 4 1 (dk_at dksX2_isConsistent_5 5 rfl rfl)
theorem dX2_isConsistent_121 : decode cX2_isConsistent 121 = .ok (.goto (-20), 3) := dk_167 255 236 (dk_at dksX2_isConsistent_5 8 rfl rfl)
theorem dX2_isConsistent_124 : decode cX2_isConsistent 124 = .ok (.iload_n 2, 1) := dk_28 (dk_at dksX2_isConsistent_5 11 rfl rfl)
theorem dX2_isConsistent_125 : decode cX2_isConsistent 125 = .ok (.ireturn, 1) := dk_172 (dk_at dksX2_isConsistent_5 12 rfl rfl)
abbrev cX2_byTrying : ByteArray := prog_17_method_5_code
def yX2_byTrying : MethodName := ⟨RX2, "byTrying", "()LBrambleLogic$Facts;"⟩
def dkwX2_byTrying_2 : List UInt8 := [132, 3, 1, 167, 255, 237, 44, 180, 0, 104, 176]
abbrev dktX2_byTrying_2 : List UInt8 := dkwX2_byTrying_2 ++ []
def dkwX2_byTrying_1 : List UInt8 := [183, 0, 102, 77, 3, 62, 29, 16, 8, 162, 0, 19, 44, 42, 29, 43, 182, 0, 90, 182, 0, 103]
abbrev dktX2_byTrying_1 : List UInt8 := dkwX2_byTrying_1 ++ dktX2_byTrying_2
def dkwX2_byTrying_0 : List UInt8 := [187, 0, 78, 89, 42, 180, 0, 12, 183, 0, 80, 182, 0, 83, 76, 187, 0, 100, 89, 42, 180, 0, 28]
abbrev dktX2_byTrying_0 : List UInt8 := dkwX2_byTrying_0 ++ dktX2_byTrying_1
theorem dksX2_byTrying_0 : cX2_byTrying.data.toList.drop 0 = dktX2_byTrying_0 := by decide +kernel
theorem dksX2_byTrying_1 : cX2_byTrying.data.toList.drop 23 = dktX2_byTrying_1 := dk_seg dksX2_byTrying_0 23 rfl rfl
theorem dksX2_byTrying_2 : cX2_byTrying.data.toList.drop 45 = dktX2_byTrying_2 := dk_seg dksX2_byTrying_1 22 rfl rfl
theorem dX2_byTrying_0 : decode cX2_byTrying 0 = .ok (.new 78, 3) := dk_187 0 78 (dk_at dksX2_byTrying_0 0 rfl rfl)
theorem dX2_byTrying_3 : decode cX2_byTrying 3 = .ok (.dup, 1) := dk_89 (dk_at dksX2_byTrying_0 3 rfl rfl)
theorem dX2_byTrying_4 : decode cX2_byTrying 4 = .ok (.aload_n 0, 1) := dk_42 (dk_at dksX2_byTrying_0 4 rfl rfl)
theorem dX2_byTrying_5 : decode cX2_byTrying 5 = .ok (.getfield 12, 3) := dk_180 0 12 (dk_at dksX2_byTrying_0 5 rfl rfl)
theorem dX2_byTrying_8 : decode cX2_byTrying 8 = .ok (.invokespecial 80, 3) := dk_183 0 80 (dk_at dksX2_byTrying_0 8 rfl rfl)
theorem dX2_byTrying_11 : decode cX2_byTrying 11 = .ok (.invokevirtual 83, 3) := dk_182 0 83 (dk_at dksX2_byTrying_0 11 rfl rfl)
theorem dX2_byTrying_14 : decode cX2_byTrying 14 = .ok (.astore_n 1, 1) := dk_76 (dk_at dksX2_byTrying_0 14 rfl rfl)
theorem dX2_byTrying_15 : decode cX2_byTrying 15 = .ok (.new 100, 3) := dk_187 0 100 (dk_at dksX2_byTrying_0 15 rfl rfl)
theorem dX2_byTrying_18 : decode cX2_byTrying 18 = .ok (.dup, 1) := dk_89 (dk_at dksX2_byTrying_0 18 rfl rfl)
theorem dX2_byTrying_19 : decode cX2_byTrying 19 = .ok (.aload_n 0, 1) := dk_42 (dk_at dksX2_byTrying_0 19 rfl rfl)
theorem dX2_byTrying_20 : decode cX2_byTrying 20 = .ok (.getfield 28, 3) := dk_180 0 28 (dk_at dksX2_byTrying_0 20 rfl rfl)
theorem dX2_byTrying_23 : decode cX2_byTrying 23 = .ok (.invokespecial 102, 3) := dk_183 0 102 (dk_at dksX2_byTrying_1 0 rfl rfl)
theorem dX2_byTrying_26 : decode cX2_byTrying 26 = .ok (.astore_n 2, 1) := dk_77 (dk_at dksX2_byTrying_1 3 rfl rfl)
theorem dX2_byTrying_27 : decode cX2_byTrying 27 = .ok (.iconst 0, 1) := dk_3 (dk_at dksX2_byTrying_1 4 rfl rfl)
theorem dX2_byTrying_28 : decode cX2_byTrying 28 = .ok (.istore_n 3, 1) := dk_62 (dk_at dksX2_byTrying_1 5 rfl rfl)
theorem dX2_byTrying_29 : decode cX2_byTrying 29 = .ok (.iload_n 3, 1) := dk_29 (dk_at dksX2_byTrying_1 6 rfl rfl)
theorem dX2_byTrying_30 : decode cX2_byTrying 30 = .ok (.bipush 8, 2) := dk_16 8 (dk_at dksX2_byTrying_1 7 rfl rfl)
theorem dX2_byTrying_32 : decode cX2_byTrying 32 = .ok (.if_icmp .ge 19, 3) := dk_162 0 19 (dk_at dksX2_byTrying_1 9 rfl rfl)
theorem dX2_byTrying_35 : decode cX2_byTrying 35 = .ok (.aload_n 2, 1) := dk_44 (dk_at dksX2_byTrying_1 12 rfl rfl)
theorem dX2_byTrying_36 : decode cX2_byTrying 36 = .ok (.aload_n 0, 1) := dk_42 (dk_at dksX2_byTrying_1 13 rfl rfl)
theorem dX2_byTrying_37 : decode cX2_byTrying 37 = .ok (.iload_n 3, 1) := dk_29 (dk_at dksX2_byTrying_1 14 rfl rfl)
theorem dX2_byTrying_38 : decode cX2_byTrying 38 = .ok (.aload_n 1, 1) := dk_43 (dk_at dksX2_byTrying_1 15 rfl rfl)
theorem dX2_byTrying_39 : decode cX2_byTrying 39 = .ok (.invokevirtual 90, 3) := dk_182 0 90 (dk_at dksX2_byTrying_1 16 rfl rfl)
theorem dX2_byTrying_42 : decode cX2_byTrying 42 = .ok (.invokevirtual 103, 3) := dk_182 0 103 (dk_at dksX2_byTrying_1 19 rfl rfl)
theorem dX2_byTrying_45 : decode cX2_byTrying 45 = .ok (.iinc 3 1, 3) := dk_132 3 1 (dk_at dksX2_byTrying_2 0 rfl rfl)
theorem dX2_byTrying_48 : decode cX2_byTrying 48 = .ok (.goto (-19), 3) := dk_167 255 237 (dk_at dksX2_byTrying_2 3 rfl rfl)
theorem dX2_byTrying_51 : decode cX2_byTrying 51 = .ok (.aload_n 2, 1) := dk_44 (dk_at dksX2_byTrying_2 6 rfl rfl)
theorem dX2_byTrying_52 : decode cX2_byTrying 52 = .ok (.getfield 104, 3) := dk_180 0 104 (dk_at dksX2_byTrying_2 7 rfl rfl)
theorem dX2_byTrying_55 : decode cX2_byTrying 55 = .ok (.areturn, 1) := dk_176 (dk_at dksX2_byTrying_2 10 rfl rfl)
abbrev cX2_isPredicateSo : ByteArray := prog_17_method_22_code
def yX2_isPredicateSo : MethodName := ⟨RX2, "isPredicateSo", "(ILBrambleLogic$Needs;)Z"⟩
def dkwX2_isPredicateSo_2 : List UInt8 := [46, 44, 27, 4, 27, 120, 182, 1, 2, 160, 0, 7, 4, 167, 0, 4, 3, 172]
abbrev dktX2_isPredicateSo_2 : List UInt8 := dkwX2_isPredicateSo_2 ++ []
def dkwX2_isPredicateSo_1 : List UInt8 := [182, 0, 254, 182, 0, 250, 160, 0, 7, 4, 167, 0, 4, 3, 62, 29, 153, 0, 24, 44, 182, 0, 83, 27]
abbrev dktX2_isPredicateSo_1 : List UInt8 := dkwX2_isPredicateSo_1 ++ dktX2_isPredicateSo_2
def dkwX2_isPredicateSo_0 : List UInt8 := [42, 182, 0, 105, 180, 0, 138, 27, 50, 182, 0, 250, 187, 0, 251, 89, 42, 183, 0, 253, 27, 2, 2]
abbrev dktX2_isPredicateSo_0 : List UInt8 := dkwX2_isPredicateSo_0 ++ dktX2_isPredicateSo_1
theorem dksX2_isPredicateSo_0 : cX2_isPredicateSo.data.toList.drop 0 = dktX2_isPredicateSo_0 := by decide +kernel
theorem dksX2_isPredicateSo_1 : cX2_isPredicateSo.data.toList.drop 23 = dktX2_isPredicateSo_1 := dk_seg dksX2_isPredicateSo_0 23 rfl rfl
theorem dksX2_isPredicateSo_2 : cX2_isPredicateSo.data.toList.drop 47 = dktX2_isPredicateSo_2 := dk_seg dksX2_isPredicateSo_1 24 rfl rfl
theorem dX2_isPredicateSo_0 : decode cX2_isPredicateSo 0 = .ok (.aload_n 0, 1) := dk_42 (dk_at dksX2_isPredicateSo_0 0 rfl rfl)
theorem dX2_isPredicateSo_1 : decode cX2_isPredicateSo 1 = .ok (.invokevirtual 105, 3) := dk_182 0 105 (dk_at dksX2_isPredicateSo_0 1 rfl rfl)
theorem dX2_isPredicateSo_4 : decode cX2_isPredicateSo 4 = .ok (.getfield 138, 3) := dk_180 0 138 (dk_at dksX2_isPredicateSo_0 4 rfl rfl)
theorem dX2_isPredicateSo_7 : decode cX2_isPredicateSo 7 = .ok (.iload_n 1, 1) := dk_27 (dk_at dksX2_isPredicateSo_0 7 rfl rfl)
theorem dX2_isPredicateSo_8 : decode cX2_isPredicateSo 8 = .ok (.aaload, 1) := dk_50 (dk_at dksX2_isPredicateSo_0 8 rfl rfl)
theorem dX2_isPredicateSo_9 : decode cX2_isPredicateSo 9 = .ok (.invokevirtual 250, 3) := dk_182 0 250 (dk_at dksX2_isPredicateSo_0 9 rfl rfl)
theorem dX2_isPredicateSo_12 : decode cX2_isPredicateSo 12 = .ok (.new 251, 3) := dk_187 0 251 (dk_at dksX2_isPredicateSo_0 12 rfl rfl)
theorem dX2_isPredicateSo_15 : decode cX2_isPredicateSo 15 = .ok (.dup, 1) := dk_89 (dk_at dksX2_isPredicateSo_0 15 rfl rfl)
theorem dX2_isPredicateSo_16 : decode cX2_isPredicateSo 16 = .ok (.aload_n 0, 1) := dk_42 (dk_at dksX2_isPredicateSo_0 16 rfl rfl)
theorem dX2_isPredicateSo_17 : decode cX2_isPredicateSo 17 = .ok (.invokespecial 253, 3) := dk_183 0 253 (dk_at dksX2_isPredicateSo_0 17 rfl rfl)
theorem dX2_isPredicateSo_20 : decode cX2_isPredicateSo 20 = .ok (.iload_n 1, 1) := dk_27 (dk_at dksX2_isPredicateSo_0 20 rfl rfl)
theorem dX2_isPredicateSo_21 : decode cX2_isPredicateSo 21 = .ok (.iconst (-1), 1) := dk_2 (dk_at dksX2_isPredicateSo_0 21 rfl rfl)
theorem dX2_isPredicateSo_22 : decode cX2_isPredicateSo 22 = .ok (.iconst (-1), 1) := dk_2 (dk_at dksX2_isPredicateSo_0 22 rfl rfl)
theorem dX2_isPredicateSo_23 : decode cX2_isPredicateSo 23 = .ok (.invokevirtual 254, 3) := dk_182 0 254 (dk_at dksX2_isPredicateSo_1 0 rfl rfl)
theorem dX2_isPredicateSo_26 : decode cX2_isPredicateSo 26 = .ok (.invokevirtual 250, 3) := dk_182 0 250 (dk_at dksX2_isPredicateSo_1 3 rfl rfl)
theorem dX2_isPredicateSo_29 : decode cX2_isPredicateSo 29 = .ok (.if_icmp .ne 7, 3) := dk_160 0 7 (dk_at dksX2_isPredicateSo_1 6 rfl rfl)
theorem dX2_isPredicateSo_32 : decode cX2_isPredicateSo 32 = .ok (.iconst 1, 1) := dk_4 (dk_at dksX2_isPredicateSo_1 9 rfl rfl)
theorem dX2_isPredicateSo_33 : decode cX2_isPredicateSo 33 = .ok (.goto 4, 3) := dk_167 0 4 (dk_at dksX2_isPredicateSo_1 10 rfl rfl)
theorem dX2_isPredicateSo_36 : decode cX2_isPredicateSo 36 = .ok (.iconst 0, 1) := dk_3 (dk_at dksX2_isPredicateSo_1 13 rfl rfl)
theorem dX2_isPredicateSo_37 : decode cX2_isPredicateSo 37 = .ok (.istore_n 3, 1) := dk_62 (dk_at dksX2_isPredicateSo_1 14 rfl rfl)
theorem dX2_isPredicateSo_38 : decode cX2_isPredicateSo 38 = .ok (.iload_n 3, 1) := dk_29 (dk_at dksX2_isPredicateSo_1 15 rfl rfl)
theorem dX2_isPredicateSo_39 : decode cX2_isPredicateSo 39 = .ok (.ifCond .eq 24, 3) := dk_153 0 24 (dk_at dksX2_isPredicateSo_1 16 rfl rfl)
theorem dX2_isPredicateSo_42 : decode cX2_isPredicateSo 42 = .ok (.aload_n 2, 1) := dk_44 (dk_at dksX2_isPredicateSo_1 19 rfl rfl)
theorem dX2_isPredicateSo_43 : decode cX2_isPredicateSo 43 = .ok (.invokevirtual 83, 3) := dk_182 0 83 (dk_at dksX2_isPredicateSo_1 20 rfl rfl)
theorem dX2_isPredicateSo_46 : decode cX2_isPredicateSo 46 = .ok (.iload_n 1, 1) := dk_27 (dk_at dksX2_isPredicateSo_1 23 rfl rfl)
theorem dX2_isPredicateSo_47 : decode cX2_isPredicateSo 47 = .ok (.iaload, 1) := dk_46 (dk_at dksX2_isPredicateSo_2 0 rfl rfl)
theorem dX2_isPredicateSo_48 : decode cX2_isPredicateSo 48 = .ok (.aload_n 2, 1) := dk_44 (dk_at dksX2_isPredicateSo_2 1 rfl rfl)
theorem dX2_isPredicateSo_49 : decode cX2_isPredicateSo 49 = .ok (.iload_n 1, 1) := dk_27 (dk_at dksX2_isPredicateSo_2 2 rfl rfl)
theorem dX2_isPredicateSo_50 : decode cX2_isPredicateSo 50 = .ok (.iconst 1, 1) := dk_4 (dk_at dksX2_isPredicateSo_2 3 rfl rfl)
theorem dX2_isPredicateSo_51 : decode cX2_isPredicateSo 51 = .ok (.iload_n 1, 1) := dk_27 (dk_at dksX2_isPredicateSo_2 4 rfl rfl)
theorem dX2_isPredicateSo_52 : decode cX2_isPredicateSo 52 = .ok (.ishl, 1) := dk_120 (dk_at dksX2_isPredicateSo_2 5 rfl rfl)
theorem dX2_isPredicateSo_53 : decode cX2_isPredicateSo 53 = .ok (.invokevirtual 258, 3) := dk_182 1 2 (dk_at dksX2_isPredicateSo_2 6 rfl rfl)
theorem dX2_isPredicateSo_56 : decode cX2_isPredicateSo 56 = .ok (.if_icmp .ne 7, 3) := dk_160 0 7 (dk_at dksX2_isPredicateSo_2 9 rfl rfl)
theorem dX2_isPredicateSo_59 : decode cX2_isPredicateSo 59 = .ok (.iconst 1, 1) := dk_4 (dk_at dksX2_isPredicateSo_2 12 rfl rfl)
theorem dX2_isPredicateSo_60 : decode cX2_isPredicateSo 60 = .ok (.goto 4, 3) := dk_167 0 4 (dk_at dksX2_isPredicateSo_2 13 rfl rfl)
theorem dX2_isPredicateSo_63 : decode cX2_isPredicateSo 63 = .ok (.iconst 0, 1) := dk_3 (dk_at dksX2_isPredicateSo_2 16 rfl rfl)
theorem dX2_isPredicateSo_64 : decode cX2_isPredicateSo 64 = .ok (.ireturn, 1) := dk_172 (dk_at dksX2_isPredicateSo_2 17 rfl rfl)
abbrev cX2_describeGiven : ByteArray := prog_17_method_25_code
def yX2_describeGiven : MethodName := ⟨RX2, "describeGiven", "()Ljava/lang/String;"⟩
def dkwX2_describeGiven_3 : List UInt8 := [132, 2, 1, 167, 255, 192, 43, 182, 1, 42, 176]
abbrev dktX2_describeGiven_3 : List UInt8 := dkwX2_describeGiven_3 ++ []
def dkwX2_describeGiven_2 : List UInt8 := [167, 0, 6, 19, 1, 58, 182, 1, 36, 28, 29, 184, 1, 32, 182, 1, 36, 87, 132, 3, 1, 167, 255, 206]
abbrev dktX2_describeGiven_2 : List UInt8 := dkwX2_describeGiven_2 ++ dktX2_describeGiven_3
def dkwX2_describeGiven_1 : List UInt8 := [42, 180, 0, 28, 28, 29, 182, 0, 108, 153, 0, 32, 43, 43, 182, 1, 53, 154, 0, 9, 19, 1, 56]
abbrev dktX2_describeGiven_1 : List UInt8 := dkwX2_describeGiven_1 ++ dktX2_describeGiven_2
def dkwX2_describeGiven_0 : List UInt8 := [187, 1, 29, 89, 183, 1, 31, 76, 3, 61, 28, 16, 8, 162, 0, 64, 3, 62, 29, 16, 100, 162, 0, 50]
abbrev dktX2_describeGiven_0 : List UInt8 := dkwX2_describeGiven_0 ++ dktX2_describeGiven_1
theorem dksX2_describeGiven_0 : cX2_describeGiven.data.toList.drop 0 = dktX2_describeGiven_0 := by decide +kernel
theorem dksX2_describeGiven_1 : cX2_describeGiven.data.toList.drop 24 = dktX2_describeGiven_1 := dk_seg dksX2_describeGiven_0 24 rfl rfl
theorem dksX2_describeGiven_2 : cX2_describeGiven.data.toList.drop 47 = dktX2_describeGiven_2 := dk_seg dksX2_describeGiven_1 23 rfl rfl
theorem dksX2_describeGiven_3 : cX2_describeGiven.data.toList.drop 71 = dktX2_describeGiven_3 := dk_seg dksX2_describeGiven_2 24 rfl rfl
theorem dX2_describeGiven_0 : decode cX2_describeGiven 0 = .ok (.new 285, 3) := dk_187 1 29 (dk_at dksX2_describeGiven_0 0 rfl rfl)
theorem dX2_describeGiven_3 : decode cX2_describeGiven 3 = .ok (.dup, 1) := dk_89 (dk_at dksX2_describeGiven_0 3 rfl rfl)
theorem dX2_describeGiven_4 : decode cX2_describeGiven 4 = .ok (.invokespecial 287, 3) := dk_183 1 31 (dk_at dksX2_describeGiven_0 4 rfl rfl)
theorem dX2_describeGiven_7 : decode cX2_describeGiven 7 = .ok (.astore_n 1, 1) := dk_76 (dk_at dksX2_describeGiven_0 7 rfl rfl)
theorem dX2_describeGiven_8 : decode cX2_describeGiven 8 = .ok (.iconst 0, 1) := dk_3 (dk_at dksX2_describeGiven_0 8 rfl rfl)
theorem dX2_describeGiven_9 : decode cX2_describeGiven 9 = .ok (.istore_n 2, 1) := dk_61 (dk_at dksX2_describeGiven_0 9 rfl rfl)
theorem dX2_describeGiven_10 : decode cX2_describeGiven 10 = .ok (.iload_n 2, 1) := dk_28 (dk_at dksX2_describeGiven_0 10 rfl rfl)
theorem dX2_describeGiven_11 : decode cX2_describeGiven 11 = .ok (.bipush 8, 2) := dk_16 8 (dk_at dksX2_describeGiven_0 11 rfl rfl)
theorem dX2_describeGiven_13 : decode cX2_describeGiven 13 = .ok (.if_icmp .ge 64, 3) := dk_162 0 64 (dk_at dksX2_describeGiven_0 13 rfl rfl)
theorem dX2_describeGiven_16 : decode cX2_describeGiven 16 = .ok (.iconst 0, 1) := dk_3 (dk_at dksX2_describeGiven_0 16 rfl rfl)
theorem dX2_describeGiven_17 : decode cX2_describeGiven 17 = .ok (.istore_n 3, 1) := dk_62 (dk_at dksX2_describeGiven_0 17 rfl rfl)
theorem dX2_describeGiven_18 : decode cX2_describeGiven 18 = .ok (.iload_n 3, 1) := dk_29 (dk_at dksX2_describeGiven_0 18 rfl rfl)
theorem dX2_describeGiven_19 : decode cX2_describeGiven 19 = .ok (.bipush 100, 2) := dk_16 100 (dk_at dksX2_describeGiven_0 19 rfl rfl)
theorem dX2_describeGiven_21 : decode cX2_describeGiven 21 = .ok (.if_icmp .ge 50, 3) := dk_162 0 50 (dk_at dksX2_describeGiven_0 21 rfl rfl)
theorem dX2_describeGiven_24 : decode cX2_describeGiven 24 = .ok (.aload_n 0, 1) := dk_42 (dk_at dksX2_describeGiven_1 0 rfl rfl)
theorem dX2_describeGiven_25 : decode cX2_describeGiven 25 = .ok (.getfield 28, 3) := dk_180 0 28 (dk_at dksX2_describeGiven_1 1 rfl rfl)
theorem dX2_describeGiven_28 : decode cX2_describeGiven 28 = .ok (.iload_n 2, 1) := dk_28 (dk_at dksX2_describeGiven_1 4 rfl rfl)
theorem dX2_describeGiven_29 : decode cX2_describeGiven 29 = .ok (.iload_n 3, 1) := dk_29 (dk_at dksX2_describeGiven_1 5 rfl rfl)
theorem dX2_describeGiven_30 : decode cX2_describeGiven 30 = .ok (.invokevirtual 108, 3) := dk_182 0 108 (dk_at dksX2_describeGiven_1 6 rfl rfl)
theorem dX2_describeGiven_33 : decode cX2_describeGiven 33 = .ok (.ifCond .eq 32, 3) := dk_153 0 32 (dk_at dksX2_describeGiven_1 9 rfl rfl)
theorem dX2_describeGiven_36 : decode cX2_describeGiven 36 = .ok (.aload_n 1, 1) := dk_43 (dk_at dksX2_describeGiven_1 12 rfl rfl)
theorem dX2_describeGiven_37 : decode cX2_describeGiven 37 = .ok (.aload_n 1, 1) := dk_43 (dk_at dksX2_describeGiven_1 13 rfl rfl)
theorem dX2_describeGiven_38 : decode cX2_describeGiven 38 = .ok (.invokevirtual 309, 3) := dk_182 1 53 (dk_at dksX2_describeGiven_1 14 rfl rfl)
theorem dX2_describeGiven_41 : decode cX2_describeGiven 41 = .ok (.ifCond .ne 9, 3) := dk_154 0 9 (dk_at dksX2_describeGiven_1 17 rfl rfl)
theorem dX2_describeGiven_44 : decode cX2_describeGiven 44 = .ok (.ldc_w 312, 3) := dk_19 1 56 (dk_at dksX2_describeGiven_1 20 rfl rfl)
theorem dX2_describeGiven_47 : decode cX2_describeGiven 47 = .ok (.goto 6, 3) := dk_167 0 6 (dk_at dksX2_describeGiven_2 0 rfl rfl)
theorem dX2_describeGiven_50 : decode cX2_describeGiven 50 = .ok (.ldc_w 314, 3) := dk_19 1 58 (dk_at dksX2_describeGiven_2 3 rfl rfl)
theorem dX2_describeGiven_53 : decode cX2_describeGiven 53 = .ok (.invokevirtual 292, 3) := dk_182 1 36 (dk_at dksX2_describeGiven_2 6 rfl rfl)
theorem dX2_describeGiven_56 : decode cX2_describeGiven 56 = .ok (.iload_n 2, 1) := dk_28 (dk_at dksX2_describeGiven_2 9 rfl rfl)
theorem dX2_describeGiven_57 : decode cX2_describeGiven 57 = .ok (.iload_n 3, 1) := dk_29 (dk_at dksX2_describeGiven_2 10 rfl rfl)
theorem dX2_describeGiven_58 : decode cX2_describeGiven 58 = .ok (.invokestatic 288, 3) := dk_184 1 32 (dk_at dksX2_describeGiven_2 11 rfl rfl)
theorem dX2_describeGiven_61 : decode cX2_describeGiven 61 = .ok (.invokevirtual 292, 3) := dk_182 1 36 (dk_at dksX2_describeGiven_2 14 rfl rfl)
theorem dX2_describeGiven_64 : decode cX2_describeGiven 64 = .ok (.pop, 1) := dk_87 (dk_at dksX2_describeGiven_2 17 rfl rfl)
theorem dX2_describeGiven_65 : decode cX2_describeGiven 65 = .ok (.iinc 3 1, 3) := dk_132 3 1 (dk_at dksX2_describeGiven_2 18 rfl rfl)
theorem dX2_describeGiven_68 : decode cX2_describeGiven 68 = .ok (.goto (-50), 3) := dk_167 255 206 (dk_at dksX2_describeGiven_2 21 rfl rfl)
theorem dX2_describeGiven_71 : decode cX2_describeGiven 71 = .ok (.iinc 2 1, 3) := dk_132 2 1 (dk_at dksX2_describeGiven_3 0 rfl rfl)
theorem dX2_describeGiven_74 : decode cX2_describeGiven 74 = .ok (.goto (-64), 3) := dk_167 255 192 (dk_at dksX2_describeGiven_3 3 rfl rfl)
theorem dX2_describeGiven_77 : decode cX2_describeGiven 77 = .ok (.aload_n 1, 1) := dk_43 (dk_at dksX2_describeGiven_3 6 rfl rfl)
theorem dX2_describeGiven_78 : decode cX2_describeGiven 78 = .ok (.invokevirtual 298, 3) := dk_182 1 42 (dk_at dksX2_describeGiven_3 7 rfl rfl)
theorem dX2_describeGiven_81 : decode cX2_describeGiven 81 = .ok (.areturn, 1) := dk_176 (dk_at dksX2_describeGiven_3 10 rfl rfl)
abbrev cX2_init_2 : ByteArray := prog_17_method_2_code
def yX2_init_2 : MethodName := ⟨RX2, "<init>", "(LBrambleLogic$Logic;)V"⟩
def dkwX2_init_2_2 : List UInt8 := [180, 0, 12, 185, 0, 35, 2, 0, 87, 42, 180, 0, 21, 43, 180, 0, 21, 182, 0, 41, 177]
abbrev dktX2_init_2_2 : List UInt8 := dkwX2_init_2_2 ++ []
def dkwX2_init_2_1 : List UInt8 := [181, 0, 21, 42, 187, 0, 25, 89, 43, 180, 0, 28, 183, 0, 32, 181, 0, 28, 42, 180, 0, 12, 43]
abbrev dktX2_init_2_1 : List UInt8 := dkwX2_init_2_1 ++ dktX2_init_2_2
def dkwX2_init_2_0 : List UInt8 := [42, 183, 0, 3, 42, 187, 0, 9, 89, 183, 0, 11, 181, 0, 12, 42, 187, 0, 18, 89, 183, 0, 20]
abbrev dktX2_init_2_0 : List UInt8 := dkwX2_init_2_0 ++ dktX2_init_2_1
theorem dksX2_init_2_0 : cX2_init_2.data.toList.drop 0 = dktX2_init_2_0 := by decide +kernel
theorem dksX2_init_2_1 : cX2_init_2.data.toList.drop 23 = dktX2_init_2_1 := dk_seg dksX2_init_2_0 23 rfl rfl
theorem dksX2_init_2_2 : cX2_init_2.data.toList.drop 46 = dktX2_init_2_2 := dk_seg dksX2_init_2_1 23 rfl rfl
theorem dX2_init_2_0 : decode cX2_init_2 0 = .ok (.aload_n 0, 1) := dk_42 (dk_at dksX2_init_2_0 0 rfl rfl)
theorem dX2_init_2_1 : decode cX2_init_2 1 = .ok (.invokespecial 3, 3) := dk_183 0 3 (dk_at dksX2_init_2_0 1 rfl rfl)
theorem dX2_init_2_4 : decode cX2_init_2 4 = .ok (.aload_n 0, 1) := dk_42 (dk_at dksX2_init_2_0 4 rfl rfl)
theorem dX2_init_2_5 : decode cX2_init_2 5 = .ok (.new 9, 3) := dk_187 0 9 (dk_at dksX2_init_2_0 5 rfl rfl)
theorem dX2_init_2_8 : decode cX2_init_2 8 = .ok (.dup, 1) := dk_89 (dk_at dksX2_init_2_0 8 rfl rfl)
theorem dX2_init_2_9 : decode cX2_init_2 9 = .ok (.invokespecial 11, 3) := dk_183 0 11 (dk_at dksX2_init_2_0 9 rfl rfl)
theorem dX2_init_2_12 : decode cX2_init_2 12 = .ok (.putfield 12, 3) := dk_181 0 12 (dk_at dksX2_init_2_0 12 rfl rfl)
theorem dX2_init_2_15 : decode cX2_init_2 15 = .ok (.aload_n 0, 1) := dk_42 (dk_at dksX2_init_2_0 15 rfl rfl)
theorem dX2_init_2_16 : decode cX2_init_2 16 = .ok (.new 18, 3) := dk_187 0 18 (dk_at dksX2_init_2_0 16 rfl rfl)
theorem dX2_init_2_19 : decode cX2_init_2 19 = .ok (.dup, 1) := dk_89 (dk_at dksX2_init_2_0 19 rfl rfl)
theorem dX2_init_2_20 : decode cX2_init_2 20 = .ok (.invokespecial 20, 3) := dk_183 0 20 (dk_at dksX2_init_2_0 20 rfl rfl)
theorem dX2_init_2_23 : decode cX2_init_2 23 = .ok (.putfield 21, 3) := dk_181 0 21 (dk_at dksX2_init_2_1 0 rfl rfl)
theorem dX2_init_2_26 : decode cX2_init_2 26 = .ok (.aload_n 0, 1) := dk_42 (dk_at dksX2_init_2_1 3 rfl rfl)
theorem dX2_init_2_27 : decode cX2_init_2 27 = .ok (.new 25, 3) := dk_187 0 25 (dk_at dksX2_init_2_1 4 rfl rfl)
theorem dX2_init_2_30 : decode cX2_init_2 30 = .ok (.dup, 1) := dk_89 (dk_at dksX2_init_2_1 7 rfl rfl)
theorem dX2_init_2_31 : decode cX2_init_2 31 = .ok (.aload_n 1, 1) := dk_43 (dk_at dksX2_init_2_1 8 rfl rfl)
theorem dX2_init_2_32 : decode cX2_init_2 32 = .ok (.getfield 28, 3) := dk_180 0 28 (dk_at dksX2_init_2_1 9 rfl rfl)
theorem dX2_init_2_35 : decode cX2_init_2 35 = .ok (.invokespecial 32, 3) := dk_183 0 32 (dk_at dksX2_init_2_1 12 rfl rfl)
theorem dX2_init_2_38 : decode cX2_init_2 38 = .ok (.putfield 28, 3) := dk_181 0 28 (dk_at dksX2_init_2_1 15 rfl rfl)
theorem dX2_init_2_41 : decode cX2_init_2 41 = .ok (.aload_n 0, 1) := dk_42 (dk_at dksX2_init_2_1 18 rfl rfl)
theorem dX2_init_2_42 : decode cX2_init_2 42 = .ok (.getfield 12, 3) := dk_180 0 12 (dk_at dksX2_init_2_1 19 rfl rfl)
theorem dX2_init_2_45 : decode cX2_init_2 45 = .ok (.aload_n 1, 1) := dk_43 (dk_at dksX2_init_2_1 22 rfl rfl)
theorem dX2_init_2_46 : decode cX2_init_2 46 = .ok (.getfield 12, 3) := dk_180 0 12 (dk_at dksX2_init_2_2 0 rfl rfl)
theorem dX2_init_2_49 : decode cX2_init_2 49 = .ok (.invokeinterface 35 2, 5) := by decide +kernel
theorem dX2_init_2_54 : decode cX2_init_2 54 = .ok (.pop, 1) := dk_87 (dk_at dksX2_init_2_2 8 rfl rfl)
theorem dX2_init_2_55 : decode cX2_init_2 55 = .ok (.aload_n 0, 1) := dk_42 (dk_at dksX2_init_2_2 9 rfl rfl)
theorem dX2_init_2_56 : decode cX2_init_2 56 = .ok (.getfield 21, 3) := dk_180 0 21 (dk_at dksX2_init_2_2 10 rfl rfl)
theorem dX2_init_2_59 : decode cX2_init_2 59 = .ok (.aload_n 1, 1) := dk_43 (dk_at dksX2_init_2_2 13 rfl rfl)
theorem dX2_init_2_60 : decode cX2_init_2 60 = .ok (.getfield 21, 3) := dk_180 0 21 (dk_at dksX2_init_2_2 14 rfl rfl)
theorem dX2_init_2_63 : decode cX2_init_2 63 = .ok (.invokevirtual 41, 3) := dk_182 0 41 (dk_at dksX2_init_2_2 17 rfl rfl)
theorem dX2_init_2_66 : decode cX2_init_2 66 = .ok (.return_, 1) := dk_177 (dk_at dksX2_init_2_2 20 rfl rfl)
abbrev cX2_addFact : ByteArray := prog_17_method_8_code
def yX2_addFact : MethodName := ⟨RX2, "addFact", "(CII)I"⟩
def dkwX2_addFact_3 : List UInt8 := [182, 0, 132, 42, 1, 181, 0, 75, 42, 180, 0, 28, 182, 0, 123, 172]
abbrev dktX2_addFact_3 : List UInt8 := dkwX2_addFact_3 ++ []
def dkwX2_addFact_2 : List UInt8 := [3, 184, 0, 127, 42, 180, 0, 28, 27, 16, 97, 100, 21, 4, 182, 0, 130, 54, 5, 42, 180, 0, 21]
abbrev dktX2_addFact_2 : List UInt8 := dkwX2_addFact_2 ++ dktX2_addFact_3
def dkwX2_addFact_1 : List UInt8 := [4, 167, 0, 4, 3, 184, 0, 120, 42, 180, 0, 28, 182, 0, 123, 16, 20, 162, 0, 7, 4, 167, 0, 4]
abbrev dktX2_addFact_1 : List UInt8 := dkwX2_addFact_1 ++ dktX2_addFact_2
def dkwX2_addFact_0 : List UInt8 := [27, 28, 29, 184, 0, 116, 54, 4, 42, 180, 0, 28, 27, 16, 97, 100, 21, 4, 182, 0, 108, 154, 0, 7]
abbrev dktX2_addFact_0 : List UInt8 := dkwX2_addFact_0 ++ dktX2_addFact_1
theorem dksX2_addFact_0 : cX2_addFact.data.toList.drop 0 = dktX2_addFact_0 := by decide +kernel
theorem dksX2_addFact_1 : cX2_addFact.data.toList.drop 24 = dktX2_addFact_1 := dk_seg dksX2_addFact_0 24 rfl rfl
theorem dksX2_addFact_2 : cX2_addFact.data.toList.drop 48 = dktX2_addFact_2 := dk_seg dksX2_addFact_1 24 rfl rfl
theorem dksX2_addFact_3 : cX2_addFact.data.toList.drop 71 = dktX2_addFact_3 := dk_seg dksX2_addFact_2 23 rfl rfl
theorem dX2_addFact_0 : decode cX2_addFact 0 = .ok (.iload_n 1, 1) := dk_27 (dk_at dksX2_addFact_0 0 rfl rfl)
theorem dX2_addFact_1 : decode cX2_addFact 1 = .ok (.iload_n 2, 1) := dk_28 (dk_at dksX2_addFact_0 1 rfl rfl)
theorem dX2_addFact_2 : decode cX2_addFact 2 = .ok (.iload_n 3, 1) := dk_29 (dk_at dksX2_addFact_0 2 rfl rfl)
theorem dX2_addFact_3 : decode cX2_addFact 3 = .ok (.invokestatic 116, 3) := dk_184 0 116 (dk_at dksX2_addFact_0 3 rfl rfl)
theorem dX2_addFact_6 : decode cX2_addFact 6 = .ok (.istore 4, 2) := dk_54 4 (dk_at dksX2_addFact_0 6 rfl rfl)
theorem dX2_addFact_8 : decode cX2_addFact 8 = .ok (.aload_n 0, 1) := dk_42 (dk_at dksX2_addFact_0 8 rfl rfl)
theorem dX2_addFact_9 : decode cX2_addFact 9 = .ok (.getfield 28, 3) := dk_180 0 28 (dk_at dksX2_addFact_0 9 rfl rfl)
theorem dX2_addFact_12 : decode cX2_addFact 12 = .ok (.iload_n 1, 1) := dk_27 (dk_at dksX2_addFact_0 12 rfl rfl)
theorem dX2_addFact_13 : decode cX2_addFact 13 = .ok (.bipush 97, 2) := dk_16 97 (dk_at dksX2_addFact_0 13 rfl rfl)
theorem dX2_addFact_15 : decode cX2_addFact 15 = .ok (.isub, 1) := dk_100 (dk_at dksX2_addFact_0 15 rfl rfl)
theorem dX2_addFact_16 : decode cX2_addFact 16 = .ok (.iload 4, 2) := dk_21 4 (dk_at dksX2_addFact_0 16 rfl rfl)
theorem dX2_addFact_18 : decode cX2_addFact 18 = .ok (.invokevirtual 108, 3) := dk_182 0 108 (dk_at dksX2_addFact_0 18 rfl rfl)
theorem dX2_addFact_21 : decode cX2_addFact 21 = .ok (.ifCond .ne 7, 3) := dk_154 0 7 (dk_at dksX2_addFact_0 21 rfl rfl)
theorem dX2_addFact_24 : decode cX2_addFact 24 = .ok (.iconst 1, 1) := dk_4 (dk_at dksX2_addFact_1 0 rfl rfl)
theorem dX2_addFact_25 : decode cX2_addFact 25 = .ok (.goto 4, 3) := dk_167 0 4 (dk_at dksX2_addFact_1 1 rfl rfl)
theorem dX2_addFact_28 : decode cX2_addFact 28 = .ok (.iconst 0, 1) := dk_3 (dk_at dksX2_addFact_1 4 rfl rfl)
theorem dX2_addFact_29 : decode cX2_addFact 29 = .ok (.invokestatic 120, 3) := dk_184 0 120 (dk_at dksX2_addFact_1 5 rfl rfl)
theorem dX2_addFact_32 : decode cX2_addFact 32 = .ok (.aload_n 0, 1) := dk_42 (dk_at dksX2_addFact_1 8 rfl rfl)
theorem dX2_addFact_33 : decode cX2_addFact 33 = .ok (.getfield 28, 3) := dk_180 0 28 (dk_at dksX2_addFact_1 9 rfl rfl)
theorem dX2_addFact_36 : decode cX2_addFact 36 = .ok (.invokevirtual 123, 3) := dk_182 0 123 (dk_at dksX2_addFact_1 12 rfl rfl)
theorem dX2_addFact_39 : decode cX2_addFact 39 = .ok (.bipush 20, 2) := dk_16 20 (dk_at dksX2_addFact_1 15 rfl rfl)
theorem dX2_addFact_41 : decode cX2_addFact 41 = .ok (.if_icmp .ge 7, 3) := dk_162 0 7 (dk_at dksX2_addFact_1 17 rfl rfl)
theorem dX2_addFact_44 : decode cX2_addFact 44 = .ok (.iconst 1, 1) := dk_4 (dk_at dksX2_addFact_1 20 rfl rfl)
theorem dX2_addFact_45 : decode cX2_addFact 45 = .ok (.goto 4, 3) := dk_167 0 4 (dk_at dksX2_addFact_1 21 rfl rfl)
theorem dX2_addFact_48 : decode cX2_addFact 48 = .ok (.iconst 0, 1) := dk_3 (dk_at dksX2_addFact_2 0 rfl rfl)
theorem dX2_addFact_49 : decode cX2_addFact 49 = .ok (.invokestatic 127, 3) := dk_184 0 127 (dk_at dksX2_addFact_2 1 rfl rfl)
theorem dX2_addFact_52 : decode cX2_addFact 52 = .ok (.aload_n 0, 1) := dk_42 (dk_at dksX2_addFact_2 4 rfl rfl)
theorem dX2_addFact_53 : decode cX2_addFact 53 = .ok (.getfield 28, 3) := dk_180 0 28 (dk_at dksX2_addFact_2 5 rfl rfl)
theorem dX2_addFact_56 : decode cX2_addFact 56 = .ok (.iload_n 1, 1) := dk_27 (dk_at dksX2_addFact_2 8 rfl rfl)
theorem dX2_addFact_57 : decode cX2_addFact 57 = .ok (.bipush 97, 2) := dk_16 97 (dk_at dksX2_addFact_2 9 rfl rfl)
theorem dX2_addFact_59 : decode cX2_addFact 59 = .ok (.isub, 1) := dk_100 (dk_at dksX2_addFact_2 11 rfl rfl)
theorem dX2_addFact_60 : decode cX2_addFact 60 = .ok (.iload 4, 2) := dk_21 4 (dk_at dksX2_addFact_2 12 rfl rfl)
theorem dX2_addFact_62 : decode cX2_addFact 62 = .ok (.invokevirtual 130, 3) := dk_182 0 130 (dk_at dksX2_addFact_2 14 rfl rfl)
theorem dX2_addFact_65 : decode cX2_addFact 65 = .ok (.istore 5, 2) := dk_54 5 (dk_at dksX2_addFact_2 17 rfl rfl)
theorem dX2_addFact_67 : decode cX2_addFact 67 = .ok (.aload_n 0, 1) := dk_42 (dk_at dksX2_addFact_2 19 rfl rfl)
theorem dX2_addFact_68 : decode cX2_addFact 68 = .ok (.getfield 21, 3) := dk_180 0 21 (dk_at dksX2_addFact_2 20 rfl rfl)
theorem dX2_addFact_71 : decode cX2_addFact 71 = .ok (.invokevirtual 132, 3) := dk_182 0 132 (dk_at dksX2_addFact_3 0 rfl rfl)
theorem dX2_addFact_74 : decode cX2_addFact 74 = .ok (.aload_n 0, 1) := dk_42 (dk_at dksX2_addFact_3 3 rfl rfl)
theorem dX2_addFact_75 : decode cX2_addFact 75 = .ok (.aconst_null, 1) := dk_1 (dk_at dksX2_addFact_3 4 rfl rfl)
theorem dX2_addFact_76 : decode cX2_addFact 76 = .ok (.putfield 75, 3) := dk_181 0 75 (dk_at dksX2_addFact_3 5 rfl rfl)
theorem dX2_addFact_79 : decode cX2_addFact 79 = .ok (.aload_n 0, 1) := dk_42 (dk_at dksX2_addFact_3 8 rfl rfl)
theorem dX2_addFact_80 : decode cX2_addFact 80 = .ok (.getfield 28, 3) := dk_180 0 28 (dk_at dksX2_addFact_3 9 rfl rfl)
theorem dX2_addFact_83 : decode cX2_addFact 83 = .ok (.invokevirtual 123, 3) := dk_182 0 123 (dk_at dksX2_addFact_3 12 rfl rfl)
theorem dX2_addFact_86 : decode cX2_addFact 86 = .ok (.ireturn, 1) := dk_172 (dk_at dksX2_addFact_3 15 rfl rfl)
abbrev cX2_takeFact : ByteArray := prog_17_method_10_code
def yX2_takeFact : MethodName := ⟨RX2, "takeFact", "(CII)I"⟩
def dkwX2_takeFact_2 : List UInt8 := [42, 1, 181, 0, 75, 21, 5, 172]
abbrev dktX2_takeFact_2 : List UInt8 := dkwX2_takeFact_2 ++ []
def dkwX2_takeFact_1 : List UInt8 := [42, 180, 0, 28, 180, 0, 138, 27, 16, 97, 100, 50, 21, 4, 182, 0, 142, 42, 180, 0, 21, 182, 0, 156]
abbrev dktX2_takeFact_1 : List UInt8 := dkwX2_takeFact_1 ++ dktX2_takeFact_2
def dkwX2_takeFact_0 : List UInt8 := [27, 28, 29, 184, 0, 116, 54, 4, 42, 182, 0, 105, 42, 27, 21, 4, 182, 0, 148, 182, 0, 152, 54, 5]
abbrev dktX2_takeFact_0 : List UInt8 := dkwX2_takeFact_0 ++ dktX2_takeFact_1
theorem dksX2_takeFact_0 : cX2_takeFact.data.toList.drop 0 = dktX2_takeFact_0 := by decide +kernel
theorem dksX2_takeFact_1 : cX2_takeFact.data.toList.drop 24 = dktX2_takeFact_1 := dk_seg dksX2_takeFact_0 24 rfl rfl
theorem dksX2_takeFact_2 : cX2_takeFact.data.toList.drop 48 = dktX2_takeFact_2 := dk_seg dksX2_takeFact_1 24 rfl rfl
theorem dX2_takeFact_0 : decode cX2_takeFact 0 = .ok (.iload_n 1, 1) := dk_27 (dk_at dksX2_takeFact_0 0 rfl rfl)
theorem dX2_takeFact_1 : decode cX2_takeFact 1 = .ok (.iload_n 2, 1) := dk_28 (dk_at dksX2_takeFact_0 1 rfl rfl)
theorem dX2_takeFact_2 : decode cX2_takeFact 2 = .ok (.iload_n 3, 1) := dk_29 (dk_at dksX2_takeFact_0 2 rfl rfl)
theorem dX2_takeFact_3 : decode cX2_takeFact 3 = .ok (.invokestatic 116, 3) := dk_184 0 116 (dk_at dksX2_takeFact_0 3 rfl rfl)
theorem dX2_takeFact_6 : decode cX2_takeFact 6 = .ok (.istore 4, 2) := dk_54 4 (dk_at dksX2_takeFact_0 6 rfl rfl)
theorem dX2_takeFact_8 : decode cX2_takeFact 8 = .ok (.aload_n 0, 1) := dk_42 (dk_at dksX2_takeFact_0 8 rfl rfl)
theorem dX2_takeFact_9 : decode cX2_takeFact 9 = .ok (.invokevirtual 105, 3) := dk_182 0 105 (dk_at dksX2_takeFact_0 9 rfl rfl)
theorem dX2_takeFact_12 : decode cX2_takeFact 12 = .ok (.aload_n 0, 1) := dk_42 (dk_at dksX2_takeFact_0 12 rfl rfl)
theorem dX2_takeFact_13 : decode cX2_takeFact 13 = .ok (.iload_n 1, 1) := dk_27 (dk_at dksX2_takeFact_0 13 rfl rfl)
theorem dX2_takeFact_14 : decode cX2_takeFact 14 = .ok (.iload 4, 2) := dk_21 4 (dk_at dksX2_takeFact_0 14 rfl rfl)
theorem dX2_takeFact_16 : decode cX2_takeFact 16 = .ok (.invokevirtual 148, 3) := dk_182 0 148 (dk_at dksX2_takeFact_0 16 rfl rfl)
theorem dX2_takeFact_19 : decode cX2_takeFact 19 = .ok (.invokevirtual 152, 3) := dk_182 0 152 (dk_at dksX2_takeFact_0 19 rfl rfl)
theorem dX2_takeFact_22 : decode cX2_takeFact 22 = .ok (.istore 5, 2) := dk_54 5 (dk_at dksX2_takeFact_0 22 rfl rfl)
theorem dX2_takeFact_24 : decode cX2_takeFact 24 = .ok (.aload_n 0, 1) := dk_42 (dk_at dksX2_takeFact_1 0 rfl rfl)
theorem dX2_takeFact_25 : decode cX2_takeFact 25 = .ok (.getfield 28, 3) := dk_180 0 28 (dk_at dksX2_takeFact_1 1 rfl rfl)
theorem dX2_takeFact_28 : decode cX2_takeFact 28 = .ok (.getfield 138, 3) := dk_180 0 138 (dk_at dksX2_takeFact_1 4 rfl rfl)
theorem dX2_takeFact_31 : decode cX2_takeFact 31 = .ok (.iload_n 1, 1) := dk_27 (dk_at dksX2_takeFact_1 7 rfl rfl)
theorem dX2_takeFact_32 : decode cX2_takeFact 32 = .ok (.bipush 97, 2) := dk_16 97 (dk_at dksX2_takeFact_1 8 rfl rfl)
theorem dX2_takeFact_34 : decode cX2_takeFact 34 = .ok (.isub, 1) := dk_100 (dk_at dksX2_takeFact_1 10 rfl rfl)
theorem dX2_takeFact_35 : decode cX2_takeFact 35 = .ok (.aaload, 1) := dk_50 (dk_at dksX2_takeFact_1 11 rfl rfl)
theorem dX2_takeFact_36 : decode cX2_takeFact 36 = .ok (.iload 4, 2) := dk_21 4 (dk_at dksX2_takeFact_1 12 rfl rfl)
theorem dX2_takeFact_38 : decode cX2_takeFact 38 = .ok (.invokevirtual 142, 3) := dk_182 0 142 (dk_at dksX2_takeFact_1 14 rfl rfl)
theorem dX2_takeFact_41 : decode cX2_takeFact 41 = .ok (.aload_n 0, 1) := dk_42 (dk_at dksX2_takeFact_1 17 rfl rfl)
theorem dX2_takeFact_42 : decode cX2_takeFact 42 = .ok (.getfield 21, 3) := dk_180 0 21 (dk_at dksX2_takeFact_1 18 rfl rfl)
theorem dX2_takeFact_45 : decode cX2_takeFact 45 = .ok (.invokevirtual 156, 3) := dk_182 0 156 (dk_at dksX2_takeFact_1 21 rfl rfl)
theorem dX2_takeFact_48 : decode cX2_takeFact 48 = .ok (.aload_n 0, 1) := dk_42 (dk_at dksX2_takeFact_2 0 rfl rfl)
theorem dX2_takeFact_49 : decode cX2_takeFact 49 = .ok (.aconst_null, 1) := dk_1 (dk_at dksX2_takeFact_2 1 rfl rfl)
theorem dX2_takeFact_50 : decode cX2_takeFact 50 = .ok (.putfield 75, 3) := dk_181 0 75 (dk_at dksX2_takeFact_2 2 rfl rfl)
theorem dX2_takeFact_53 : decode cX2_takeFact 53 = .ok (.iload 5, 2) := dk_21 5 (dk_at dksX2_takeFact_2 5 rfl rfl)
theorem dX2_takeFact_55 : decode cX2_takeFact 55 = .ok (.ireturn, 1) := dk_172 (dk_at dksX2_takeFact_2 7 rfl rfl)
abbrev cX2_without : ByteArray := prog_17_method_9_code
def yX2_without : MethodName := ⟨RX2, "without", "(CI)LBrambleLogic$Facts;"⟩
def dkwX2_without_1 : List UInt8 := [45, 180, 0, 28, 180, 0, 138, 27, 16, 97, 100, 50, 28, 182, 0, 142, 45, 182, 0, 105, 176]
abbrev dktX2_without_1 : List UInt8 := dkwX2_without_1 ++ []
def dkwX2_without_0 : List UInt8 := [42, 180, 0, 28, 27, 16, 97, 100, 28, 182, 0, 108, 184, 0, 112, 187, 0, 13, 89, 42, 183, 0, 135, 78]
abbrev dktX2_without_0 : List UInt8 := dkwX2_without_0 ++ dktX2_without_1
theorem dksX2_without_0 : cX2_without.data.toList.drop 0 = dktX2_without_0 := by decide +kernel
theorem dksX2_without_1 : cX2_without.data.toList.drop 24 = dktX2_without_1 := dk_seg dksX2_without_0 24 rfl rfl
theorem dX2_without_0 : decode cX2_without 0 = .ok (.aload_n 0, 1) := dk_42 (dk_at dksX2_without_0 0 rfl rfl)
theorem dX2_without_1 : decode cX2_without 1 = .ok (.getfield 28, 3) := dk_180 0 28 (dk_at dksX2_without_0 1 rfl rfl)
theorem dX2_without_4 : decode cX2_without 4 = .ok (.iload_n 1, 1) := dk_27 (dk_at dksX2_without_0 4 rfl rfl)
theorem dX2_without_5 : decode cX2_without 5 = .ok (.bipush 97, 2) := dk_16 97 (dk_at dksX2_without_0 5 rfl rfl)
theorem dX2_without_7 : decode cX2_without 7 = .ok (.isub, 1) := dk_100 (dk_at dksX2_without_0 7 rfl rfl)
theorem dX2_without_8 : decode cX2_without 8 = .ok (.iload_n 2, 1) := dk_28 (dk_at dksX2_without_0 8 rfl rfl)
theorem dX2_without_9 : decode cX2_without 9 = .ok (.invokevirtual 108, 3) := dk_182 0 108 (dk_at dksX2_without_0 9 rfl rfl)
theorem dX2_without_12 : decode cX2_without 12 = .ok (.invokestatic 112, 3) := dk_184 0 112 (dk_at dksX2_without_0 12 rfl rfl)
theorem dX2_without_15 : decode cX2_without 15 = .ok (.new 13, 3) := dk_187 0 13 (dk_at dksX2_without_0 15 rfl rfl)
theorem dX2_without_18 : decode cX2_without 18 = .ok (.dup, 1) := dk_89 (dk_at dksX2_without_0 18 rfl rfl)
theorem dX2_without_19 : decode cX2_without 19 = .ok (.aload_n 0, 1) := dk_42 (dk_at dksX2_without_0 19 rfl rfl)
theorem dX2_without_20 : decode cX2_without 20 = .ok (.invokespecial 135, 3) := dk_183 0 135 (dk_at dksX2_without_0 20 rfl rfl)
theorem dX2_without_23 : decode cX2_without 23 = .ok (.astore_n 3, 1) := dk_78 (dk_at dksX2_without_0 23 rfl rfl)
theorem dX2_without_24 : decode cX2_without 24 = .ok (.aload_n 3, 1) := dk_45 (dk_at dksX2_without_1 0 rfl rfl)
theorem dX2_without_25 : decode cX2_without 25 = .ok (.getfield 28, 3) := dk_180 0 28 (dk_at dksX2_without_1 1 rfl rfl)
theorem dX2_without_28 : decode cX2_without 28 = .ok (.getfield 138, 3) := dk_180 0 138 (dk_at dksX2_without_1 4 rfl rfl)
theorem dX2_without_31 : decode cX2_without 31 = .ok (.iload_n 1, 1) := dk_27 (dk_at dksX2_without_1 7 rfl rfl)
theorem dX2_without_32 : decode cX2_without 32 = .ok (.bipush 97, 2) := dk_16 97 (dk_at dksX2_without_1 8 rfl rfl)
theorem dX2_without_34 : decode cX2_without 34 = .ok (.isub, 1) := dk_100 (dk_at dksX2_without_1 10 rfl rfl)
theorem dX2_without_35 : decode cX2_without 35 = .ok (.aaload, 1) := dk_50 (dk_at dksX2_without_1 11 rfl rfl)
theorem dX2_without_36 : decode cX2_without 36 = .ok (.iload_n 2, 1) := dk_28 (dk_at dksX2_without_1 12 rfl rfl)
theorem dX2_without_37 : decode cX2_without 37 = .ok (.invokevirtual 142, 3) := dk_182 0 142 (dk_at dksX2_without_1 13 rfl rfl)
theorem dX2_without_40 : decode cX2_without 40 = .ok (.aload_n 3, 1) := dk_45 (dk_at dksX2_without_1 16 rfl rfl)
theorem dX2_without_41 : decode cX2_without 41 = .ok (.invokevirtual 105, 3) := dk_182 0 105 (dk_at dksX2_without_1 17 rfl rfl)
theorem dX2_without_44 : decode cX2_without 44 = .ok (.areturn, 1) := dk_176 (dk_at dksX2_without_1 20 rfl rfl)
abbrev cX2_dropRule : ByteArray := prog_17_method_14_code
def yX2_dropRule : MethodName := ⟨RX2, "dropRule", "(I)I"⟩
def dkwX2_dropRule_1 : List UInt8 := [192, 0, 59, 77, 42, 1, 181, 0, 75, 42, 180, 0, 12, 185, 0, 159, 1, 0, 172]
abbrev dktX2_dropRule_1 : List UInt8 := dkwX2_dropRule_1 ++ []
def dkwX2_dropRule_0 : List UInt8 := [27, 42, 180, 0, 12, 185, 0, 159, 1, 0, 184, 0, 196, 42, 180, 0, 12, 27, 185, 0, 200, 2, 0]
abbrev dktX2_dropRule_0 : List UInt8 := dkwX2_dropRule_0 ++ dktX2_dropRule_1
theorem dksX2_dropRule_0 : cX2_dropRule.data.toList.drop 0 = dktX2_dropRule_0 := by decide +kernel
theorem dksX2_dropRule_1 : cX2_dropRule.data.toList.drop 23 = dktX2_dropRule_1 := dk_seg dksX2_dropRule_0 23 rfl rfl
theorem dX2_dropRule_0 : decode cX2_dropRule 0 = .ok (.iload_n 1, 1) := dk_27 (dk_at dksX2_dropRule_0 0 rfl rfl)
theorem dX2_dropRule_1 : decode cX2_dropRule 1 = .ok (.aload_n 0, 1) := dk_42 (dk_at dksX2_dropRule_0 1 rfl rfl)
theorem dX2_dropRule_2 : decode cX2_dropRule 2 = .ok (.getfield 12, 3) := dk_180 0 12 (dk_at dksX2_dropRule_0 2 rfl rfl)
theorem dX2_dropRule_5 : decode cX2_dropRule 5 = .ok (.invokeinterface 159 1, 5) := by decide +kernel
theorem dX2_dropRule_10 : decode cX2_dropRule 10 = .ok (.invokestatic 196, 3) := dk_184 0 196 (dk_at dksX2_dropRule_0 10 rfl rfl)
theorem dX2_dropRule_13 : decode cX2_dropRule 13 = .ok (.aload_n 0, 1) := dk_42 (dk_at dksX2_dropRule_0 13 rfl rfl)
theorem dX2_dropRule_14 : decode cX2_dropRule 14 = .ok (.getfield 12, 3) := dk_180 0 12 (dk_at dksX2_dropRule_0 14 rfl rfl)
theorem dX2_dropRule_17 : decode cX2_dropRule 17 = .ok (.iload_n 1, 1) := dk_27 (dk_at dksX2_dropRule_0 17 rfl rfl)
theorem dX2_dropRule_18 : decode cX2_dropRule 18 = .ok (.invokeinterface 200 2, 5) := by decide +kernel
theorem dX2_dropRule_23 : decode cX2_dropRule 23 = .ok (.checkcast 59, 3) := dk_192 0 59 (dk_at dksX2_dropRule_1 0 rfl rfl)
theorem dX2_dropRule_26 : decode cX2_dropRule 26 = .ok (.astore_n 2, 1) := dk_77 (dk_at dksX2_dropRule_1 3 rfl rfl)
theorem dX2_dropRule_27 : decode cX2_dropRule 27 = .ok (.aload_n 0, 1) := dk_42 (dk_at dksX2_dropRule_1 4 rfl rfl)
theorem dX2_dropRule_28 : decode cX2_dropRule 28 = .ok (.aconst_null, 1) := dk_1 (dk_at dksX2_dropRule_1 5 rfl rfl)
theorem dX2_dropRule_29 : decode cX2_dropRule 29 = .ok (.putfield 75, 3) := dk_181 0 75 (dk_at dksX2_dropRule_1 6 rfl rfl)
theorem dX2_dropRule_32 : decode cX2_dropRule 32 = .ok (.aload_n 0, 1) := dk_42 (dk_at dksX2_dropRule_1 9 rfl rfl)
theorem dX2_dropRule_33 : decode cX2_dropRule 33 = .ok (.getfield 12, 3) := dk_180 0 12 (dk_at dksX2_dropRule_1 10 rfl rfl)
theorem dX2_dropRule_36 : decode cX2_dropRule 36 = .ok (.invokeinterface 159 1, 5) := by decide +kernel
theorem dX2_dropRule_41 : decode cX2_dropRule 41 = .ok (.ireturn, 1) := dk_172 (dk_at dksX2_dropRule_1 18 rfl rfl)
abbrev cX2_constantAtRank : ByteArray := prog_17_method_16_code
def yX2_constantAtRank : MethodName := ⟨RX2, "constantAtRank", "(II)I"⟩
def dkwX2_constantAtRank_4 : List UInt8 := [132, 4, 1, 167, 255, 165, 29, 172]
abbrev dktX2_constantAtRank_4 : List UInt8 := dkwX2_constantAtRank_4 ++ []
def dkwX2_constantAtRank_3 : List UInt8 := [96, 54, 6, 132, 7, 1, 167, 255, 206, 21, 6, 28, 160, 0, 8, 21, 4, 167, 0, 4, 29, 62]
abbrev dktX2_constantAtRank_3 : List UInt8 := dkwX2_constantAtRank_3 ++ dktX2_constantAtRank_4
def dkwX2_constantAtRank_2 : List UInt8 := [21, 5, 163, 0, 17, 21, 8, 21, 5, 160, 0, 14, 21, 7, 21, 4, 162, 0, 7, 4, 167, 0, 4, 3]
abbrev dktX2_constantAtRank_2 : List UInt8 := dkwX2_constantAtRank_2 ++ dktX2_constantAtRank_3
def dkwX2_constantAtRank_1 : List UInt8 := [3, 54, 7, 21, 7, 16, 10, 162, 0, 49, 42, 27, 21, 7, 182, 0, 206, 54, 8, 21, 6, 21, 8]
abbrev dktX2_constantAtRank_1 : List UInt8 := dkwX2_constantAtRank_1 ++ dktX2_constantAtRank_2
def dkwX2_constantAtRank_0 : List UInt8 := [2, 62, 3, 54, 4, 21, 4, 16, 10, 162, 0, 90, 42, 27, 21, 4, 182, 0, 206, 54, 5, 3, 54, 6]
abbrev dktX2_constantAtRank_0 : List UInt8 := dkwX2_constantAtRank_0 ++ dktX2_constantAtRank_1
theorem dksX2_constantAtRank_0 : cX2_constantAtRank.data.toList.drop 0 = dktX2_constantAtRank_0 := by decide +kernel
theorem dksX2_constantAtRank_1 : cX2_constantAtRank.data.toList.drop 24 = dktX2_constantAtRank_1 := dk_seg dksX2_constantAtRank_0 24 rfl rfl
theorem dksX2_constantAtRank_2 : cX2_constantAtRank.data.toList.drop 47 = dktX2_constantAtRank_2 := dk_seg dksX2_constantAtRank_1 23 rfl rfl
theorem dksX2_constantAtRank_3 : cX2_constantAtRank.data.toList.drop 71 = dktX2_constantAtRank_3 := dk_seg dksX2_constantAtRank_2 24 rfl rfl
theorem dksX2_constantAtRank_4 : cX2_constantAtRank.data.toList.drop 93 = dktX2_constantAtRank_4 := dk_seg dksX2_constantAtRank_3 22 rfl rfl
theorem dX2_constantAtRank_0 : decode cX2_constantAtRank 0 = .ok (.iconst (-1), 1) := dk_2 (dk_at dksX2_constantAtRank_0 0 rfl rfl)
theorem dX2_constantAtRank_1 : decode cX2_constantAtRank 1 = .ok (.istore_n 3, 1) := dk_62 (dk_at dksX2_constantAtRank_0 1 rfl rfl)
theorem dX2_constantAtRank_2 : decode cX2_constantAtRank 2 = .ok (.iconst 0, 1) := dk_3 (dk_at dksX2_constantAtRank_0 2 rfl rfl)
theorem dX2_constantAtRank_3 : decode cX2_constantAtRank 3 = .ok (.istore 4, 2) := dk_54 4 (dk_at dksX2_constantAtRank_0 3 rfl rfl)
theorem dX2_constantAtRank_5 : decode cX2_constantAtRank 5 = .ok (.iload 4, 2) := dk_21 4 (dk_at dksX2_constantAtRank_0 5 rfl rfl)
theorem dX2_constantAtRank_7 : decode cX2_constantAtRank 7 = .ok (.bipush 10, 2) := dk_16 10 (dk_at dksX2_constantAtRank_0 7 rfl rfl)
theorem dX2_constantAtRank_9 : decode cX2_constantAtRank 9 = .ok (.if_icmp .ge 90, 3) := dk_162 0 90 (dk_at dksX2_constantAtRank_0 9 rfl rfl)
theorem dX2_constantAtRank_12 : decode cX2_constantAtRank 12 = .ok (.aload_n 0, 1) := dk_42 (dk_at dksX2_constantAtRank_0 12 rfl rfl)
theorem dX2_constantAtRank_13 : decode cX2_constantAtRank 13 = .ok (.iload_n 1, 1) := dk_27 (dk_at dksX2_constantAtRank_0 13 rfl rfl)
theorem dX2_constantAtRank_14 : decode cX2_constantAtRank 14 = .ok (.iload 4, 2) := dk_21 4 (dk_at dksX2_constantAtRank_0 14 rfl rfl)
theorem dX2_constantAtRank_16 : decode cX2_constantAtRank 16 = .ok (.invokevirtual 206, 3) := dk_182 0 206 (dk_at dksX2_constantAtRank_0 16 rfl rfl)
theorem dX2_constantAtRank_19 : decode cX2_constantAtRank 19 = .ok (.istore 5, 2) := dk_54 5 (dk_at dksX2_constantAtRank_0 19 rfl rfl)
theorem dX2_constantAtRank_21 : decode cX2_constantAtRank 21 = .ok (.iconst 0, 1) := dk_3 (dk_at dksX2_constantAtRank_0 21 rfl rfl)
theorem dX2_constantAtRank_22 : decode cX2_constantAtRank 22 = .ok (.istore 6, 2) := dk_54 6 (dk_at dksX2_constantAtRank_0 22 rfl rfl)
theorem dX2_constantAtRank_24 : decode cX2_constantAtRank 24 = .ok (.iconst 0, 1) := dk_3 (dk_at dksX2_constantAtRank_1 0 rfl rfl)
theorem dX2_constantAtRank_25 : decode cX2_constantAtRank 25 = .ok (.istore 7, 2) := dk_54 7 (dk_at dksX2_constantAtRank_1 1 rfl rfl)
theorem dX2_constantAtRank_27 : decode cX2_constantAtRank 27 = .ok (.iload 7, 2) := dk_21 7 (dk_at dksX2_constantAtRank_1 3 rfl rfl)
theorem dX2_constantAtRank_29 : decode cX2_constantAtRank 29 = .ok (.bipush 10, 2) := dk_16 10 (dk_at dksX2_constantAtRank_1 5 rfl rfl)
theorem dX2_constantAtRank_31 : decode cX2_constantAtRank 31 = .ok (.if_icmp .ge 49, 3) := dk_162 0 49 (dk_at dksX2_constantAtRank_1 7 rfl rfl)
theorem dX2_constantAtRank_34 : decode cX2_constantAtRank 34 = .ok (.aload_n 0, 1) := dk_42 (dk_at dksX2_constantAtRank_1 10 rfl rfl)
theorem dX2_constantAtRank_35 : decode cX2_constantAtRank 35 = .ok (.iload_n 1, 1) := dk_27 (dk_at dksX2_constantAtRank_1 11 rfl rfl)
theorem dX2_constantAtRank_36 : decode cX2_constantAtRank 36 = .ok (.iload 7, 2) := dk_21 7 (dk_at dksX2_constantAtRank_1 12 rfl rfl)
theorem dX2_constantAtRank_38 : decode cX2_constantAtRank 38 = .ok (.invokevirtual 206, 3) := dk_182 0 206 (dk_at dksX2_constantAtRank_1 14 rfl rfl)
theorem dX2_constantAtRank_41 : decode cX2_constantAtRank 41 = .ok (.istore 8, 2) := dk_54 8 (dk_at dksX2_constantAtRank_1 17 rfl rfl)
theorem dX2_constantAtRank_43 : decode cX2_constantAtRank 43 = .ok (.iload 6, 2) := dk_21 6 (dk_at dksX2_constantAtRank_1 19 rfl rfl)
theorem dX2_constantAtRank_45 : decode cX2_constantAtRank 45 = .ok (.iload 8, 2) := dk_21 8 (dk_at dksX2_constantAtRank_1 21 rfl rfl)
theorem dX2_constantAtRank_47 : decode cX2_constantAtRank 47 = .ok (.iload 5, 2) := dk_21 5 (dk_at dksX2_constantAtRank_2 0 rfl rfl)
theorem dX2_constantAtRank_49 : decode cX2_constantAtRank 49 = .ok (.if_icmp .gt 17, 3) := dk_163 0 17 (dk_at dksX2_constantAtRank_2 2 rfl rfl)
theorem dX2_constantAtRank_52 : decode cX2_constantAtRank 52 = .ok (.iload 8, 2) := dk_21 8 (dk_at dksX2_constantAtRank_2 5 rfl rfl)
theorem dX2_constantAtRank_54 : decode cX2_constantAtRank 54 = .ok (.iload 5, 2) := dk_21 5 (dk_at dksX2_constantAtRank_2 7 rfl rfl)
theorem dX2_constantAtRank_56 : decode cX2_constantAtRank 56 = .ok (.if_icmp .ne 14, 3) := dk_160 0 14 (dk_at dksX2_constantAtRank_2 9 rfl rfl)
theorem dX2_constantAtRank_59 : decode cX2_constantAtRank 59 = .ok (.iload 7, 2) := dk_21 7 (dk_at dksX2_constantAtRank_2 12 rfl rfl)
theorem dX2_constantAtRank_61 : decode cX2_constantAtRank 61 = .ok (.iload 4, 2) := dk_21 4 (dk_at dksX2_constantAtRank_2 14 rfl rfl)
theorem dX2_constantAtRank_63 : decode cX2_constantAtRank 63 = .ok (.if_icmp .ge 7, 3) := dk_162 0 7 (dk_at dksX2_constantAtRank_2 16 rfl rfl)
theorem dX2_constantAtRank_66 : decode cX2_constantAtRank 66 = .ok (.iconst 1, 1) := dk_4 (dk_at dksX2_constantAtRank_2 19 rfl rfl)
theorem dX2_constantAtRank_67 : decode cX2_constantAtRank 67 = .ok (.goto 4, 3) := dk_167 0 4 (dk_at dksX2_constantAtRank_2 20 rfl rfl)
theorem dX2_constantAtRank_70 : decode cX2_constantAtRank 70 = .ok (.iconst 0, 1) := dk_3 (dk_at dksX2_constantAtRank_2 23 rfl rfl)
theorem dX2_constantAtRank_71 : decode cX2_constantAtRank 71 = .ok (.iadd, 1) := dk_96 (dk_at dksX2_constantAtRank_3 0 rfl rfl)
theorem dX2_constantAtRank_72 : decode cX2_constantAtRank 72 = .ok (.istore 6, 2) := dk_54 6 (dk_at dksX2_constantAtRank_3 1 rfl rfl)
theorem dX2_constantAtRank_74 : decode cX2_constantAtRank 74 = .ok (.iinc 7 1, 3) := dk_132 7 1 (dk_at dksX2_constantAtRank_3 3 rfl rfl)
theorem dX2_constantAtRank_77 : decode cX2_constantAtRank 77 = .ok (.goto (-50), 3) := dk_167 255 206 (dk_at dksX2_constantAtRank_3 6 rfl rfl)
theorem dX2_constantAtRank_80 : decode cX2_constantAtRank 80 = .ok (.iload 6, 2) := dk_21 6 (dk_at dksX2_constantAtRank_3 9 rfl rfl)
theorem dX2_constantAtRank_82 : decode cX2_constantAtRank 82 = .ok (.iload_n 2, 1) := dk_28 (dk_at dksX2_constantAtRank_3 11 rfl rfl)
theorem dX2_constantAtRank_83 : decode cX2_constantAtRank 83 = .ok (.if_icmp .ne 8, 3) := dk_160 0 8 (dk_at dksX2_constantAtRank_3 12 rfl rfl)
theorem dX2_constantAtRank_86 : decode cX2_constantAtRank 86 = .ok (.iload 4, 2) := dk_21 4 (dk_at dksX2_constantAtRank_3 15 rfl rfl)
theorem dX2_constantAtRank_88 : decode cX2_constantAtRank 88 = .ok (.goto 4, 3) := dk_167 0 4 (dk_at dksX2_constantAtRank_3 17 rfl rfl)
theorem dX2_constantAtRank_91 : decode cX2_constantAtRank 91 = .ok (.iload_n 3, 1) := dk_29 (dk_at dksX2_constantAtRank_3 20 rfl rfl)
theorem dX2_constantAtRank_92 : decode cX2_constantAtRank 92 = .ok (.istore_n 3, 1) := dk_62 (dk_at dksX2_constantAtRank_3 21 rfl rfl)
theorem dX2_constantAtRank_93 : decode cX2_constantAtRank 93 = .ok (.iinc 4 1, 3) := dk_132 4 1 (dk_at dksX2_constantAtRank_4 0 rfl rfl)
theorem dX2_constantAtRank_96 : decode cX2_constantAtRank 96 = .ok (.goto (-91), 3) := dk_167 255 165 (dk_at dksX2_constantAtRank_4 3 rfl rfl)
theorem dX2_constantAtRank_99 : decode cX2_constantAtRank 99 = .ok (.iload_n 3, 1) := dk_29 (dk_at dksX2_constantAtRank_4 6 rfl rfl)
theorem dX2_constantAtRank_100 : decode cX2_constantAtRank 100 = .ok (.ireturn, 1) := dk_172 (dk_at dksX2_constantAtRank_4 7 rfl rfl)
abbrev cX2_countFirst : ByteArray := prog_17_method_15_code
def yX2_countFirst : MethodName := ⟨RX2, "countFirst", "(II)I"⟩
def dkwX2_countFirst_2 : List UInt8 := [153, 0, 7, 4, 167, 0, 4, 3, 96, 62, 132, 4, 1, 167, 255, 200, 29, 172]
abbrev dktX2_countFirst_2 : List UInt8 := dkwX2_countFirst_2 ++ []
def dkwX2_countFirst_1 : List UInt8 := [167, 0, 5, 21, 4, 54, 5, 29, 21, 5, 28, 160, 0, 20, 42, 182, 0, 105, 27, 21, 4, 182, 0, 108]
abbrev dktX2_countFirst_1 : List UInt8 := dkwX2_countFirst_1 ++ dktX2_countFirst_2
def dkwX2_countFirst_0 : List UInt8 := [3, 62, 3, 54, 4, 21, 4, 16, 100, 162, 0, 55, 27, 184, 0, 202, 153, 0, 11, 21, 4, 16, 10, 108]
abbrev dktX2_countFirst_0 : List UInt8 := dkwX2_countFirst_0 ++ dktX2_countFirst_1
theorem dksX2_countFirst_0 : cX2_countFirst.data.toList.drop 0 = dktX2_countFirst_0 := by decide +kernel
theorem dksX2_countFirst_1 : cX2_countFirst.data.toList.drop 24 = dktX2_countFirst_1 := dk_seg dksX2_countFirst_0 24 rfl rfl
theorem dksX2_countFirst_2 : cX2_countFirst.data.toList.drop 48 = dktX2_countFirst_2 := dk_seg dksX2_countFirst_1 24 rfl rfl
theorem dX2_countFirst_0 : decode cX2_countFirst 0 = .ok (.iconst 0, 1) := dk_3 (dk_at dksX2_countFirst_0 0 rfl rfl)
theorem dX2_countFirst_1 : decode cX2_countFirst 1 = .ok (.istore_n 3, 1) := dk_62 (dk_at dksX2_countFirst_0 1 rfl rfl)
theorem dX2_countFirst_2 : decode cX2_countFirst 2 = .ok (.iconst 0, 1) := dk_3 (dk_at dksX2_countFirst_0 2 rfl rfl)
theorem dX2_countFirst_3 : decode cX2_countFirst 3 = .ok (.istore 4, 2) := dk_54 4 (dk_at dksX2_countFirst_0 3 rfl rfl)
theorem dX2_countFirst_5 : decode cX2_countFirst 5 = .ok (.iload 4, 2) := dk_21 4 (dk_at dksX2_countFirst_0 5 rfl rfl)
theorem dX2_countFirst_7 : decode cX2_countFirst 7 = .ok (.bipush 100, 2) := dk_16 100 (dk_at dksX2_countFirst_0 7 rfl rfl)
theorem dX2_countFirst_9 : decode cX2_countFirst 9 = .ok (.if_icmp .ge 55, 3) := dk_162 0 55 (dk_at dksX2_countFirst_0 9 rfl rfl)
theorem dX2_countFirst_12 : decode cX2_countFirst 12 = .ok (.iload_n 1, 1) := dk_27 (dk_at dksX2_countFirst_0 12 rfl rfl)
theorem dX2_countFirst_13 : decode cX2_countFirst 13 = .ok (.invokestatic 202, 3) := dk_184 0 202 (dk_at dksX2_countFirst_0 13 rfl rfl)
theorem dX2_countFirst_16 : decode cX2_countFirst 16 = .ok (.ifCond .eq 11, 3) := dk_153 0 11 (dk_at dksX2_countFirst_0 16 rfl rfl)
theorem dX2_countFirst_19 : decode cX2_countFirst 19 = .ok (.iload 4, 2) := dk_21 4 (dk_at dksX2_countFirst_0 19 rfl rfl)
theorem dX2_countFirst_21 : decode cX2_countFirst 21 = .ok (.bipush 10, 2) := dk_16 10 (dk_at dksX2_countFirst_0 21 rfl rfl)
theorem dX2_countFirst_23 : decode cX2_countFirst 23 = .ok (.idiv, 1) := dk_108 (dk_at dksX2_countFirst_0 23 rfl rfl)
theorem dX2_countFirst_24 : decode cX2_countFirst 24 = .ok (.goto 5, 3) := dk_167 0 5 (dk_at dksX2_countFirst_1 0 rfl rfl)
theorem dX2_countFirst_27 : decode cX2_countFirst 27 = .ok (.iload 4, 2) := dk_21 4 (dk_at dksX2_countFirst_1 3 rfl rfl)
theorem dX2_countFirst_29 : decode cX2_countFirst 29 = .ok (.istore 5, 2) := dk_54 5 (dk_at dksX2_countFirst_1 5 rfl rfl)
theorem dX2_countFirst_31 : decode cX2_countFirst 31 = .ok (.iload_n 3, 1) := dk_29 (dk_at dksX2_countFirst_1 7 rfl rfl)
theorem dX2_countFirst_32 : decode cX2_countFirst 32 = .ok (.iload 5, 2) := dk_21 5 (dk_at dksX2_countFirst_1 8 rfl rfl)
theorem dX2_countFirst_34 : decode cX2_countFirst 34 = .ok (.iload_n 2, 1) := dk_28 (dk_at dksX2_countFirst_1 10 rfl rfl)
theorem dX2_countFirst_35 : decode cX2_countFirst 35 = .ok (.if_icmp .ne 20, 3) := dk_160 0 20 (dk_at dksX2_countFirst_1 11 rfl rfl)
theorem dX2_countFirst_38 : decode cX2_countFirst 38 = .ok (.aload_n 0, 1) := dk_42 (dk_at dksX2_countFirst_1 14 rfl rfl)
theorem dX2_countFirst_39 : decode cX2_countFirst 39 = .ok (.invokevirtual 105, 3) := dk_182 0 105 (dk_at dksX2_countFirst_1 15 rfl rfl)
theorem dX2_countFirst_42 : decode cX2_countFirst 42 = .ok (.iload_n 1, 1) := dk_27 (dk_at dksX2_countFirst_1 18 rfl rfl)
theorem dX2_countFirst_43 : decode cX2_countFirst 43 = .ok (.iload 4, 2) := dk_21 4 (dk_at dksX2_countFirst_1 19 rfl rfl)
theorem dX2_countFirst_45 : decode cX2_countFirst 45 = .ok (.invokevirtual 108, 3) := dk_182 0 108 (dk_at dksX2_countFirst_1 21 rfl rfl)
theorem dX2_countFirst_48 : decode cX2_countFirst 48 = .ok (.ifCond .eq 7, 3) := dk_153 0 7 (dk_at dksX2_countFirst_2 0 rfl rfl)
theorem dX2_countFirst_51 : decode cX2_countFirst 51 = .ok (.iconst 1, 1) := dk_4 (dk_at dksX2_countFirst_2 3 rfl rfl)
theorem dX2_countFirst_52 : decode cX2_countFirst 52 = .ok (.goto 4, 3) := dk_167 0 4 (dk_at dksX2_countFirst_2 4 rfl rfl)
theorem dX2_countFirst_55 : decode cX2_countFirst 55 = .ok (.iconst 0, 1) := dk_3 (dk_at dksX2_countFirst_2 7 rfl rfl)
theorem dX2_countFirst_56 : decode cX2_countFirst 56 = .ok (.iadd, 1) := dk_96 (dk_at dksX2_countFirst_2 8 rfl rfl)
theorem dX2_countFirst_57 : decode cX2_countFirst 57 = .ok (.istore_n 3, 1) := dk_62 (dk_at dksX2_countFirst_2 9 rfl rfl)
theorem dX2_countFirst_58 : decode cX2_countFirst 58 = .ok (.iinc 4 1, 3) := dk_132 4 1 (dk_at dksX2_countFirst_2 10 rfl rfl)
theorem dX2_countFirst_61 : decode cX2_countFirst 61 = .ok (.goto (-56), 3) := dk_167 255 200 (dk_at dksX2_countFirst_2 13 rfl rfl)
theorem dX2_countFirst_64 : decode cX2_countFirst 64 = .ok (.iload_n 3, 1) := dk_29 (dk_at dksX2_countFirst_2 16 rfl rfl)
theorem dX2_countFirst_65 : decode cX2_countFirst 65 = .ok (.ireturn, 1) := dk_172 (dk_at dksX2_countFirst_2 17 rfl rfl)
abbrev cX2_greatest : ByteArray := prog_17_method_17_code
def yX2_greatest : MethodName := ⟨RX2, "greatest", "(I)I"⟩
def dkwX2_greatest_1 : List UInt8 := [16, 10, 112, 184, 0, 210, 167, 0, 4, 28, 61, 132, 3, 1, 167, 255, 222, 28, 172]
abbrev dktX2_greatest_1 : List UInt8 := dkwX2_greatest_1 ++ []
def dkwX2_greatest_0 : List UInt8 := [2, 61, 3, 62, 29, 16, 100, 162, 0, 34, 42, 182, 0, 105, 27, 29, 182, 0, 108, 153, 0, 14, 28, 29]
abbrev dktX2_greatest_0 : List UInt8 := dkwX2_greatest_0 ++ dktX2_greatest_1
theorem dksX2_greatest_0 : cX2_greatest.data.toList.drop 0 = dktX2_greatest_0 := by decide +kernel
theorem dksX2_greatest_1 : cX2_greatest.data.toList.drop 24 = dktX2_greatest_1 := dk_seg dksX2_greatest_0 24 rfl rfl
theorem dX2_greatest_0 : decode cX2_greatest 0 = .ok (.iconst (-1), 1) := dk_2 (dk_at dksX2_greatest_0 0 rfl rfl)
theorem dX2_greatest_1 : decode cX2_greatest 1 = .ok (.istore_n 2, 1) := dk_61 (dk_at dksX2_greatest_0 1 rfl rfl)
theorem dX2_greatest_2 : decode cX2_greatest 2 = .ok (.iconst 0, 1) := dk_3 (dk_at dksX2_greatest_0 2 rfl rfl)
theorem dX2_greatest_3 : decode cX2_greatest 3 = .ok (.istore_n 3, 1) := dk_62 (dk_at dksX2_greatest_0 3 rfl rfl)
theorem dX2_greatest_4 : decode cX2_greatest 4 = .ok (.iload_n 3, 1) := dk_29 (dk_at dksX2_greatest_0 4 rfl rfl)
theorem dX2_greatest_5 : decode cX2_greatest 5 = .ok (.bipush 100, 2) := dk_16 100 (dk_at dksX2_greatest_0 5 rfl rfl)
theorem dX2_greatest_7 : decode cX2_greatest 7 = .ok (.if_icmp .ge 34, 3) := dk_162 0 34 (dk_at dksX2_greatest_0 7 rfl rfl)
theorem dX2_greatest_10 : decode cX2_greatest 10 = .ok (.aload_n 0, 1) := dk_42 (dk_at dksX2_greatest_0 10 rfl rfl)
theorem dX2_greatest_11 : decode cX2_greatest 11 = .ok (.invokevirtual 105, 3) := dk_182 0 105 (dk_at dksX2_greatest_0 11 rfl rfl)
theorem dX2_greatest_14 : decode cX2_greatest 14 = .ok (.iload_n 1, 1) := dk_27 (dk_at dksX2_greatest_0 14 rfl rfl)
theorem dX2_greatest_15 : decode cX2_greatest 15 = .ok (.iload_n 3, 1) := dk_29 (dk_at dksX2_greatest_0 15 rfl rfl)
theorem dX2_greatest_16 : decode cX2_greatest 16 = .ok (.invokevirtual 108, 3) := dk_182 0 108 (dk_at dksX2_greatest_0 16 rfl rfl)
theorem dX2_greatest_19 : decode cX2_greatest 19 = .ok (.ifCond .eq 14, 3) := dk_153 0 14 (dk_at dksX2_greatest_0 19 rfl rfl)
theorem dX2_greatest_22 : decode cX2_greatest 22 = .ok (.iload_n 2, 1) := dk_28 (dk_at dksX2_greatest_0 22 rfl rfl)
theorem dX2_greatest_23 : decode cX2_greatest 23 = .ok (.iload_n 3, 1) := dk_29 (dk_at dksX2_greatest_0 23 rfl rfl)
theorem dX2_greatest_24 : decode cX2_greatest 24 = .ok (.bipush 10, 2) := dk_16 10 (dk_at dksX2_greatest_1 0 rfl rfl)
theorem dX2_greatest_26 : decode cX2_greatest 26 = .ok (.irem, 1) := dk_112 (dk_at dksX2_greatest_1 2 rfl rfl)
theorem dX2_greatest_27 : decode cX2_greatest 27 = .ok (.invokestatic 210, 3) := dk_184 0 210 (dk_at dksX2_greatest_1 3 rfl rfl)
theorem dX2_greatest_30 : decode cX2_greatest 30 = .ok (.goto 4, 3) := dk_167 0 4 (dk_at dksX2_greatest_1 6 rfl rfl)
theorem dX2_greatest_33 : decode cX2_greatest 33 = .ok (.iload_n 2, 1) := dk_28 (dk_at dksX2_greatest_1 9 rfl rfl)
theorem dX2_greatest_34 : decode cX2_greatest 34 = .ok (.istore_n 2, 1) := dk_61 (dk_at dksX2_greatest_1 10 rfl rfl)
theorem dX2_greatest_35 : decode cX2_greatest 35 = .ok (.iinc 3 1, 3) := dk_132 3 1 (dk_at dksX2_greatest_1 11 rfl rfl)
theorem dX2_greatest_38 : decode cX2_greatest 38 = .ok (.goto (-34), 3) := dk_167 255 222 (dk_at dksX2_greatest_1 14 rfl rfl)
theorem dX2_greatest_41 : decode cX2_greatest 41 = .ok (.iload_n 2, 1) := dk_28 (dk_at dksX2_greatest_1 17 rfl rfl)
theorem dX2_greatest_42 : decode cX2_greatest 42 = .ok (.ireturn, 1) := dk_172 (dk_at dksX2_greatest_1 18 rfl rfl)
abbrev cX2_requireTrue : ByteArray := prog_17_method_7_code
def yX2_requireTrue : MethodName := ⟨RX2, "requireTrue", "(II)V"⟩
def dkwX2_requireTrue_0 : List UInt8 := [42, 182, 0, 105, 27, 28, 182, 0, 108, 184, 0, 112, 177]
abbrev dktX2_requireTrue_0 : List UInt8 := dkwX2_requireTrue_0 ++ []
theorem dksX2_requireTrue_0 : cX2_requireTrue.data.toList.drop 0 = dktX2_requireTrue_0 := by decide +kernel
theorem dX2_requireTrue_0 : decode cX2_requireTrue 0 = .ok (.aload_n 0, 1) := dk_42 (dk_at dksX2_requireTrue_0 0 rfl rfl)
theorem dX2_requireTrue_1 : decode cX2_requireTrue 1 = .ok (.invokevirtual 105, 3) := dk_182 0 105 (dk_at dksX2_requireTrue_0 1 rfl rfl)
theorem dX2_requireTrue_4 : decode cX2_requireTrue 4 = .ok (.iload_n 1, 1) := dk_27 (dk_at dksX2_requireTrue_0 4 rfl rfl)
theorem dX2_requireTrue_5 : decode cX2_requireTrue 5 = .ok (.iload_n 2, 1) := dk_28 (dk_at dksX2_requireTrue_0 5 rfl rfl)
theorem dX2_requireTrue_6 : decode cX2_requireTrue 6 = .ok (.invokevirtual 108, 3) := dk_182 0 108 (dk_at dksX2_requireTrue_0 6 rfl rfl)
theorem dX2_requireTrue_9 : decode cX2_requireTrue 9 = .ok (.invokestatic 112, 3) := dk_184 0 112 (dk_at dksX2_requireTrue_0 9 rfl rfl)
theorem dX2_requireTrue_12 : decode cX2_requireTrue 12 = .ok (.return_, 1) := dk_177 (dk_at dksX2_requireTrue_0 12 rfl rfl)
abbrev cX2_isDerived : ByteArray := prog_17_method_6_code
def yX2_isDerived : MethodName := ⟨RX2, "isDerived", "(II)Z"⟩
def dkwX2_isDerived_1 : List UInt8 := [4, 167, 0, 4, 3, 172]
abbrev dktX2_isDerived_1 : List UInt8 := dkwX2_isDerived_1 ++ []
def dkwX2_isDerived_0 : List UInt8 := [42, 182, 0, 105, 27, 28, 182, 0, 108, 153, 0, 19, 42, 180, 0, 28, 27, 28, 182, 0, 108, 154, 0, 7]
abbrev dktX2_isDerived_0 : List UInt8 := dkwX2_isDerived_0 ++ dktX2_isDerived_1
theorem dksX2_isDerived_0 : cX2_isDerived.data.toList.drop 0 = dktX2_isDerived_0 := by decide +kernel
theorem dksX2_isDerived_1 : cX2_isDerived.data.toList.drop 24 = dktX2_isDerived_1 := dk_seg dksX2_isDerived_0 24 rfl rfl
theorem dX2_isDerived_0 : decode cX2_isDerived 0 = .ok (.aload_n 0, 1) := dk_42 (dk_at dksX2_isDerived_0 0 rfl rfl)
theorem dX2_isDerived_1 : decode cX2_isDerived 1 = .ok (.invokevirtual 105, 3) := dk_182 0 105 (dk_at dksX2_isDerived_0 1 rfl rfl)
theorem dX2_isDerived_4 : decode cX2_isDerived 4 = .ok (.iload_n 1, 1) := dk_27 (dk_at dksX2_isDerived_0 4 rfl rfl)
theorem dX2_isDerived_5 : decode cX2_isDerived 5 = .ok (.iload_n 2, 1) := dk_28 (dk_at dksX2_isDerived_0 5 rfl rfl)
theorem dX2_isDerived_6 : decode cX2_isDerived 6 = .ok (.invokevirtual 108, 3) := dk_182 0 108 (dk_at dksX2_isDerived_0 6 rfl rfl)
theorem dX2_isDerived_9 : decode cX2_isDerived 9 = .ok (.ifCond .eq 19, 3) := dk_153 0 19 (dk_at dksX2_isDerived_0 9 rfl rfl)
theorem dX2_isDerived_12 : decode cX2_isDerived 12 = .ok (.aload_n 0, 1) := dk_42 (dk_at dksX2_isDerived_0 12 rfl rfl)
theorem dX2_isDerived_13 : decode cX2_isDerived 13 = .ok (.getfield 28, 3) := dk_180 0 28 (dk_at dksX2_isDerived_0 13 rfl rfl)
theorem dX2_isDerived_16 : decode cX2_isDerived 16 = .ok (.iload_n 1, 1) := dk_27 (dk_at dksX2_isDerived_0 16 rfl rfl)
theorem dX2_isDerived_17 : decode cX2_isDerived 17 = .ok (.iload_n 2, 1) := dk_28 (dk_at dksX2_isDerived_0 17 rfl rfl)
theorem dX2_isDerived_18 : decode cX2_isDerived 18 = .ok (.invokevirtual 108, 3) := dk_182 0 108 (dk_at dksX2_isDerived_0 18 rfl rfl)
theorem dX2_isDerived_21 : decode cX2_isDerived 21 = .ok (.ifCond .ne 7, 3) := dk_154 0 7 (dk_at dksX2_isDerived_0 21 rfl rfl)
theorem dX2_isDerived_24 : decode cX2_isDerived 24 = .ok (.iconst 1, 1) := dk_4 (dk_at dksX2_isDerived_1 0 rfl rfl)
theorem dX2_isDerived_25 : decode cX2_isDerived 25 = .ok (.goto 4, 3) := dk_167 0 4 (dk_at dksX2_isDerived_1 1 rfl rfl)
theorem dX2_isDerived_28 : decode cX2_isDerived 28 = .ok (.iconst 0, 1) := dk_3 (dk_at dksX2_isDerived_1 4 rfl rfl)
theorem dX2_isDerived_29 : decode cX2_isDerived 29 = .ok (.ireturn, 1) := dk_172 (dk_at dksX2_isDerived_1 5 rfl rfl)
abbrev cX2_answers : ByteArray := prog_17_method_18_code
def yX2_answers : MethodName := ⟨RX2, "answers", "(LBrambleLogic$Goal;)I"⟩
def dkwX2_answers_2 : List UInt8 := [28, 172]
abbrev dktX2_answers_2 : List UInt8 := dkwX2_answers_2 ++ []
def dkwX2_answers_1 : List UInt8 := [153, 0, 15, 43, 29, 182, 0, 218, 153, 0, 7, 4, 167, 0, 4, 3, 96, 61, 132, 3, 1, 167, 255, 216]
abbrev dktX2_answers_1 : List UInt8 := dkwX2_answers_1 ++ dktX2_answers_2
def dkwX2_answers_0 : List UInt8 := [3, 61, 3, 62, 29, 16, 100, 162, 0, 40, 28, 42, 182, 0, 105, 43, 180, 0, 215, 29, 182, 0, 108]
abbrev dktX2_answers_0 : List UInt8 := dkwX2_answers_0 ++ dktX2_answers_1
theorem dksX2_answers_0 : cX2_answers.data.toList.drop 0 = dktX2_answers_0 := by decide +kernel
theorem dksX2_answers_1 : cX2_answers.data.toList.drop 23 = dktX2_answers_1 := dk_seg dksX2_answers_0 23 rfl rfl
theorem dksX2_answers_2 : cX2_answers.data.toList.drop 47 = dktX2_answers_2 := dk_seg dksX2_answers_1 24 rfl rfl
theorem dX2_answers_0 : decode cX2_answers 0 = .ok (.iconst 0, 1) := dk_3 (dk_at dksX2_answers_0 0 rfl rfl)
theorem dX2_answers_1 : decode cX2_answers 1 = .ok (.istore_n 2, 1) := dk_61 (dk_at dksX2_answers_0 1 rfl rfl)
theorem dX2_answers_2 : decode cX2_answers 2 = .ok (.iconst 0, 1) := dk_3 (dk_at dksX2_answers_0 2 rfl rfl)
theorem dX2_answers_3 : decode cX2_answers 3 = .ok (.istore_n 3, 1) := dk_62 (dk_at dksX2_answers_0 3 rfl rfl)
theorem dX2_answers_4 : decode cX2_answers 4 = .ok (.iload_n 3, 1) := dk_29 (dk_at dksX2_answers_0 4 rfl rfl)
theorem dX2_answers_5 : decode cX2_answers 5 = .ok (.bipush 100, 2) := dk_16 100 (dk_at dksX2_answers_0 5 rfl rfl)
theorem dX2_answers_7 : decode cX2_answers 7 = .ok (.if_icmp .ge 40, 3) := dk_162 0 40 (dk_at dksX2_answers_0 7 rfl rfl)
theorem dX2_answers_10 : decode cX2_answers 10 = .ok (.iload_n 2, 1) := dk_28 (dk_at dksX2_answers_0 10 rfl rfl)
theorem dX2_answers_11 : decode cX2_answers 11 = .ok (.aload_n 0, 1) := dk_42 (dk_at dksX2_answers_0 11 rfl rfl)
theorem dX2_answers_12 : decode cX2_answers 12 = .ok (.invokevirtual 105, 3) := dk_182 0 105 (dk_at dksX2_answers_0 12 rfl rfl)
theorem dX2_answers_15 : decode cX2_answers 15 = .ok (.aload_n 1, 1) := dk_43 (dk_at dksX2_answers_0 15 rfl rfl)
theorem dX2_answers_16 : decode cX2_answers 16 = .ok (.getfield 215, 3) := dk_180 0 215 (dk_at dksX2_answers_0 16 rfl rfl)
theorem dX2_answers_19 : decode cX2_answers 19 = .ok (.iload_n 3, 1) := dk_29 (dk_at dksX2_answers_0 19 rfl rfl)
theorem dX2_answers_20 : decode cX2_answers 20 = .ok (.invokevirtual 108, 3) := dk_182 0 108 (dk_at dksX2_answers_0 20 rfl rfl)
theorem dX2_answers_23 : decode cX2_answers 23 = .ok (.ifCond .eq 15, 3) := dk_153 0 15 (dk_at dksX2_answers_1 0 rfl rfl)
theorem dX2_answers_26 : decode cX2_answers 26 = .ok (.aload_n 1, 1) := dk_43 (dk_at dksX2_answers_1 3 rfl rfl)
theorem dX2_answers_27 : decode cX2_answers 27 = .ok (.iload_n 3, 1) := dk_29 (dk_at dksX2_answers_1 4 rfl rfl)
theorem dX2_answers_28 : decode cX2_answers 28 = .ok (.invokevirtual 218, 3) := dk_182 0 218 (dk_at dksX2_answers_1 5 rfl rfl)
theorem dX2_answers_31 : decode cX2_answers 31 = .ok (.ifCond .eq 7, 3) := dk_153 0 7 (dk_at dksX2_answers_1 8 rfl rfl)
theorem dX2_answers_34 : decode cX2_answers 34 = .ok (.iconst 1, 1) := dk_4 (dk_at dksX2_answers_1 11 rfl rfl)
theorem dX2_answers_35 : decode cX2_answers 35 = .ok (.goto 4, 3) := dk_167 0 4 (dk_at dksX2_answers_1 12 rfl rfl)
theorem dX2_answers_38 : decode cX2_answers 38 = .ok (.iconst 0, 1) := dk_3 (dk_at dksX2_answers_1 15 rfl rfl)
theorem dX2_answers_39 : decode cX2_answers 39 = .ok (.iadd, 1) := dk_96 (dk_at dksX2_answers_1 16 rfl rfl)
theorem dX2_answers_40 : decode cX2_answers 40 = .ok (.istore_n 2, 1) := dk_61 (dk_at dksX2_answers_1 17 rfl rfl)
theorem dX2_answers_41 : decode cX2_answers 41 = .ok (.iinc 3 1, 3) := dk_132 3 1 (dk_at dksX2_answers_1 18 rfl rfl)
theorem dX2_answers_44 : decode cX2_answers 44 = .ok (.goto (-40), 3) := dk_167 255 216 (dk_at dksX2_answers_1 21 rfl rfl)
theorem dX2_answers_47 : decode cX2_answers 47 = .ok (.iload_n 2, 1) := dk_28 (dk_at dksX2_answers_2 0 rfl rfl)
theorem dX2_answers_48 : decode cX2_answers 48 = .ok (.ireturn, 1) := dk_172 (dk_at dksX2_answers_2 1 rfl rfl)
abbrev cX2_answerAt : ByteArray := prog_17_method_19_code
def yX2_answerAt : MethodName := ⟨RX2, "answerAt", "(LBrambleLogic$Goal;I)I"⟩
def dkwX2_answerAt_2 : List UInt8 := [21, 5, 167, 0, 4, 29, 62, 132, 4, 1, 132, 5, 1, 167, 255, 205, 29, 172]
abbrev dktX2_answerAt_2 : List UInt8 := dkwX2_answerAt_2 ++ []
def dkwX2_answerAt_1 : List UInt8 := [21, 5, 182, 0, 108, 153, 0, 28, 43, 21, 5, 182, 0, 218, 153, 0, 19, 21, 4, 28, 160, 0, 8]
abbrev dktX2_answerAt_1 : List UInt8 := dkwX2_answerAt_1 ++ dktX2_answerAt_2
def dkwX2_answerAt_0 : List UInt8 := [2, 62, 3, 54, 4, 3, 54, 5, 21, 5, 16, 100, 162, 0, 50, 42, 182, 0, 105, 43, 180, 0, 215]
abbrev dktX2_answerAt_0 : List UInt8 := dkwX2_answerAt_0 ++ dktX2_answerAt_1
theorem dksX2_answerAt_0 : cX2_answerAt.data.toList.drop 0 = dktX2_answerAt_0 := by decide +kernel
theorem dksX2_answerAt_1 : cX2_answerAt.data.toList.drop 23 = dktX2_answerAt_1 := dk_seg dksX2_answerAt_0 23 rfl rfl
theorem dksX2_answerAt_2 : cX2_answerAt.data.toList.drop 46 = dktX2_answerAt_2 := dk_seg dksX2_answerAt_1 23 rfl rfl
theorem dX2_answerAt_0 : decode cX2_answerAt 0 = .ok (.iconst (-1), 1) := dk_2 (dk_at dksX2_answerAt_0 0 rfl rfl)
theorem dX2_answerAt_1 : decode cX2_answerAt 1 = .ok (.istore_n 3, 1) := dk_62 (dk_at dksX2_answerAt_0 1 rfl rfl)
theorem dX2_answerAt_2 : decode cX2_answerAt 2 = .ok (.iconst 0, 1) := dk_3 (dk_at dksX2_answerAt_0 2 rfl rfl)
theorem dX2_answerAt_3 : decode cX2_answerAt 3 = .ok (.istore 4, 2) := dk_54 4 (dk_at dksX2_answerAt_0 3 rfl rfl)
theorem dX2_answerAt_5 : decode cX2_answerAt 5 = .ok (.iconst 0, 1) := dk_3 (dk_at dksX2_answerAt_0 5 rfl rfl)
theorem dX2_answerAt_6 : decode cX2_answerAt 6 = .ok (.istore 5, 2) := dk_54 5 (dk_at dksX2_answerAt_0 6 rfl rfl)
theorem dX2_answerAt_8 : decode cX2_answerAt 8 = .ok (.iload 5, 2) := dk_21 5 (dk_at dksX2_answerAt_0 8 rfl rfl)
theorem dX2_answerAt_10 : decode cX2_answerAt 10 = .ok (.bipush 100, 2) := dk_16 100 (dk_at dksX2_answerAt_0 10 rfl rfl)
theorem dX2_answerAt_12 : decode cX2_answerAt 12 = .ok (.if_icmp .ge 50, 3) := dk_162 0 50 (dk_at dksX2_answerAt_0 12 rfl rfl)
theorem dX2_answerAt_15 : decode cX2_answerAt 15 = .ok (.aload_n 0, 1) := dk_42 (dk_at dksX2_answerAt_0 15 rfl rfl)
theorem dX2_answerAt_16 : decode cX2_answerAt 16 = .ok (.invokevirtual 105, 3) := dk_182 0 105 (dk_at dksX2_answerAt_0 16 rfl rfl)
theorem dX2_answerAt_19 : decode cX2_answerAt 19 = .ok (.aload_n 1, 1) := dk_43 (dk_at dksX2_answerAt_0 19 rfl rfl)
theorem dX2_answerAt_20 : decode cX2_answerAt 20 = .ok (.getfield 215, 3) := dk_180 0 215 (dk_at dksX2_answerAt_0 20 rfl rfl)
theorem dX2_answerAt_23 : decode cX2_answerAt 23 = .ok (.iload 5, 2) := dk_21 5 (dk_at dksX2_answerAt_1 0 rfl rfl)
theorem dX2_answerAt_25 : decode cX2_answerAt 25 = .ok (.invokevirtual 108, 3) := dk_182 0 108 (dk_at dksX2_answerAt_1 2 rfl rfl)
theorem dX2_answerAt_28 : decode cX2_answerAt 28 = .ok (.ifCond .eq 28, 3) := dk_153 0 28 (dk_at dksX2_answerAt_1 5 rfl rfl)
theorem dX2_answerAt_31 : decode cX2_answerAt 31 = .ok (.aload_n 1, 1) := dk_43 (dk_at dksX2_answerAt_1 8 rfl rfl)
theorem dX2_answerAt_32 : decode cX2_answerAt 32 = .ok (.iload 5, 2) := dk_21 5 (dk_at dksX2_answerAt_1 9 rfl rfl)
theorem dX2_answerAt_34 : decode cX2_answerAt 34 = .ok (.invokevirtual 218, 3) := dk_182 0 218 (dk_at dksX2_answerAt_1 11 rfl rfl)
theorem dX2_answerAt_37 : decode cX2_answerAt 37 = .ok (.ifCond .eq 19, 3) := dk_153 0 19 (dk_at dksX2_answerAt_1 14 rfl rfl)
theorem dX2_answerAt_40 : decode cX2_answerAt 40 = .ok (.iload 4, 2) := dk_21 4 (dk_at dksX2_answerAt_1 17 rfl rfl)
theorem dX2_answerAt_42 : decode cX2_answerAt 42 = .ok (.iload_n 2, 1) := dk_28 (dk_at dksX2_answerAt_1 19 rfl rfl)
theorem dX2_answerAt_43 : decode cX2_answerAt 43 = .ok (.if_icmp .ne 8, 3) := dk_160 0 8 (dk_at dksX2_answerAt_1 20 rfl rfl)
theorem dX2_answerAt_46 : decode cX2_answerAt 46 = .ok (.iload 5, 2) := dk_21 5 (dk_at dksX2_answerAt_2 0 rfl rfl)
theorem dX2_answerAt_48 : decode cX2_answerAt 48 = .ok (.goto 4, 3) := dk_167 0 4 (dk_at dksX2_answerAt_2 2 rfl rfl)
theorem dX2_answerAt_51 : decode cX2_answerAt 51 = .ok (.iload_n 3, 1) := dk_29 (dk_at dksX2_answerAt_2 5 rfl rfl)
theorem dX2_answerAt_52 : decode cX2_answerAt 52 = .ok (.istore_n 3, 1) := dk_62 (dk_at dksX2_answerAt_2 6 rfl rfl)
theorem dX2_answerAt_53 : decode cX2_answerAt 53 = .ok (.iinc 4 1, 3) := dk_132 4 1 (dk_at dksX2_answerAt_2 7 rfl rfl)
theorem dX2_answerAt_56 : decode cX2_answerAt 56 = .ok (.iinc 5 1, 3) := dk_132 5 1 (dk_at dksX2_answerAt_2 10 rfl rfl)
theorem dX2_answerAt_59 : decode cX2_answerAt 59 = .ok (.goto (-51), 3) := dk_167 255 205 (dk_at dksX2_answerAt_2 13 rfl rfl)
theorem dX2_answerAt_62 : decode cX2_answerAt 62 = .ok (.iload_n 3, 1) := dk_29 (dk_at dksX2_answerAt_2 16 rfl rfl)
theorem dX2_answerAt_63 : decode cX2_answerAt 63 = .ok (.ireturn, 1) := dk_172 (dk_at dksX2_answerAt_2 17 rfl rfl)
abbrev cX2_isRecursive : ByteArray := prog_17_method_21_code
def yX2_isRecursive : MethodName := ⟨RX2, "isRecursive", "(LBrambleLogic$Rule;)Z"⟩
def dkwX2_isRecursive_5 : List UInt8 := [21, 7, 153, 0, 7, 4, 167, 0, 4, 3, 128, 62, 167, 255, 151, 29, 172]
abbrev dktX2_isRecursive_5 : List UInt8 := dkwX2_isRecursive_5 ++ []
def dkwX2_isRecursive_4 : List UInt8 := [4, 160, 0, 7, 4, 167, 0, 4, 3, 54, 7, 29, 21, 6, 43, 180, 0, 61, 180, 0, 65, 159, 0, 8]
abbrev dktX2_isRecursive_4 : List UInt8 := dkwX2_isRecursive_4 ++ dktX2_isRecursive_5
def dkwX2_isRecursive_3 : List UInt8 := [192, 0, 66, 180, 0, 65, 54, 6, 44, 21, 6, 182, 0, 246, 43, 180, 0, 61, 180, 0, 65, 122, 4, 126]
abbrev dktX2_isRecursive_3 : List UInt8 := dkwX2_isRecursive_3 ++ dktX2_isRecursive_4
def dkwX2_isRecursive_2 : List UInt8 := [25, 5, 185, 0, 235, 1, 0, 182, 0, 239, 153, 0, 73, 25, 5, 185, 0, 235, 1, 0, 182, 0, 244]
abbrev dktX2_isRecursive_2 : List UInt8 := dkwX2_isRecursive_2 ++ dktX2_isRecursive_3
def dkwX2_isRecursive_1 : List UInt8 := [58, 4, 25, 4, 185, 0, 49, 1, 0, 153, 0, 101, 25, 4, 185, 0, 55, 1, 0, 192, 0, 233, 58, 5]
abbrev dktX2_isRecursive_1 : List UInt8 := dkwX2_isRecursive_1 ++ dktX2_isRecursive_2
def dkwX2_isRecursive_0 : List UInt8 := [187, 0, 78, 89, 42, 180, 0, 12, 183, 0, 80, 77, 3, 62, 43, 180, 0, 230, 185, 0, 45, 1, 0]
abbrev dktX2_isRecursive_0 : List UInt8 := dkwX2_isRecursive_0 ++ dktX2_isRecursive_1
theorem dksX2_isRecursive_0 : cX2_isRecursive.data.toList.drop 0 = dktX2_isRecursive_0 := by decide +kernel
theorem dksX2_isRecursive_1 : cX2_isRecursive.data.toList.drop 23 = dktX2_isRecursive_1 := dk_seg dksX2_isRecursive_0 23 rfl rfl
theorem dksX2_isRecursive_2 : cX2_isRecursive.data.toList.drop 47 = dktX2_isRecursive_2 := dk_seg dksX2_isRecursive_1 24 rfl rfl
theorem dksX2_isRecursive_3 : cX2_isRecursive.data.toList.drop 70 = dktX2_isRecursive_3 := dk_seg dksX2_isRecursive_2 23 rfl rfl
theorem dksX2_isRecursive_4 : cX2_isRecursive.data.toList.drop 94 = dktX2_isRecursive_4 := dk_seg dksX2_isRecursive_3 24 rfl rfl
theorem dksX2_isRecursive_5 : cX2_isRecursive.data.toList.drop 118 = dktX2_isRecursive_5 := dk_seg dksX2_isRecursive_4 24 rfl rfl
theorem dX2_isRecursive_0 : decode cX2_isRecursive 0 = .ok (.new 78, 3) := dk_187 0 78 (dk_at dksX2_isRecursive_0 0 rfl rfl)
theorem dX2_isRecursive_3 : decode cX2_isRecursive 3 = .ok (.dup, 1) := dk_89 (dk_at dksX2_isRecursive_0 3 rfl rfl)
theorem dX2_isRecursive_4 : decode cX2_isRecursive 4 = .ok (.aload_n 0, 1) := dk_42 (dk_at dksX2_isRecursive_0 4 rfl rfl)
theorem dX2_isRecursive_5 : decode cX2_isRecursive 5 = .ok (.getfield 12, 3) := dk_180 0 12 (dk_at dksX2_isRecursive_0 5 rfl rfl)
theorem dX2_isRecursive_8 : decode cX2_isRecursive 8 = .ok (.invokespecial 80, 3) := dk_183 0 80 (dk_at dksX2_isRecursive_0 8 rfl rfl)
theorem dX2_isRecursive_11 : decode cX2_isRecursive 11 = .ok (.astore_n 2, 1) := dk_77 (dk_at dksX2_isRecursive_0 11 rfl rfl)
theorem dX2_isRecursive_12 : decode cX2_isRecursive 12 = .ok (.iconst 0, 1) := dk_3 (dk_at dksX2_isRecursive_0 12 rfl rfl)
theorem dX2_isRecursive_13 : decode cX2_isRecursive 13 = .ok (.istore_n 3, 1) := dk_62 (dk_at dksX2_isRecursive_0 13 rfl rfl)
theorem dX2_isRecursive_14 : decode cX2_isRecursive 14 = .ok (.aload_n 1, 1) := dk_43 (dk_at dksX2_isRecursive_0 14 rfl rfl)
theorem dX2_isRecursive_15 : decode cX2_isRecursive 15 = .ok (.getfield 230, 3) := dk_180 0 230 (dk_at dksX2_isRecursive_0 15 rfl rfl)
theorem dX2_isRecursive_18 : decode cX2_isRecursive 18 = .ok (.invokeinterface 45 1, 5) := by decide +kernel
theorem dX2_isRecursive_23 : decode cX2_isRecursive 23 = .ok (.astore 4, 2) := dk_58 4 (dk_at dksX2_isRecursive_1 0 rfl rfl)
theorem dX2_isRecursive_25 : decode cX2_isRecursive 25 = .ok (.aload 4, 2) := dk_25 4 (dk_at dksX2_isRecursive_1 2 rfl rfl)
theorem dX2_isRecursive_27 : decode cX2_isRecursive 27 = .ok (.invokeinterface 49 1, 5) := by decide +kernel
theorem dX2_isRecursive_32 : decode cX2_isRecursive 32 = .ok (.ifCond .eq 101, 3) := dk_153 0 101 (dk_at dksX2_isRecursive_1 9 rfl rfl)
theorem dX2_isRecursive_35 : decode cX2_isRecursive 35 = .ok (.aload 4, 2) := dk_25 4 (dk_at dksX2_isRecursive_1 12 rfl rfl)
theorem dX2_isRecursive_37 : decode cX2_isRecursive 37 = .ok (.invokeinterface 55 1, 5) := by decide +kernel
theorem dX2_isRecursive_42 : decode cX2_isRecursive 42 = .ok (.checkcast 233, 3) := dk_192 0 233 (dk_at dksX2_isRecursive_1 19 rfl rfl)
theorem dX2_isRecursive_45 : decode cX2_isRecursive 45 = .ok (.astore 5, 2) := dk_58 5 (dk_at dksX2_isRecursive_1 22 rfl rfl)
theorem dX2_isRecursive_47 : decode cX2_isRecursive 47 = .ok (.aload 5, 2) := dk_25 5 (dk_at dksX2_isRecursive_2 0 rfl rfl)
theorem dX2_isRecursive_49 : decode cX2_isRecursive 49 = .ok (.invokeinterface 235 1, 5) := by decide +kernel
theorem dX2_isRecursive_54 : decode cX2_isRecursive 54 = .ok (.invokevirtual 239, 3) := dk_182 0 239 (dk_at dksX2_isRecursive_2 7 rfl rfl)
theorem dX2_isRecursive_57 : decode cX2_isRecursive 57 = .ok (.ifCond .eq 73, 3) := dk_153 0 73 (dk_at dksX2_isRecursive_2 10 rfl rfl)
theorem dX2_isRecursive_60 : decode cX2_isRecursive 60 = .ok (.aload 5, 2) := dk_25 5 (dk_at dksX2_isRecursive_2 13 rfl rfl)
theorem dX2_isRecursive_62 : decode cX2_isRecursive 62 = .ok (.invokeinterface 235 1, 5) := by decide +kernel
theorem dX2_isRecursive_67 : decode cX2_isRecursive 67 = .ok (.invokevirtual 244, 3) := dk_182 0 244 (dk_at dksX2_isRecursive_2 20 rfl rfl)
theorem dX2_isRecursive_70 : decode cX2_isRecursive 70 = .ok (.checkcast 66, 3) := dk_192 0 66 (dk_at dksX2_isRecursive_3 0 rfl rfl)
theorem dX2_isRecursive_73 : decode cX2_isRecursive 73 = .ok (.getfield 65, 3) := dk_180 0 65 (dk_at dksX2_isRecursive_3 3 rfl rfl)
theorem dX2_isRecursive_76 : decode cX2_isRecursive 76 = .ok (.istore 6, 2) := dk_54 6 (dk_at dksX2_isRecursive_3 6 rfl rfl)
theorem dX2_isRecursive_78 : decode cX2_isRecursive 78 = .ok (.aload_n 2, 1) := dk_44 (dk_at dksX2_isRecursive_3 8 rfl rfl)
theorem dX2_isRecursive_79 : decode cX2_isRecursive 79 = .ok (.iload 6, 2) := dk_21 6 (dk_at dksX2_isRecursive_3 9 rfl rfl)
theorem dX2_isRecursive_81 : decode cX2_isRecursive 81 = .ok (.invokevirtual 246, 3) := dk_182 0 246 (dk_at dksX2_isRecursive_3 11 rfl rfl)
theorem dX2_isRecursive_84 : decode cX2_isRecursive 84 = .ok (.aload_n 1, 1) := dk_43 (dk_at dksX2_isRecursive_3 14 rfl rfl)
theorem dX2_isRecursive_85 : decode cX2_isRecursive 85 = .ok (.getfield 61, 3) := dk_180 0 61 (dk_at dksX2_isRecursive_3 15 rfl rfl)
theorem dX2_isRecursive_88 : decode cX2_isRecursive 88 = .ok (.getfield 65, 3) := dk_180 0 65 (dk_at dksX2_isRecursive_3 18 rfl rfl)
theorem dX2_isRecursive_91 : decode cX2_isRecursive 91 = .ok (.ishr, 1) := dk_122 (dk_at dksX2_isRecursive_3 21 rfl rfl)
theorem dX2_isRecursive_92 : decode cX2_isRecursive 92 = .ok (.iconst 1, 1) := dk_4 (dk_at dksX2_isRecursive_3 22 rfl rfl)
theorem dX2_isRecursive_93 : decode cX2_isRecursive 93 = .ok (.iand, 1) := dk_126 (dk_at dksX2_isRecursive_3 23 rfl rfl)
theorem dX2_isRecursive_94 : decode cX2_isRecursive 94 = .ok (.iconst 1, 1) := dk_4 (dk_at dksX2_isRecursive_4 0 rfl rfl)
theorem dX2_isRecursive_95 : decode cX2_isRecursive 95 = .ok (.if_icmp .ne 7, 3) := dk_160 0 7 (dk_at dksX2_isRecursive_4 1 rfl rfl)
theorem dX2_isRecursive_98 : decode cX2_isRecursive 98 = .ok (.iconst 1, 1) := dk_4 (dk_at dksX2_isRecursive_4 4 rfl rfl)
theorem dX2_isRecursive_99 : decode cX2_isRecursive 99 = .ok (.goto 4, 3) := dk_167 0 4 (dk_at dksX2_isRecursive_4 5 rfl rfl)
theorem dX2_isRecursive_102 : decode cX2_isRecursive 102 = .ok (.iconst 0, 1) := dk_3 (dk_at dksX2_isRecursive_4 8 rfl rfl)
theorem dX2_isRecursive_103 : decode cX2_isRecursive 103 = .ok (.istore 7, 2) := dk_54 7 (dk_at dksX2_isRecursive_4 9 rfl rfl)
theorem dX2_isRecursive_105 : decode cX2_isRecursive 105 = .ok (.iload_n 3, 1) := dk_29 (dk_at dksX2_isRecursive_4 11 rfl rfl)
theorem dX2_isRecursive_106 : decode cX2_isRecursive 106 = .ok (.iload 6, 2) := dk_21 6 (dk_at dksX2_isRecursive_4 12 rfl rfl)
theorem dX2_isRecursive_108 : decode cX2_isRecursive 108 = .ok (.aload_n 1, 1) := dk_43 (dk_at dksX2_isRecursive_4 14 rfl rfl)
theorem dX2_isRecursive_109 : decode cX2_isRecursive 109 = .ok (.getfield 61, 3) := dk_180 0 61 (dk_at dksX2_isRecursive_4 15 rfl rfl)
theorem dX2_isRecursive_112 : decode cX2_isRecursive 112 = .ok (.getfield 65, 3) := dk_180 0 65 (dk_at dksX2_isRecursive_4 18 rfl rfl)
theorem dX2_isRecursive_115 : decode cX2_isRecursive 115 = .ok (.if_icmp .eq 8, 3) := dk_159 0 8 (dk_at dksX2_isRecursive_4 21 rfl rfl)
theorem dX2_isRecursive_118 : decode cX2_isRecursive 118 = .ok (.iload 7, 2) := dk_21 7 (dk_at dksX2_isRecursive_5 0 rfl rfl)
theorem dX2_isRecursive_120 : decode cX2_isRecursive 120 = .ok (.ifCond .eq 7, 3) := dk_153 0 7 (dk_at dksX2_isRecursive_5 2 rfl rfl)
theorem dX2_isRecursive_123 : decode cX2_isRecursive 123 = .ok (.iconst 1, 1) := dk_4 (dk_at dksX2_isRecursive_5 5 rfl rfl)
theorem dX2_isRecursive_124 : decode cX2_isRecursive 124 = .ok (.goto 4, 3) := dk_167 0 4 (dk_at dksX2_isRecursive_5 6 rfl rfl)
theorem dX2_isRecursive_127 : decode cX2_isRecursive 127 = .ok (.iconst 0, 1) := dk_3 (dk_at dksX2_isRecursive_5 9 rfl rfl)
theorem dX2_isRecursive_128 : decode cX2_isRecursive 128 = .ok (.ior, 1) := dk_128 (dk_at dksX2_isRecursive_5 10 rfl rfl)
theorem dX2_isRecursive_129 : decode cX2_isRecursive 129 = .ok (.istore_n 3, 1) := dk_62 (dk_at dksX2_isRecursive_5 11 rfl rfl)
theorem dX2_isRecursive_130 : decode cX2_isRecursive 130 = .ok (.goto (-105), 3) := dk_167 255 151 (dk_at dksX2_isRecursive_5 12 rfl rfl)
theorem dX2_isRecursive_133 : decode cX2_isRecursive 133 = .ok (.iload_n 3, 1) := dk_29 (dk_at dksX2_isRecursive_5 15 rfl rfl)
theorem dX2_isRecursive_134 : decode cX2_isRecursive 134 = .ok (.ireturn, 1) := dk_172 (dk_at dksX2_isRecursive_5 16 rfl rfl)
abbrev cX2_countSteps : ByteArray := prog_17_method_20_code
def yX2_countSteps : MethodName := ⟨RX2, "countSteps", "(LBrambleLogic$Rule;)I"⟩
def dkwX2_countSteps_0 : List UInt8 := [187, 0, 221, 89, 183, 0, 223, 77, 44, 43, 42, 182, 0, 105, 182, 0, 224, 44, 180, 0, 228, 172]
abbrev dktX2_countSteps_0 : List UInt8 := dkwX2_countSteps_0 ++ []
theorem dksX2_countSteps_0 : cX2_countSteps.data.toList.drop 0 = dktX2_countSteps_0 := by decide +kernel
theorem dX2_countSteps_0 : decode cX2_countSteps 0 = .ok (.new 221, 3) := dk_187 0 221 (dk_at dksX2_countSteps_0 0 rfl rfl)
theorem dX2_countSteps_3 : decode cX2_countSteps 3 = .ok (.dup, 1) := dk_89 (dk_at dksX2_countSteps_0 3 rfl rfl)
theorem dX2_countSteps_4 : decode cX2_countSteps 4 = .ok (.invokespecial 223, 3) := dk_183 0 223 (dk_at dksX2_countSteps_0 4 rfl rfl)
theorem dX2_countSteps_7 : decode cX2_countSteps 7 = .ok (.astore_n 2, 1) := dk_77 (dk_at dksX2_countSteps_0 7 rfl rfl)
theorem dX2_countSteps_8 : decode cX2_countSteps 8 = .ok (.aload_n 2, 1) := dk_44 (dk_at dksX2_countSteps_0 8 rfl rfl)
theorem dX2_countSteps_9 : decode cX2_countSteps 9 = .ok (.aload_n 1, 1) := dk_43 (dk_at dksX2_countSteps_0 9 rfl rfl)
theorem dX2_countSteps_10 : decode cX2_countSteps 10 = .ok (.aload_n 0, 1) := dk_42 (dk_at dksX2_countSteps_0 10 rfl rfl)
theorem dX2_countSteps_11 : decode cX2_countSteps 11 = .ok (.invokevirtual 105, 3) := dk_182 0 105 (dk_at dksX2_countSteps_0 11 rfl rfl)
theorem dX2_countSteps_14 : decode cX2_countSteps 14 = .ok (.invokevirtual 224, 3) := dk_182 0 224 (dk_at dksX2_countSteps_0 14 rfl rfl)
theorem dX2_countSteps_17 : decode cX2_countSteps 17 = .ok (.aload_n 2, 1) := dk_44 (dk_at dksX2_countSteps_0 17 rfl rfl)
theorem dX2_countSteps_18 : decode cX2_countSteps 18 = .ok (.getfield 228, 3) := dk_180 0 228 (dk_at dksX2_countSteps_0 18 rfl rfl)
theorem dX2_countSteps_21 : decode cX2_countSteps 21 = .ok (.ireturn, 1) := dk_172 (dk_at dksX2_countSteps_0 21 rfl rfl)
abbrev cX2_addRule : ByteArray := prog_17_method_13_code
def yX2_addRule : MethodName := ⟨RX2, "addRule", "(LBrambleLogic$Rule;)I"⟩
def dkwX2_addRule_5 : List UInt8 := [181, 0, 75, 42, 180, 0, 12, 185, 0, 159, 1, 0, 4, 100, 172]
abbrev dktX2_addRule_5 : List UInt8 := dkwX2_addRule_5 ++ []
def dkwX2_addRule_4 : List UInt8 := [4, 167, 0, 4, 3, 7, 16, 8, 184, 0, 184, 42, 180, 0, 12, 43, 185, 0, 71, 2, 0, 87, 42, 1]
abbrev dktX2_addRule_4 : List UInt8 := dkwX2_addRule_4 ++ dktX2_addRule_5
def dkwX2_addRule_3 : List UInt8 := [180, 0, 61, 180, 0, 65, 46, 184, 0, 184, 42, 180, 0, 12, 185, 0, 159, 1, 0, 16, 8, 160, 0, 7]
abbrev dktX2_addRule_3 : List UInt8 := dkwX2_addRule_3 ++ dktX2_addRule_4
def dkwX2_addRule_2 : List UInt8 := [184, 0, 184, 42, 43, 182, 0, 192, 6, 187, 0, 78, 89, 42, 180, 0, 12, 183, 0, 80, 182, 0, 83, 43]
abbrev dktX2_addRule_2 : List UInt8 := dkwX2_addRule_2 ++ dktX2_addRule_3
def dkwX2_addRule_1 : List UInt8 := [180, 0, 166, 182, 0, 188, 2, 159, 0, 7, 4, 167, 0, 4, 3, 5, 42, 43, 180, 0, 166, 182, 0, 188]
abbrev dktX2_addRule_1 : List UInt8 := dkwX2_addRule_1 ++ dktX2_addRule_2
def dkwX2_addRule_0 : List UInt8 := [43, 182, 0, 181, 2, 159, 0, 7, 4, 167, 0, 4, 3, 4, 43, 182, 0, 181, 184, 0, 184, 42, 43]
abbrev dktX2_addRule_0 : List UInt8 := dkwX2_addRule_0 ++ dktX2_addRule_1
theorem dksX2_addRule_0 : cX2_addRule.data.toList.drop 0 = dktX2_addRule_0 := by decide +kernel
theorem dksX2_addRule_1 : cX2_addRule.data.toList.drop 23 = dktX2_addRule_1 := dk_seg dksX2_addRule_0 23 rfl rfl
theorem dksX2_addRule_2 : cX2_addRule.data.toList.drop 47 = dktX2_addRule_2 := dk_seg dksX2_addRule_1 24 rfl rfl
theorem dksX2_addRule_3 : cX2_addRule.data.toList.drop 71 = dktX2_addRule_3 := dk_seg dksX2_addRule_2 24 rfl rfl
theorem dksX2_addRule_4 : cX2_addRule.data.toList.drop 95 = dktX2_addRule_4 := dk_seg dksX2_addRule_3 24 rfl rfl
theorem dksX2_addRule_5 : cX2_addRule.data.toList.drop 119 = dktX2_addRule_5 := dk_seg dksX2_addRule_4 24 rfl rfl
theorem dX2_addRule_0 : decode cX2_addRule 0 = .ok (.aload_n 1, 1) := dk_43 (dk_at dksX2_addRule_0 0 rfl rfl)
theorem dX2_addRule_1 : decode cX2_addRule 1 = .ok (.invokevirtual 181, 3) := dk_182 0 181 (dk_at dksX2_addRule_0 1 rfl rfl)
theorem dX2_addRule_4 : decode cX2_addRule 4 = .ok (.iconst (-1), 1) := dk_2 (dk_at dksX2_addRule_0 4 rfl rfl)
theorem dX2_addRule_5 : decode cX2_addRule 5 = .ok (.if_icmp .eq 7, 3) := dk_159 0 7 (dk_at dksX2_addRule_0 5 rfl rfl)
theorem dX2_addRule_8 : decode cX2_addRule 8 = .ok (.iconst 1, 1) := dk_4 (dk_at dksX2_addRule_0 8 rfl rfl)
theorem dX2_addRule_9 : decode cX2_addRule 9 = .ok (.goto 4, 3) := dk_167 0 4 (dk_at dksX2_addRule_0 9 rfl rfl)
theorem dX2_addRule_12 : decode cX2_addRule 12 = .ok (.iconst 0, 1) := dk_3 (dk_at dksX2_addRule_0 12 rfl rfl)
theorem dX2_addRule_13 : decode cX2_addRule 13 = .ok (.iconst 1, 1) := dk_4 (dk_at dksX2_addRule_0 13 rfl rfl)
theorem dX2_addRule_14 : decode cX2_addRule 14 = .ok (.aload_n 1, 1) := dk_43 (dk_at dksX2_addRule_0 14 rfl rfl)
theorem dX2_addRule_15 : decode cX2_addRule 15 = .ok (.invokevirtual 181, 3) := dk_182 0 181 (dk_at dksX2_addRule_0 15 rfl rfl)
theorem dX2_addRule_18 : decode cX2_addRule 18 = .ok (.invokestatic 184, 3) := dk_184 0 184 (dk_at dksX2_addRule_0 18 rfl rfl)
theorem dX2_addRule_21 : decode cX2_addRule 21 = .ok (.aload_n 0, 1) := dk_42 (dk_at dksX2_addRule_0 21 rfl rfl)
theorem dX2_addRule_22 : decode cX2_addRule 22 = .ok (.aload_n 1, 1) := dk_43 (dk_at dksX2_addRule_0 22 rfl rfl)
theorem dX2_addRule_23 : decode cX2_addRule 23 = .ok (.getfield 166, 3) := dk_180 0 166 (dk_at dksX2_addRule_1 0 rfl rfl)
theorem dX2_addRule_26 : decode cX2_addRule 26 = .ok (.invokevirtual 188, 3) := dk_182 0 188 (dk_at dksX2_addRule_1 3 rfl rfl)
theorem dX2_addRule_29 : decode cX2_addRule 29 = .ok (.iconst (-1), 1) := dk_2 (dk_at dksX2_addRule_1 6 rfl rfl)
theorem dX2_addRule_30 : decode cX2_addRule 30 = .ok (.if_icmp .eq 7, 3) := dk_159 0 7 (dk_at dksX2_addRule_1 7 rfl rfl)
theorem dX2_addRule_33 : decode cX2_addRule 33 = .ok (.iconst 1, 1) := dk_4 (dk_at dksX2_addRule_1 10 rfl rfl)
theorem dX2_addRule_34 : decode cX2_addRule 34 = .ok (.goto 4, 3) := dk_167 0 4 (dk_at dksX2_addRule_1 11 rfl rfl)
theorem dX2_addRule_37 : decode cX2_addRule 37 = .ok (.iconst 0, 1) := dk_3 (dk_at dksX2_addRule_1 14 rfl rfl)
theorem dX2_addRule_38 : decode cX2_addRule 38 = .ok (.iconst 2, 1) := dk_5 (dk_at dksX2_addRule_1 15 rfl rfl)
theorem dX2_addRule_39 : decode cX2_addRule 39 = .ok (.aload_n 0, 1) := dk_42 (dk_at dksX2_addRule_1 16 rfl rfl)
theorem dX2_addRule_40 : decode cX2_addRule 40 = .ok (.aload_n 1, 1) := dk_43 (dk_at dksX2_addRule_1 17 rfl rfl)
theorem dX2_addRule_41 : decode cX2_addRule 41 = .ok (.getfield 166, 3) := dk_180 0 166 (dk_at dksX2_addRule_1 18 rfl rfl)
theorem dX2_addRule_44 : decode cX2_addRule 44 = .ok (.invokevirtual 188, 3) := dk_182 0 188 (dk_at dksX2_addRule_1 21 rfl rfl)
theorem dX2_addRule_47 : decode cX2_addRule 47 = .ok (.invokestatic 184, 3) := dk_184 0 184 (dk_at dksX2_addRule_2 0 rfl rfl)
theorem dX2_addRule_50 : decode cX2_addRule 50 = .ok (.aload_n 0, 1) := dk_42 (dk_at dksX2_addRule_2 3 rfl rfl)
theorem dX2_addRule_51 : decode cX2_addRule 51 = .ok (.aload_n 1, 1) := dk_43 (dk_at dksX2_addRule_2 4 rfl rfl)
theorem dX2_addRule_52 : decode cX2_addRule 52 = .ok (.invokevirtual 192, 3) := dk_182 0 192 (dk_at dksX2_addRule_2 5 rfl rfl)
theorem dX2_addRule_55 : decode cX2_addRule 55 = .ok (.iconst 3, 1) := dk_6 (dk_at dksX2_addRule_2 8 rfl rfl)
theorem dX2_addRule_56 : decode cX2_addRule 56 = .ok (.new 78, 3) := dk_187 0 78 (dk_at dksX2_addRule_2 9 rfl rfl)
theorem dX2_addRule_59 : decode cX2_addRule 59 = .ok (.dup, 1) := dk_89 (dk_at dksX2_addRule_2 12 rfl rfl)
theorem dX2_addRule_60 : decode cX2_addRule 60 = .ok (.aload_n 0, 1) := dk_42 (dk_at dksX2_addRule_2 13 rfl rfl)
theorem dX2_addRule_61 : decode cX2_addRule 61 = .ok (.getfield 12, 3) := dk_180 0 12 (dk_at dksX2_addRule_2 14 rfl rfl)
theorem dX2_addRule_64 : decode cX2_addRule 64 = .ok (.invokespecial 80, 3) := dk_183 0 80 (dk_at dksX2_addRule_2 17 rfl rfl)
theorem dX2_addRule_67 : decode cX2_addRule 67 = .ok (.invokevirtual 83, 3) := dk_182 0 83 (dk_at dksX2_addRule_2 20 rfl rfl)
theorem dX2_addRule_70 : decode cX2_addRule 70 = .ok (.aload_n 1, 1) := dk_43 (dk_at dksX2_addRule_2 23 rfl rfl)
theorem dX2_addRule_71 : decode cX2_addRule 71 = .ok (.getfield 61, 3) := dk_180 0 61 (dk_at dksX2_addRule_3 0 rfl rfl)
theorem dX2_addRule_74 : decode cX2_addRule 74 = .ok (.getfield 65, 3) := dk_180 0 65 (dk_at dksX2_addRule_3 3 rfl rfl)
theorem dX2_addRule_77 : decode cX2_addRule 77 = .ok (.iaload, 1) := dk_46 (dk_at dksX2_addRule_3 6 rfl rfl)
theorem dX2_addRule_78 : decode cX2_addRule 78 = .ok (.invokestatic 184, 3) := dk_184 0 184 (dk_at dksX2_addRule_3 7 rfl rfl)
theorem dX2_addRule_81 : decode cX2_addRule 81 = .ok (.aload_n 0, 1) := dk_42 (dk_at dksX2_addRule_3 10 rfl rfl)
theorem dX2_addRule_82 : decode cX2_addRule 82 = .ok (.getfield 12, 3) := dk_180 0 12 (dk_at dksX2_addRule_3 11 rfl rfl)
theorem dX2_addRule_85 : decode cX2_addRule 85 = .ok (.invokeinterface 159 1, 5) := by decide +kernel
theorem dX2_addRule_90 : decode cX2_addRule 90 = .ok (.bipush 8, 2) := dk_16 8 (dk_at dksX2_addRule_3 19 rfl rfl)
theorem dX2_addRule_92 : decode cX2_addRule 92 = .ok (.if_icmp .ne 7, 3) := dk_160 0 7 (dk_at dksX2_addRule_3 21 rfl rfl)
theorem dX2_addRule_95 : decode cX2_addRule 95 = .ok (.iconst 1, 1) := dk_4 (dk_at dksX2_addRule_4 0 rfl rfl)
theorem dX2_addRule_96 : decode cX2_addRule 96 = .ok (.goto 4, 3) := dk_167 0 4 (dk_at dksX2_addRule_4 1 rfl rfl)
theorem dX2_addRule_99 : decode cX2_addRule 99 = .ok (.iconst 0, 1) := dk_3 (dk_at dksX2_addRule_4 4 rfl rfl)
theorem dX2_addRule_100 : decode cX2_addRule 100 = .ok (.iconst 4, 1) := dk_7 (dk_at dksX2_addRule_4 5 rfl rfl)
theorem dX2_addRule_101 : decode cX2_addRule 101 = .ok (.bipush 8, 2) := dk_16 8 (dk_at dksX2_addRule_4 6 rfl rfl)
theorem dX2_addRule_103 : decode cX2_addRule 103 = .ok (.invokestatic 184, 3) := dk_184 0 184 (dk_at dksX2_addRule_4 8 rfl rfl)
theorem dX2_addRule_106 : decode cX2_addRule 106 = .ok (.aload_n 0, 1) := dk_42 (dk_at dksX2_addRule_4 11 rfl rfl)
theorem dX2_addRule_107 : decode cX2_addRule 107 = .ok (.getfield 12, 3) := dk_180 0 12 (dk_at dksX2_addRule_4 12 rfl rfl)
theorem dX2_addRule_110 : decode cX2_addRule 110 = .ok (.aload_n 1, 1) := dk_43 (dk_at dksX2_addRule_4 15 rfl rfl)
theorem dX2_addRule_111 : decode cX2_addRule 111 = .ok (.invokeinterface 71 2, 5) := by decide +kernel
theorem dX2_addRule_116 : decode cX2_addRule 116 = .ok (.pop, 1) := dk_87 (dk_at dksX2_addRule_4 21 rfl rfl)
theorem dX2_addRule_117 : decode cX2_addRule 117 = .ok (.aload_n 0, 1) := dk_42 (dk_at dksX2_addRule_4 22 rfl rfl)
theorem dX2_addRule_118 : decode cX2_addRule 118 = .ok (.aconst_null, 1) := dk_1 (dk_at dksX2_addRule_4 23 rfl rfl)
theorem dX2_addRule_119 : decode cX2_addRule 119 = .ok (.putfield 75, 3) := dk_181 0 75 (dk_at dksX2_addRule_5 0 rfl rfl)
theorem dX2_addRule_122 : decode cX2_addRule 122 = .ok (.aload_n 0, 1) := dk_42 (dk_at dksX2_addRule_5 3 rfl rfl)
theorem dX2_addRule_123 : decode cX2_addRule 123 = .ok (.getfield 12, 3) := dk_180 0 12 (dk_at dksX2_addRule_5 4 rfl rfl)
theorem dX2_addRule_126 : decode cX2_addRule 126 = .ok (.invokeinterface 159 1, 5) := by decide +kernel
theorem dX2_addRule_131 : decode cX2_addRule 131 = .ok (.iconst 1, 1) := dk_4 (dk_at dksX2_addRule_5 12 rfl rfl)
theorem dX2_addRule_132 : decode cX2_addRule 132 = .ok (.isub, 1) := dk_100 (dk_at dksX2_addRule_5 13 rfl rfl)
theorem dX2_addRule_133 : decode cX2_addRule 133 = .ok (.ireturn, 1) := dk_172 (dk_at dksX2_addRule_5 14 rfl rfl)
abbrev cX2_sameRule : ByteArray := prog_17_method_11_code
def yX2_sameRule : MethodName := ⟨RX2, "sameRule", "(Ljava/lang/String;)I"⟩
def dkwX2_sameRule_2 : List UInt8 := [132, 3, 1, 167, 255, 211, 28, 172]
abbrev dktX2_sameRule_2 : List UInt8 := dkwX2_sameRule_2 ++ []
def dkwX2_sameRule_1 : List UInt8 := [185, 0, 162, 2, 0, 192, 0, 59, 180, 0, 166, 43, 182, 0, 170, 153, 0, 7, 29, 167, 0, 4, 28, 61]
abbrev dktX2_sameRule_1 : List UInt8 := dkwX2_sameRule_1 ++ dktX2_sameRule_2
def dkwX2_sameRule_0 : List UInt8 := [2, 61, 3, 62, 29, 42, 180, 0, 12, 185, 0, 159, 1, 0, 162, 0, 38, 42, 180, 0, 12, 29]
abbrev dktX2_sameRule_0 : List UInt8 := dkwX2_sameRule_0 ++ dktX2_sameRule_1
theorem dksX2_sameRule_0 : cX2_sameRule.data.toList.drop 0 = dktX2_sameRule_0 := by decide +kernel
theorem dksX2_sameRule_1 : cX2_sameRule.data.toList.drop 22 = dktX2_sameRule_1 := dk_seg dksX2_sameRule_0 22 rfl rfl
theorem dksX2_sameRule_2 : cX2_sameRule.data.toList.drop 46 = dktX2_sameRule_2 := dk_seg dksX2_sameRule_1 24 rfl rfl
theorem dX2_sameRule_0 : decode cX2_sameRule 0 = .ok (.iconst (-1), 1) := dk_2 (dk_at dksX2_sameRule_0 0 rfl rfl)
theorem dX2_sameRule_1 : decode cX2_sameRule 1 = .ok (.istore_n 2, 1) := dk_61 (dk_at dksX2_sameRule_0 1 rfl rfl)
theorem dX2_sameRule_2 : decode cX2_sameRule 2 = .ok (.iconst 0, 1) := dk_3 (dk_at dksX2_sameRule_0 2 rfl rfl)
theorem dX2_sameRule_3 : decode cX2_sameRule 3 = .ok (.istore_n 3, 1) := dk_62 (dk_at dksX2_sameRule_0 3 rfl rfl)
theorem dX2_sameRule_4 : decode cX2_sameRule 4 = .ok (.iload_n 3, 1) := dk_29 (dk_at dksX2_sameRule_0 4 rfl rfl)
theorem dX2_sameRule_5 : decode cX2_sameRule 5 = .ok (.aload_n 0, 1) := dk_42 (dk_at dksX2_sameRule_0 5 rfl rfl)
theorem dX2_sameRule_6 : decode cX2_sameRule 6 = .ok (.getfield 12, 3) := dk_180 0 12 (dk_at dksX2_sameRule_0 6 rfl rfl)
theorem dX2_sameRule_9 : decode cX2_sameRule 9 = .ok (.invokeinterface 159 1, 5) := by decide +kernel
theorem dX2_sameRule_14 : decode cX2_sameRule 14 = .ok (.if_icmp .ge 38, 3) := dk_162 0 38 (dk_at dksX2_sameRule_0 14 rfl rfl)
theorem dX2_sameRule_17 : decode cX2_sameRule 17 = .ok (.aload_n 0, 1) := dk_42 (dk_at dksX2_sameRule_0 17 rfl rfl)
theorem dX2_sameRule_18 : decode cX2_sameRule 18 = .ok (.getfield 12, 3) := dk_180 0 12 (dk_at dksX2_sameRule_0 18 rfl rfl)
theorem dX2_sameRule_21 : decode cX2_sameRule 21 = .ok (.iload_n 3, 1) := dk_29 (dk_at dksX2_sameRule_0 21 rfl rfl)
theorem dX2_sameRule_22 : decode cX2_sameRule 22 = .ok (.invokeinterface 162 2, 5) := by decide +kernel
theorem dX2_sameRule_27 : decode cX2_sameRule 27 = .ok (.checkcast 59, 3) := dk_192 0 59 (dk_at dksX2_sameRule_1 5 rfl rfl)
theorem dX2_sameRule_30 : decode cX2_sameRule 30 = .ok (.getfield 166, 3) := dk_180 0 166 (dk_at dksX2_sameRule_1 8 rfl rfl)
theorem dX2_sameRule_33 : decode cX2_sameRule 33 = .ok (.aload_n 1, 1) := dk_43 (dk_at dksX2_sameRule_1 11 rfl rfl)
theorem dX2_sameRule_34 : decode cX2_sameRule 34 = .ok (.invokevirtual 170, 3) := dk_182 0 170 (dk_at dksX2_sameRule_1 12 rfl rfl)
theorem dX2_sameRule_37 : decode cX2_sameRule 37 = .ok (.ifCond .eq 7, 3) := dk_153 0 7 (dk_at dksX2_sameRule_1 15 rfl rfl)
theorem dX2_sameRule_40 : decode cX2_sameRule 40 = .ok (.iload_n 3, 1) := dk_29 (dk_at dksX2_sameRule_1 18 rfl rfl)
theorem dX2_sameRule_41 : decode cX2_sameRule 41 = .ok (.goto 4, 3) := dk_167 0 4 (dk_at dksX2_sameRule_1 19 rfl rfl)
theorem dX2_sameRule_44 : decode cX2_sameRule 44 = .ok (.iload_n 2, 1) := dk_28 (dk_at dksX2_sameRule_1 22 rfl rfl)
theorem dX2_sameRule_45 : decode cX2_sameRule 45 = .ok (.istore_n 2, 1) := dk_61 (dk_at dksX2_sameRule_1 23 rfl rfl)
theorem dX2_sameRule_46 : decode cX2_sameRule 46 = .ok (.iinc 3 1, 3) := dk_132 3 1 (dk_at dksX2_sameRule_2 0 rfl rfl)
theorem dX2_sameRule_49 : decode cX2_sameRule 49 = .ok (.goto (-45), 3) := dk_167 255 211 (dk_at dksX2_sameRule_2 3 rfl rfl)
theorem dX2_sameRule_52 : decode cX2_sameRule 52 = .ok (.iload_n 2, 1) := dk_28 (dk_at dksX2_sameRule_2 6 rfl rfl)
theorem dX2_sameRule_53 : decode cX2_sameRule 53 = .ok (.ireturn, 1) := dk_172 (dk_at dksX2_sameRule_2 7 rfl rfl)
abbrev cX2_makesCircle : ByteArray := prog_17_method_12_code
def yX2_makesCircle : MethodName := ⟨RX2, "makesCircle", "(LBrambleLogic$Rule;)Z"⟩
def dkwX2_makesCircle_1 : List UInt8 := [44, 183, 0, 80, 182, 0, 178, 172]
abbrev dktX2_makesCircle_1 : List UInt8 := dkwX2_makesCircle_1 ++ []
def dkwX2_makesCircle_0 : List UInt8 := [187, 0, 9, 89, 42, 180, 0, 12, 183, 0, 175, 77, 44, 43, 185, 0, 71, 2, 0, 87, 187, 0, 78, 89]
abbrev dktX2_makesCircle_0 : List UInt8 := dkwX2_makesCircle_0 ++ dktX2_makesCircle_1
theorem dksX2_makesCircle_0 : cX2_makesCircle.data.toList.drop 0 = dktX2_makesCircle_0 := by decide +kernel
theorem dksX2_makesCircle_1 : cX2_makesCircle.data.toList.drop 24 = dktX2_makesCircle_1 := dk_seg dksX2_makesCircle_0 24 rfl rfl
theorem dX2_makesCircle_0 : decode cX2_makesCircle 0 = .ok (.new 9, 3) := dk_187 0 9 (dk_at dksX2_makesCircle_0 0 rfl rfl)
theorem dX2_makesCircle_3 : decode cX2_makesCircle 3 = .ok (.dup, 1) := dk_89 (dk_at dksX2_makesCircle_0 3 rfl rfl)
theorem dX2_makesCircle_4 : decode cX2_makesCircle 4 = .ok (.aload_n 0, 1) := dk_42 (dk_at dksX2_makesCircle_0 4 rfl rfl)
theorem dX2_makesCircle_5 : decode cX2_makesCircle 5 = .ok (.getfield 12, 3) := dk_180 0 12 (dk_at dksX2_makesCircle_0 5 rfl rfl)
theorem dX2_makesCircle_8 : decode cX2_makesCircle 8 = .ok (.invokespecial 175, 3) := dk_183 0 175 (dk_at dksX2_makesCircle_0 8 rfl rfl)
theorem dX2_makesCircle_11 : decode cX2_makesCircle 11 = .ok (.astore_n 2, 1) := dk_77 (dk_at dksX2_makesCircle_0 11 rfl rfl)
theorem dX2_makesCircle_12 : decode cX2_makesCircle 12 = .ok (.aload_n 2, 1) := dk_44 (dk_at dksX2_makesCircle_0 12 rfl rfl)
theorem dX2_makesCircle_13 : decode cX2_makesCircle 13 = .ok (.aload_n 1, 1) := dk_43 (dk_at dksX2_makesCircle_0 13 rfl rfl)
theorem dX2_makesCircle_14 : decode cX2_makesCircle 14 = .ok (.invokeinterface 71 2, 5) := by decide +kernel
theorem dX2_makesCircle_19 : decode cX2_makesCircle 19 = .ok (.pop, 1) := dk_87 (dk_at dksX2_makesCircle_0 19 rfl rfl)
theorem dX2_makesCircle_20 : decode cX2_makesCircle 20 = .ok (.new 78, 3) := dk_187 0 78 (dk_at dksX2_makesCircle_0 20 rfl rfl)
theorem dX2_makesCircle_23 : decode cX2_makesCircle 23 = .ok (.dup, 1) := dk_89 (dk_at dksX2_makesCircle_0 23 rfl rfl)
theorem dX2_makesCircle_24 : decode cX2_makesCircle 24 = .ok (.aload_n 2, 1) := dk_44 (dk_at dksX2_makesCircle_1 0 rfl rfl)
theorem dX2_makesCircle_25 : decode cX2_makesCircle 25 = .ok (.invokespecial 80, 3) := dk_183 0 80 (dk_at dksX2_makesCircle_1 1 rfl rfl)
theorem dX2_makesCircle_28 : decode cX2_makesCircle 28 = .ok (.invokevirtual 178, 3) := dk_182 0 178 (dk_at dksX2_makesCircle_1 4 rfl rfl)
theorem dX2_makesCircle_31 : decode cX2_makesCircle 31 = .ok (.ireturn, 1) := dk_172 (dk_at dksX2_makesCircle_1 7 rfl rfl)
abbrev cX2_describeStep : ByteArray := prog_17_method_24_code
def yX2_describeStep : MethodName := ⟨RX2, "describeStep", "(II)Ljava/lang/String;"⟩
def dkwX2_describeStep_2 : List UInt8 := [183, 1, 13, 182, 1, 14, 27, 28, 182, 1, 46, 182, 1, 50, 182, 1, 36, 182, 1, 42, 176]
abbrev dktX2_describeStep_2 : List UInt8 := dkwX2_describeStep_2 ++ []
def dkwX2_describeStep_1 : List UInt8 := [182, 0, 108, 153, 0, 14, 45, 19, 1, 40, 182, 1, 36, 182, 1, 42, 176, 45, 187, 1, 11, 89, 42]
abbrev dktX2_describeStep_1 : List UInt8 := dkwX2_describeStep_1 ++ dktX2_describeStep_2
def dkwX2_describeStep_0 : List UInt8 := [187, 1, 29, 89, 183, 1, 31, 78, 45, 27, 28, 184, 1, 32, 182, 1, 36, 87, 42, 180, 0, 28, 27, 28]
abbrev dktX2_describeStep_0 : List UInt8 := dkwX2_describeStep_0 ++ dktX2_describeStep_1
theorem dksX2_describeStep_0 : cX2_describeStep.data.toList.drop 0 = dktX2_describeStep_0 := by decide +kernel
theorem dksX2_describeStep_1 : cX2_describeStep.data.toList.drop 24 = dktX2_describeStep_1 := dk_seg dksX2_describeStep_0 24 rfl rfl
theorem dksX2_describeStep_2 : cX2_describeStep.data.toList.drop 47 = dktX2_describeStep_2 := dk_seg dksX2_describeStep_1 23 rfl rfl
theorem dX2_describeStep_0 : decode cX2_describeStep 0 = .ok (.new 285, 3) := dk_187 1 29 (dk_at dksX2_describeStep_0 0 rfl rfl)
theorem dX2_describeStep_3 : decode cX2_describeStep 3 = .ok (.dup, 1) := dk_89 (dk_at dksX2_describeStep_0 3 rfl rfl)
theorem dX2_describeStep_4 : decode cX2_describeStep 4 = .ok (.invokespecial 287, 3) := dk_183 1 31 (dk_at dksX2_describeStep_0 4 rfl rfl)
theorem dX2_describeStep_7 : decode cX2_describeStep 7 = .ok (.astore_n 3, 1) := dk_78 (dk_at dksX2_describeStep_0 7 rfl rfl)
theorem dX2_describeStep_8 : decode cX2_describeStep 8 = .ok (.aload_n 3, 1) := dk_45 (dk_at dksX2_describeStep_0 8 rfl rfl)
theorem dX2_describeStep_9 : decode cX2_describeStep 9 = .ok (.iload_n 1, 1) := dk_27 (dk_at dksX2_describeStep_0 9 rfl rfl)
theorem dX2_describeStep_10 : decode cX2_describeStep 10 = .ok (.iload_n 2, 1) := dk_28 (dk_at dksX2_describeStep_0 10 rfl rfl)
theorem dX2_describeStep_11 : decode cX2_describeStep 11 = .ok (.invokestatic 288, 3) := dk_184 1 32 (dk_at dksX2_describeStep_0 11 rfl rfl)
theorem dX2_describeStep_14 : decode cX2_describeStep 14 = .ok (.invokevirtual 292, 3) := dk_182 1 36 (dk_at dksX2_describeStep_0 14 rfl rfl)
theorem dX2_describeStep_17 : decode cX2_describeStep 17 = .ok (.pop, 1) := dk_87 (dk_at dksX2_describeStep_0 17 rfl rfl)
theorem dX2_describeStep_18 : decode cX2_describeStep 18 = .ok (.aload_n 0, 1) := dk_42 (dk_at dksX2_describeStep_0 18 rfl rfl)
theorem dX2_describeStep_19 : decode cX2_describeStep 19 = .ok (.getfield 28, 3) := dk_180 0 28 (dk_at dksX2_describeStep_0 19 rfl rfl)
theorem dX2_describeStep_22 : decode cX2_describeStep 22 = .ok (.iload_n 1, 1) := dk_27 (dk_at dksX2_describeStep_0 22 rfl rfl)
theorem dX2_describeStep_23 : decode cX2_describeStep 23 = .ok (.iload_n 2, 1) := dk_28 (dk_at dksX2_describeStep_0 23 rfl rfl)
theorem dX2_describeStep_24 : decode cX2_describeStep 24 = .ok (.invokevirtual 108, 3) := dk_182 0 108 (dk_at dksX2_describeStep_1 0 rfl rfl)
theorem dX2_describeStep_27 : decode cX2_describeStep 27 = .ok (.ifCond .eq 14, 3) := dk_153 0 14 (dk_at dksX2_describeStep_1 3 rfl rfl)
theorem dX2_describeStep_30 : decode cX2_describeStep 30 = .ok (.aload_n 3, 1) := dk_45 (dk_at dksX2_describeStep_1 6 rfl rfl)
theorem dX2_describeStep_31 : decode cX2_describeStep 31 = .ok (.ldc_w 296, 3) := dk_19 1 40 (dk_at dksX2_describeStep_1 7 rfl rfl)
theorem dX2_describeStep_34 : decode cX2_describeStep 34 = .ok (.invokevirtual 292, 3) := dk_182 1 36 (dk_at dksX2_describeStep_1 10 rfl rfl)
theorem dX2_describeStep_37 : decode cX2_describeStep 37 = .ok (.invokevirtual 298, 3) := dk_182 1 42 (dk_at dksX2_describeStep_1 13 rfl rfl)
theorem dX2_describeStep_40 : decode cX2_describeStep 40 = .ok (.areturn, 1) := dk_176 (dk_at dksX2_describeStep_1 16 rfl rfl)
theorem dX2_describeStep_41 : decode cX2_describeStep 41 = .ok (.aload_n 3, 1) := dk_45 (dk_at dksX2_describeStep_1 17 rfl rfl)
theorem dX2_describeStep_42 : decode cX2_describeStep 42 = .ok (.new 267, 3) := dk_187 1 11 (dk_at dksX2_describeStep_1 18 rfl rfl)
theorem dX2_describeStep_45 : decode cX2_describeStep 45 = .ok (.dup, 1) := dk_89 (dk_at dksX2_describeStep_1 21 rfl rfl)
theorem dX2_describeStep_46 : decode cX2_describeStep 46 = .ok (.aload_n 0, 1) := dk_42 (dk_at dksX2_describeStep_1 22 rfl rfl)
theorem dX2_describeStep_47 : decode cX2_describeStep 47 = .ok (.invokespecial 269, 3) := dk_183 1 13 (dk_at dksX2_describeStep_2 0 rfl rfl)
theorem dX2_describeStep_50 : decode cX2_describeStep 50 = .ok (.invokevirtual 270, 3) := dk_182 1 14 (dk_at dksX2_describeStep_2 3 rfl rfl)
theorem dX2_describeStep_53 : decode cX2_describeStep 53 = .ok (.iload_n 1, 1) := dk_27 (dk_at dksX2_describeStep_2 6 rfl rfl)
theorem dX2_describeStep_54 : decode cX2_describeStep 54 = .ok (.iload_n 2, 1) := dk_28 (dk_at dksX2_describeStep_2 7 rfl rfl)
theorem dX2_describeStep_55 : decode cX2_describeStep 55 = .ok (.invokevirtual 302, 3) := dk_182 1 46 (dk_at dksX2_describeStep_2 8 rfl rfl)
theorem dX2_describeStep_58 : decode cX2_describeStep 58 = .ok (.invokevirtual 306, 3) := dk_182 1 50 (dk_at dksX2_describeStep_2 11 rfl rfl)
theorem dX2_describeStep_61 : decode cX2_describeStep 61 = .ok (.invokevirtual 292, 3) := dk_182 1 36 (dk_at dksX2_describeStep_2 14 rfl rfl)
theorem dX2_describeStep_64 : decode cX2_describeStep 64 = .ok (.invokevirtual 298, 3) := dk_182 1 42 (dk_at dksX2_describeStep_2 17 rfl rfl)
theorem dX2_describeStep_67 : decode cX2_describeStep 67 = .ok (.areturn, 1) := dk_176 (dk_at dksX2_describeStep_2 20 rfl rfl)
theorem q109 : (Jvm.Cond.initialized "BrambleLogic$Logic") ∈ lw_all := lw_g (lw_at lw_m1 2 rfl) rfl
theorem q176 : (Jvm.Cond.instantiable "BrambleLogic$Logic" (4 : Nat)) ∈ lw_all := lw_g (lw_at lw_m1 69 rfl) rfl
theorem q178 : (Jvm.Cond.instanceMethod ({ cls := "BrambleLogic$Logic", name := "<init>", desc := "()V" } : Jvm.MethodName)) ∈ lw_all := lw_g (lw_at lw_m1 71 rfl) rfl
theorem q179 : (Jvm.Cond.code ({ cls := "BrambleLogic$Logic", name := "<init>", desc := "()V" } : Jvm.MethodName) prog_17_method_1_code (1 : Nat) (Option.none : Option Jvm.ClassFile.FieldType)) ∈ lw_all := lw_g (lw_at lw_m1 72 rfl) rfl
theorem q180 : (Jvm.Cond.methodLink "BrambleLogic$Logic" (3 : Nat) ({ cls := "java/lang/Object", name := "<init>", desc := "()V" } : Jvm.MethodName)) ∈ lw_all := lw_g (lw_at lw_m1 73 rfl) rfl
theorem q181 : (Jvm.Cond.classLink "BrambleLogic$Logic" (9 : Nat) "java/util/ArrayList") ∈ lw_all := lw_g (lw_at lw_m1 74 rfl) rfl
theorem q183 : (Jvm.Cond.methodLink "BrambleLogic$Logic" (11 : Nat) ({ cls := "java/util/ArrayList", name := "<init>", desc := "()V" } : Jvm.MethodName)) ∈ lw_all := lw_g (lw_at lw_m1 76 rfl) rfl
theorem q210 : (Jvm.Cond.classLink "BrambleLogic$Logic" (18 : Nat) "BrambleLogic$Account") ∈ lw_all := lw_g (lw_at lw_m1 103 rfl) rfl
theorem q212 : (Jvm.Cond.methodLinkNest "BrambleLogic$Logic" (20 : Nat) ({ cls := "BrambleLogic$Account", name := "<init>", desc := "()V" } : Jvm.MethodName) "BrambleLogic") ∈ lw_tbl := lw_at lw_m1 105 rfl
theorem q223 : (Jvm.Cond.classLink "BrambleLogic$Logic" (25 : Nat) "BrambleLogic$Facts") ∈ lw_all := lw_g (lw_at lw_m1 116 rfl) rfl
theorem q225 : (Jvm.Cond.methodLink "BrambleLogic$Logic" (27 : Nat) ({ cls := "BrambleLogic$Facts", name := "<init>", desc := "()V" } : Jvm.MethodName)) ∈ lw_all := lw_g (lw_at lw_m1 118 rfl) rfl
theorem q243 : (Jvm.Cond.fieldLinkNest "BrambleLogic$Logic" (138 : Nat) "BrambleLogic$Facts" "codes" "[LBrambleLogic$Codes;" "BrambleLogic") ∈ lw_tbl := lw_at lw_m1 136 rfl
theorem q248 : (Jvm.Cond.fieldLink "BrambleLogic$Logic" (28 : Nat) "BrambleLogic$Logic" "given" "LBrambleLogic$Facts;") ∈ lw_all := lw_g (lw_at lw_m1 141 rfl) rfl
theorem q252 : (Jvm.Cond.fieldLink "BrambleLogic$Logic" (12 : Nat) "BrambleLogic$Logic" "rules" "Ljava/util/List;") ∈ lw_all := lw_g (lw_at lw_m1 145 rfl) rfl
theorem q256 : (Jvm.Cond.fieldLink "BrambleLogic$Logic" (21 : Nat) "BrambleLogic$Logic" "account" "LBrambleLogic$Account;") ∈ lw_all := lw_g (lw_at lw_m1 149 rfl) rfl
theorem q258 : (Jvm.Cond.fieldLink "BrambleLogic$Logic" (75 : Nat) "BrambleLogic$Logic" "known" "LBrambleLogic$Facts;") ∈ lw_all := lw_g (lw_at lw_m1 151 rfl) rfl
theorem q259 : (Jvm.Cond.laysFinal "BrambleLogic$Logic" "BrambleLogic$Logic" "given" "LBrambleLogic$Facts;") ∈ lw_all := lw_g (lw_at lw_m1 152 rfl) rfl
theorem q260 : (Jvm.Cond.soleField "BrambleLogic$Logic" "given") ∈ lw_all := lw_g (lw_at lw_m1 153 rfl) rfl
theorem q261 : (Jvm.Cond.laysFinal "BrambleLogic$Logic" "BrambleLogic$Logic" "rules" "Ljava/util/List;") ∈ lw_all := lw_g (lw_at lw_m1 154 rfl) rfl
theorem q262 : (Jvm.Cond.soleField "BrambleLogic$Logic" "rules") ∈ lw_all := lw_g (lw_at lw_m1 155 rfl) rfl
theorem q263 : (Jvm.Cond.laysFinal "BrambleLogic$Logic" "BrambleLogic$Logic" "account" "LBrambleLogic$Account;") ∈ lw_all := lw_g (lw_at lw_m1 156 rfl) rfl
theorem q264 : (Jvm.Cond.soleField "BrambleLogic$Logic" "account") ∈ lw_all := lw_g (lw_at lw_m1 157 rfl) rfl
theorem q265 : (Jvm.Cond.lays "BrambleLogic$Logic" "BrambleLogic$Logic" "known" "LBrambleLogic$Facts;") ∈ lw_all := lw_g (lw_at lw_m1 158 rfl) rfl
theorem q266 : (Jvm.Cond.soleField "BrambleLogic$Logic" "known") ∈ lw_all := lw_g (lw_at lw_m1 159 rfl) rfl
theorem q267 : (Jvm.Cond.superclass "BrambleLogic$Logic" "java/lang/Object") ∈ lw_all := lw_g (lw_at lw_m1 160 rfl) rfl
theorem q369 : (Jvm.Cond.instanceMethod ({ cls := "BrambleLogic$Logic", name := "facts", desc := "()LBrambleLogic$Facts;" } : Jvm.MethodName)) ∈ lw_all := lw_g (lw_at lw_m2 22 rfl) rfl
theorem q370 : (Jvm.Cond.selects "BrambleLogic$Logic" ({ cls := "BrambleLogic$Logic", name := "facts", desc := "()LBrambleLogic$Facts;" } : Jvm.MethodName) ({ cls := "BrambleLogic$Logic", name := "facts", desc := "()LBrambleLogic$Facts;" } : Jvm.MethodName)) ∈ lw_all := lw_g (lw_at lw_m2 23 rfl) rfl
theorem q371 : (Jvm.Cond.code ({ cls := "BrambleLogic$Logic", name := "facts", desc := "()LBrambleLogic$Facts;" } : Jvm.MethodName) prog_17_method_4_code (4 : Nat) (Option.some (Jvm.ClassFile.FieldType.object "BrambleLogic$Facts"))) ∈ lw_all := lw_g (lw_at lw_m2 24 rfl) rfl
theorem q372 : (Jvm.Cond.classLink "BrambleLogic$Logic" (78 : Nat) "BrambleLogic$Needs") ∈ lw_all := lw_g (lw_at lw_m2 25 rfl) rfl
theorem q374 : (Jvm.Cond.methodLink "BrambleLogic$Logic" (80 : Nat) ({ cls := "BrambleLogic$Needs", name := "<init>", desc := "(Ljava/util/List;)V" } : Jvm.MethodName)) ∈ lw_all := lw_g (lw_at lw_m2 27 rfl) rfl
theorem q601 : (Jvm.Cond.methodLink "BrambleLogic$Logic" (83 : Nat) ({ cls := "BrambleLogic$Needs", name := "layers", desc := "()[I" } : Jvm.MethodName)) ∈ lw_all := lw_g (lw_at lw_m3 14 rfl) rfl
theorem q615 : (Jvm.Cond.classLink "BrambleLogic$Logic" (87 : Nat) "BrambleLogic$Changing") ∈ lw_all := lw_g (lw_at lw_m3 28 rfl) rfl
theorem q617 : (Jvm.Cond.methodLink "BrambleLogic$Logic" (89 : Nat) ({ cls := "BrambleLogic$Changing", name := "<init>", desc := "(LBrambleLogic$Facts;)V" } : Jvm.MethodName)) ∈ lw_all := lw_g (lw_at lw_m3 30 rfl) rfl
theorem q636 : (Jvm.Cond.fieldLinkNest "BrambleLogic$Logic" (97 : Nat) "BrambleLogic$Changing" "facts" "LBrambleLogic$Facts;" "BrambleLogic") ∈ lw_tbl := lw_at lw_m3 49 rfl
theorem q646 : (Jvm.Cond.methodLink "BrambleLogic$Logic" (90 : Nat) ({ cls := "BrambleLogic$Logic", name := "rulesOf", desc := "(I[I)Ljava/util/List;" } : Jvm.MethodName)) ∈ lw_all := lw_g (lw_at lw_m3 59 rfl) rfl
theorem q647 : (Jvm.Cond.privateMethod ({ cls := "BrambleLogic$Logic", name := "rulesOf", desc := "(I[I)Ljava/util/List;" } : Jvm.MethodName)) ∈ lw_tbl := lw_at lw_m3 60 rfl
theorem q648 : (Jvm.Cond.instanceMethod ({ cls := "BrambleLogic$Logic", name := "rulesOf", desc := "(I[I)Ljava/util/List;" } : Jvm.MethodName)) ∈ lw_all := lw_g (lw_at lw_m3 61 rfl) rfl
theorem q649 : (Jvm.Cond.code ({ cls := "BrambleLogic$Logic", name := "rulesOf", desc := "(I[I)Ljava/util/List;" } : Jvm.MethodName) prog_17_method_3_code (6 : Nat) (Option.some (Jvm.ClassFile.FieldType.object "java/util/List"))) ∈ lw_all := lw_g (lw_at lw_m3 62 rfl) rfl
theorem q650 : (Jvm.Cond.interfaceEntry "BrambleLogic$Logic" (45 : Nat)) ∈ lw_tbl := lw_at lw_m3 63 rfl
theorem q651 : (Jvm.Cond.methodLink "BrambleLogic$Logic" (45 : Nat) ({ cls := "java/util/List", name := "iterator", desc := "()Ljava/util/Iterator;" } : Jvm.MethodName)) ∈ lw_all := lw_g (lw_at lw_m3 64 rfl) rfl
theorem q652 : (Jvm.Cond.interfaceEntry "BrambleLogic$Logic" (49 : Nat)) ∈ lw_tbl := lw_at lw_m3 65 rfl
theorem q653 : (Jvm.Cond.methodLink "BrambleLogic$Logic" (49 : Nat) ({ cls := "java/util/Iterator", name := "hasNext", desc := "()Z" } : Jvm.MethodName)) ∈ lw_all := lw_g (lw_at lw_m3 66 rfl) rfl
theorem q654 : (Jvm.Cond.interfaceEntry "BrambleLogic$Logic" (55 : Nat)) ∈ lw_tbl := lw_at lw_m3 67 rfl
theorem q655 : (Jvm.Cond.methodLink "BrambleLogic$Logic" (55 : Nat) ({ cls := "java/util/Iterator", name := "next", desc := "()Ljava/lang/Object;" } : Jvm.MethodName)) ∈ lw_all := lw_g (lw_at lw_m3 68 rfl) rfl
theorem q656 : (Jvm.Cond.classLink "BrambleLogic$Logic" (59 : Nat) "BrambleLogic$Rule") ∈ lw_all := lw_g (lw_at lw_m3 69 rfl) rfl
theorem q657 : (Jvm.Cond.interfaceEntry "BrambleLogic$Logic" (71 : Nat)) ∈ lw_tbl := lw_at lw_m3 70 rfl
theorem q658 : (Jvm.Cond.methodLink "BrambleLogic$Logic" (71 : Nat) ({ cls := "java/util/List", name := "add", desc := "(Ljava/lang/Object;)Z" } : Jvm.MethodName)) ∈ lw_all := lw_g (lw_at lw_m3 71 rfl) rfl
theorem q707 : (Jvm.Cond.selects "BrambleLogic$Logic" ({ cls := "java/lang/Object", name := "getClass", desc := "()Ljava/lang/Class;" } : Jvm.MethodName) ({ cls := "java/lang/Object", name := "getClass", desc := "()Ljava/lang/Class;" } : Jvm.MethodName)) ∈ lw_all := lw_g (lw_at lw_m3 120 rfl) rfl
theorem q745 : (Jvm.Cond.methodLink "BrambleLogic$Logic" (94 : Nat) ({ cls := "BrambleLogic$Changing", name := "close", desc := "(Ljava/util/List;)V" } : Jvm.MethodName)) ∈ lw_all := lw_g (lw_at lw_m3 158 rfl) rfl
theorem q894 : (Jvm.Cond.instanceMethod ({ cls := "BrambleLogic$Logic", name := "isConsistent", desc := "()Z" } : Jvm.MethodName)) ∈ lw_all := lw_g (lw_at lw_m4 67 rfl) rfl
theorem q895 : (Jvm.Cond.selects "BrambleLogic$Logic" ({ cls := "BrambleLogic$Logic", name := "isConsistent", desc := "()Z" } : Jvm.MethodName) ({ cls := "BrambleLogic$Logic", name := "isConsistent", desc := "()Z" } : Jvm.MethodName)) ∈ lw_all := lw_g (lw_at lw_m4 68 rfl) rfl
theorem q896 : (Jvm.Cond.code ({ cls := "BrambleLogic$Logic", name := "isConsistent", desc := "()Z" } : Jvm.MethodName) prog_17_method_23_code (5 : Nat) (Option.some Jvm.ClassFile.FieldType.boolean)) ∈ lw_all := lw_g (lw_at lw_m4 69 rfl) rfl
theorem q897 : (Jvm.Cond.methodLink "BrambleLogic$Logic" (261 : Nat) ({ cls := "BrambleLogic$Logic", name := "byTrying", desc := "()LBrambleLogic$Facts;" } : Jvm.MethodName)) ∈ lw_all := lw_g (lw_at lw_m4 70 rfl) rfl
theorem q898 : (Jvm.Cond.instanceMethod ({ cls := "BrambleLogic$Logic", name := "byTrying", desc := "()LBrambleLogic$Facts;" } : Jvm.MethodName)) ∈ lw_all := lw_g (lw_at lw_m4 71 rfl) rfl
theorem q899 : (Jvm.Cond.selects "BrambleLogic$Logic" ({ cls := "BrambleLogic$Logic", name := "byTrying", desc := "()LBrambleLogic$Facts;" } : Jvm.MethodName) ({ cls := "BrambleLogic$Logic", name := "byTrying", desc := "()LBrambleLogic$Facts;" } : Jvm.MethodName)) ∈ lw_all := lw_g (lw_at lw_m4 72 rfl) rfl
theorem q900 : (Jvm.Cond.code ({ cls := "BrambleLogic$Logic", name := "byTrying", desc := "()LBrambleLogic$Facts;" } : Jvm.MethodName) prog_17_method_5_code (4 : Nat) (Option.some (Jvm.ClassFile.FieldType.object "BrambleLogic$Facts"))) ∈ lw_all := lw_g (lw_at lw_m4 73 rfl) rfl
theorem q901 : (Jvm.Cond.classLink "BrambleLogic$Logic" (100 : Nat) "BrambleLogic$Trying") ∈ lw_all := lw_g (lw_at lw_m4 74 rfl) rfl
theorem q903 : (Jvm.Cond.methodLink "BrambleLogic$Logic" (102 : Nat) ({ cls := "BrambleLogic$Trying", name := "<init>", desc := "(LBrambleLogic$Facts;)V" } : Jvm.MethodName)) ∈ lw_all := lw_g (lw_at lw_m4 76 rfl) rfl
theorem q913 : (Jvm.Cond.fieldLinkNest "BrambleLogic$Logic" (104 : Nat) "BrambleLogic$Trying" "facts" "LBrambleLogic$Facts;" "BrambleLogic") ∈ lw_tbl := lw_at lw_m4 86 rfl
theorem q920 : (Jvm.Cond.methodLink "BrambleLogic$Logic" (103 : Nat) ({ cls := "BrambleLogic$Trying", name := "close", desc := "(Ljava/util/List;)V" } : Jvm.MethodName)) ∈ lw_all := lw_g (lw_at lw_m4 93 rfl) rfl
theorem q982 : (Jvm.Cond.methodLink "BrambleLogic$Logic" (123 : Nat) ({ cls := "BrambleLogic$Facts", name := "count", desc := "()I" } : Jvm.MethodName)) ∈ lw_all := lw_g (lw_at lw_m4 155 rfl) rfl
theorem q983 : (Jvm.Cond.methodLink "BrambleLogic$Logic" (264 : Nat) ({ cls := "BrambleLogic$Account", name := "left", desc := "()I" } : Jvm.MethodName)) ∈ lw_all := lw_g (lw_at lw_m4 156 rfl) rfl
theorem q984 : (Jvm.Cond.methodLink "BrambleLogic$Logic" (105 : Nat) ({ cls := "BrambleLogic$Logic", name := "facts", desc := "()LBrambleLogic$Facts;" } : Jvm.MethodName)) ∈ lw_all := lw_g (lw_at lw_m4 157 rfl) rfl
theorem q985 : (Jvm.Cond.methodLink "BrambleLogic$Logic" (152 : Nat) ({ cls := "BrambleLogic$Facts", name := "countWithout", desc := "(LBrambleLogic$Facts;)I" } : Jvm.MethodName)) ∈ lw_all := lw_g (lw_at lw_m4 158 rfl) rfl
theorem q990 : (Jvm.Cond.classLink "BrambleLogic$Logic" (267 : Nat) "BrambleLogic$Heights") ∈ lw_all := lw_g (lw_at lw_m4 163 rfl) rfl
theorem q991 : (Jvm.Cond.methodLink "BrambleLogic$Logic" (269 : Nat) ({ cls := "BrambleLogic$Heights", name := "<init>", desc := "(LBrambleLogic$Logic;)V" } : Jvm.MethodName)) ∈ lw_all := lw_g (lw_at lw_m4 164 rfl) rfl
theorem q1008 : (Jvm.Cond.methodLink "BrambleLogic$Logic" (270 : Nat) ({ cls := "BrambleLogic$Heights", name := "inRounds", desc := "()LBrambleLogic$Heights;" } : Jvm.MethodName)) ∈ lw_all := lw_g (lw_at lw_m4 181 rfl) rfl
theorem q1033 : (Jvm.Cond.methodLink "BrambleLogic$Logic" (274 : Nat) ({ cls := "BrambleLogic$Heights", name := "byLevels", desc := "()LBrambleLogic$Heights;" } : Jvm.MethodName)) ∈ lw_all := lw_g (lw_at lw_m4 206 rfl) rfl
theorem q1054 : (Jvm.Cond.methodLink "BrambleLogic$Logic" (277 : Nat) ({ cls := "BrambleLogic$Heights", name := "isSameAs", desc := "(LBrambleLogic$Heights;)Z" } : Jvm.MethodName)) ∈ lw_all := lw_g (lw_at lw_m4 227 rfl) rfl
theorem q1058 : (Jvm.Cond.methodLink "BrambleLogic$Logic" (281 : Nat) ({ cls := "BrambleLogic$Logic", name := "isPredicateSo", desc := "(ILBrambleLogic$Needs;)Z" } : Jvm.MethodName)) ∈ lw_all := lw_g (lw_at lw_m4 231 rfl) rfl
theorem q1059 : (Jvm.Cond.privateMethod ({ cls := "BrambleLogic$Logic", name := "isPredicateSo", desc := "(ILBrambleLogic$Needs;)Z" } : Jvm.MethodName)) ∈ lw_tbl := lw_at lw_m4 232 rfl
theorem q1060 : (Jvm.Cond.instanceMethod ({ cls := "BrambleLogic$Logic", name := "isPredicateSo", desc := "(ILBrambleLogic$Needs;)Z" } : Jvm.MethodName)) ∈ lw_all := lw_g (lw_at lw_m4 233 rfl) rfl
theorem q1061 : (Jvm.Cond.code ({ cls := "BrambleLogic$Logic", name := "isPredicateSo", desc := "(ILBrambleLogic$Needs;)Z" } : Jvm.MethodName) prog_17_method_22_code (4 : Nat) (Option.some Jvm.ClassFile.FieldType.boolean)) ∈ lw_all := lw_g (lw_at lw_m4 234 rfl) rfl
theorem q1062 : (Jvm.Cond.methodLink "BrambleLogic$Logic" (250 : Nat) ({ cls := "BrambleLogic$Codes", name := "count", desc := "()I" } : Jvm.MethodName)) ∈ lw_all := lw_g (lw_at lw_m4 235 rfl) rfl
theorem q1063 : (Jvm.Cond.classLink "BrambleLogic$Logic" (251 : Nat) "BrambleLogic$Goals") ∈ lw_all := lw_g (lw_at lw_m4 236 rfl) rfl
theorem q1065 : (Jvm.Cond.methodLink "BrambleLogic$Logic" (253 : Nat) ({ cls := "BrambleLogic$Goals", name := "<init>", desc := "(LBrambleLogic$Logic;)V" } : Jvm.MethodName)) ∈ lw_all := lw_g (lw_at lw_m4 238 rfl) rfl
theorem q1089 : (Jvm.Cond.methodLink "BrambleLogic$Logic" (254 : Nat) ({ cls := "BrambleLogic$Goals", name := "solve", desc := "(III)LBrambleLogic$Codes;" } : Jvm.MethodName)) ∈ lw_all := lw_g (lw_at lw_m5 22 rfl) rfl
theorem q1117 : (Jvm.Cond.fieldLinkNest "BrambleLogic$Logic" (215 : Nat) "BrambleLogic$Goal" "predicate" "I" "BrambleLogic") ∈ lw_tbl := lw_at lw_m5 50 rfl
theorem q1197 : (Jvm.Cond.methodLink "BrambleLogic$Logic" (258 : Nat) ({ cls := "BrambleLogic$Needs", name := "longestChain", desc := "(II)I" } : Jvm.MethodName)) ∈ lw_all := lw_g (lw_at lw_m5 130 rfl) rfl
theorem q1207 : (Jvm.Cond.instanceMethod ({ cls := "BrambleLogic$Logic", name := "describeGiven", desc := "()Ljava/lang/String;" } : Jvm.MethodName)) ∈ lw_all := lw_g (lw_at lw_m5 140 rfl) rfl
theorem q1208 : (Jvm.Cond.selects "BrambleLogic$Logic" ({ cls := "BrambleLogic$Logic", name := "describeGiven", desc := "()Ljava/lang/String;" } : Jvm.MethodName) ({ cls := "BrambleLogic$Logic", name := "describeGiven", desc := "()Ljava/lang/String;" } : Jvm.MethodName)) ∈ lw_all := lw_g (lw_at lw_m5 141 rfl) rfl
theorem q1209 : (Jvm.Cond.code ({ cls := "BrambleLogic$Logic", name := "describeGiven", desc := "()Ljava/lang/String;" } : Jvm.MethodName) prog_17_method_25_code (4 : Nat) (Option.some (Jvm.ClassFile.FieldType.object "java/lang/String"))) ∈ lw_all := lw_g (lw_at lw_m5 142 rfl) rfl
theorem q1210 : (Jvm.Cond.classLink "BrambleLogic$Logic" (285 : Nat) "java/lang/StringBuilder") ∈ lw_all := lw_g (lw_at lw_m5 143 rfl) rfl
theorem q1211 : (Jvm.Cond.methodLink "BrambleLogic$Logic" (287 : Nat) ({ cls := "java/lang/StringBuilder", name := "<init>", desc := "()V" } : Jvm.MethodName)) ∈ lw_all := lw_g (lw_at lw_m5 144 rfl) rfl
theorem q1212 : (Jvm.Cond.methodLink "BrambleLogic$Logic" (108 : Nat) ({ cls := "BrambleLogic$Facts", name := "has", desc := "(II)Z" } : Jvm.MethodName)) ∈ lw_all := lw_g (lw_at lw_m5 145 rfl) rfl
theorem q1213 : (Jvm.Cond.methodLink "BrambleLogic$Logic" (309 : Nat) ({ cls := "java/lang/StringBuilder", name := "length", desc := "()I" } : Jvm.MethodName)) ∈ lw_all := lw_g (lw_at lw_m5 146 rfl) rfl
theorem q1220 : (Jvm.Cond.stringRef "BrambleLogic$Logic" (312 : Nat) "") ∈ lw_tbl := lw_at lw_m5 153 rfl
theorem q1221 : (Jvm.Cond.stringRef "BrambleLogic$Logic" (314 : Nat) " ") ∈ lw_tbl := lw_at lw_m5 154 rfl
theorem q1222 : (Jvm.Cond.methodLink "BrambleLogic$Logic" (292 : Nat) ({ cls := "java/lang/StringBuilder", name := "append", desc := "(Ljava/lang/String;)Ljava/lang/StringBuilder;" } : Jvm.MethodName)) ∈ lw_all := lw_g (lw_at lw_m5 155 rfl) rfl
theorem q1325 : (Jvm.Cond.methodLinkNest "BrambleLogic$Logic" (288 : Nat) ({ cls := "BrambleLogic", name := "textOf", desc := "(II)Ljava/lang/String;" } : Jvm.MethodName) "BrambleLogic") ∈ lw_tbl := lw_at lw_m6 18 rfl
theorem q1449 : (Jvm.Cond.methodLink "BrambleLogic$Logic" (298 : Nat) ({ cls := "java/lang/StringBuilder", name := "toString", desc := "()Ljava/lang/String;" } : Jvm.MethodName)) ∈ lw_all := lw_g (lw_at lw_m6 142 rfl) rfl
theorem q1470 : (Jvm.Cond.instanceMethod ({ cls := "BrambleLogic$Logic", name := "<init>", desc := "(LBrambleLogic$Logic;)V" } : Jvm.MethodName)) ∈ lw_all := lw_g (lw_at lw_m6 163 rfl) rfl
theorem q1471 : (Jvm.Cond.code ({ cls := "BrambleLogic$Logic", name := "<init>", desc := "(LBrambleLogic$Logic;)V" } : Jvm.MethodName) prog_17_method_2_code (2 : Nat) (Option.none : Option Jvm.ClassFile.FieldType)) ∈ lw_all := lw_g (lw_at lw_m6 164 rfl) rfl
theorem q1472 : (Jvm.Cond.methodLink "BrambleLogic$Logic" (32 : Nat) ({ cls := "BrambleLogic$Facts", name := "<init>", desc := "(LBrambleLogic$Facts;)V" } : Jvm.MethodName)) ∈ lw_all := lw_g (lw_at lw_m6 165 rfl) rfl
theorem q1473 : (Jvm.Cond.interfaceEntry "BrambleLogic$Logic" (35 : Nat)) ∈ lw_tbl := lw_at lw_m6 166 rfl
theorem q1474 : (Jvm.Cond.methodLink "BrambleLogic$Logic" (35 : Nat) ({ cls := "java/util/List", name := "addAll", desc := "(Ljava/util/Collection;)Z" } : Jvm.MethodName)) ∈ lw_all := lw_g (lw_at lw_m6 167 rfl) rfl
theorem q1508 : (Jvm.Cond.methodLink "BrambleLogic$Logic" (41 : Nat) ({ cls := "BrambleLogic$Account", name := "copy", desc := "(LBrambleLogic$Account;)V" } : Jvm.MethodName)) ∈ lw_all := lw_g (lw_at lw_m6 201 rfl) rfl
theorem q1513 : (Jvm.Cond.instanceMethod ({ cls := "BrambleLogic$Logic", name := "addFact", desc := "(CII)I" } : Jvm.MethodName)) ∈ lw_all := lw_g (lw_at lw_m6 206 rfl) rfl
theorem q1514 : (Jvm.Cond.selects "BrambleLogic$Logic" ({ cls := "BrambleLogic$Logic", name := "addFact", desc := "(CII)I" } : Jvm.MethodName) ({ cls := "BrambleLogic$Logic", name := "addFact", desc := "(CII)I" } : Jvm.MethodName)) ∈ lw_all := lw_g (lw_at lw_m6 207 rfl) rfl
theorem q1515 : (Jvm.Cond.code ({ cls := "BrambleLogic$Logic", name := "addFact", desc := "(CII)I" } : Jvm.MethodName) prog_17_method_8_code (6 : Nat) (Option.some Jvm.ClassFile.FieldType.int)) ∈ lw_all := lw_g (lw_at lw_m6 208 rfl) rfl
theorem q1516 : (Jvm.Cond.methodLinkNest "BrambleLogic$Logic" (116 : Nat) ({ cls := "BrambleLogic", name := "requireCode", desc := "(CII)I" } : Jvm.MethodName) "BrambleLogic") ∈ lw_tbl := lw_at lw_m6 209 rfl
theorem q1534 : (Jvm.Cond.methodLinkNest "BrambleLogic$Logic" (120 : Nat) ({ cls := "BrambleLogic", name := "requireSupport", desc := "(Z)V" } : Jvm.MethodName) "BrambleLogic") ∈ lw_tbl := lw_at lw_m6 227 rfl
theorem q1552 : (Jvm.Cond.methodLinkNest "BrambleLogic$Logic" (127 : Nat) ({ cls := "BrambleLogic", name := "requireState", desc := "(Z)V" } : Jvm.MethodName) "BrambleLogic") ∈ lw_tbl := lw_at lw_m7 5 rfl
theorem q1570 : (Jvm.Cond.methodLink "BrambleLogic$Logic" (130 : Nat) ({ cls := "BrambleLogic$Facts", name := "add", desc := "(II)Z" } : Jvm.MethodName)) ∈ lw_all := lw_g (lw_at lw_m7 23 rfl) rfl
theorem q1571 : (Jvm.Cond.methodLink "BrambleLogic$Logic" (132 : Nat) ({ cls := "BrambleLogic$Account", name := "come", desc := "()V" } : Jvm.MethodName)) ∈ lw_all := lw_g (lw_at lw_m7 24 rfl) rfl
theorem q1648 : (Jvm.Cond.instanceMethod ({ cls := "BrambleLogic$Logic", name := "takeFact", desc := "(CII)I" } : Jvm.MethodName)) ∈ lw_all := lw_g (lw_at lw_m7 101 rfl) rfl
theorem q1649 : (Jvm.Cond.selects "BrambleLogic$Logic" ({ cls := "BrambleLogic$Logic", name := "takeFact", desc := "(CII)I" } : Jvm.MethodName) ({ cls := "BrambleLogic$Logic", name := "takeFact", desc := "(CII)I" } : Jvm.MethodName)) ∈ lw_all := lw_g (lw_at lw_m7 102 rfl) rfl
theorem q1650 : (Jvm.Cond.code ({ cls := "BrambleLogic$Logic", name := "takeFact", desc := "(CII)I" } : Jvm.MethodName) prog_17_method_10_code (6 : Nat) (Option.some Jvm.ClassFile.FieldType.int)) ∈ lw_all := lw_g (lw_at lw_m7 103 rfl) rfl
theorem q1651 : (Jvm.Cond.methodLink "BrambleLogic$Logic" (148 : Nat) ({ cls := "BrambleLogic$Logic", name := "without", desc := "(CI)LBrambleLogic$Facts;" } : Jvm.MethodName)) ∈ lw_all := lw_g (lw_at lw_m7 104 rfl) rfl
theorem q1652 : (Jvm.Cond.instanceMethod ({ cls := "BrambleLogic$Logic", name := "without", desc := "(CI)LBrambleLogic$Facts;" } : Jvm.MethodName)) ∈ lw_all := lw_g (lw_at lw_m7 105 rfl) rfl
theorem q1653 : (Jvm.Cond.selects "BrambleLogic$Logic" ({ cls := "BrambleLogic$Logic", name := "without", desc := "(CI)LBrambleLogic$Facts;" } : Jvm.MethodName) ({ cls := "BrambleLogic$Logic", name := "without", desc := "(CI)LBrambleLogic$Facts;" } : Jvm.MethodName)) ∈ lw_all := lw_g (lw_at lw_m7 106 rfl) rfl
theorem q1654 : (Jvm.Cond.code ({ cls := "BrambleLogic$Logic", name := "without", desc := "(CI)LBrambleLogic$Facts;" } : Jvm.MethodName) prog_17_method_9_code (4 : Nat) (Option.some (Jvm.ClassFile.FieldType.object "BrambleLogic$Facts"))) ∈ lw_all := lw_g (lw_at lw_m7 107 rfl) rfl
theorem q1655 : (Jvm.Cond.methodLinkNest "BrambleLogic$Logic" (112 : Nat) ({ cls := "BrambleLogic", name := "requireElement", desc := "(Z)V" } : Jvm.MethodName) "BrambleLogic") ∈ lw_tbl := lw_at lw_m7 108 rfl
theorem q1660 : (Jvm.Cond.classLink "BrambleLogic$Logic" (13 : Nat) "BrambleLogic$Logic") ∈ lw_all := lw_g (lw_at lw_m7 113 rfl) rfl
theorem q1661 : (Jvm.Cond.methodLink "BrambleLogic$Logic" (135 : Nat) ({ cls := "BrambleLogic$Logic", name := "<init>", desc := "(LBrambleLogic$Logic;)V" } : Jvm.MethodName)) ∈ lw_all := lw_g (lw_at lw_m7 114 rfl) rfl
theorem q1662 : (Jvm.Cond.methodLink "BrambleLogic$Logic" (142 : Nat) ({ cls := "BrambleLogic$Codes", name := "remove", desc := "(I)V" } : Jvm.MethodName)) ∈ lw_all := lw_g (lw_at lw_m7 115 rfl) rfl
theorem q1666 : (Jvm.Cond.methodLink "BrambleLogic$Logic" (156 : Nat) ({ cls := "BrambleLogic$Account", name := "go", desc := "()V" } : Jvm.MethodName)) ∈ lw_all := lw_g (lw_at lw_m7 119 rfl) rfl
theorem q1697 : (Jvm.Cond.instanceMethod ({ cls := "BrambleLogic$Logic", name := "dropRule", desc := "(I)I" } : Jvm.MethodName)) ∈ lw_all := lw_g (lw_at lw_m7 150 rfl) rfl
theorem q1698 : (Jvm.Cond.selects "BrambleLogic$Logic" ({ cls := "BrambleLogic$Logic", name := "dropRule", desc := "(I)I" } : Jvm.MethodName) ({ cls := "BrambleLogic$Logic", name := "dropRule", desc := "(I)I" } : Jvm.MethodName)) ∈ lw_all := lw_g (lw_at lw_m7 151 rfl) rfl
theorem q1699 : (Jvm.Cond.code ({ cls := "BrambleLogic$Logic", name := "dropRule", desc := "(I)I" } : Jvm.MethodName) prog_17_method_14_code (3 : Nat) (Option.some Jvm.ClassFile.FieldType.int)) ∈ lw_all := lw_g (lw_at lw_m7 152 rfl) rfl
theorem q1700 : (Jvm.Cond.interfaceEntry "BrambleLogic$Logic" (159 : Nat)) ∈ lw_tbl := lw_at lw_m7 153 rfl
theorem q1701 : (Jvm.Cond.methodLink "BrambleLogic$Logic" (159 : Nat) ({ cls := "java/util/List", name := "size", desc := "()I" } : Jvm.MethodName)) ∈ lw_all := lw_g (lw_at lw_m7 154 rfl) rfl
theorem q1702 : (Jvm.Cond.methodLinkNest "BrambleLogic$Logic" (196 : Nat) ({ cls := "BrambleLogic", name := "requireIndex", desc := "(II)V" } : Jvm.MethodName) "BrambleLogic") ∈ lw_tbl := lw_at lw_m7 155 rfl
theorem q1720 : (Jvm.Cond.interfaceEntry "BrambleLogic$Logic" (200 : Nat)) ∈ lw_tbl := lw_at lw_m7 173 rfl
theorem q1721 : (Jvm.Cond.methodLink "BrambleLogic$Logic" (200 : Nat) ({ cls := "java/util/List", name := "remove", desc := "(I)Ljava/lang/Object;" } : Jvm.MethodName)) ∈ lw_all := lw_g (lw_at lw_m7 174 rfl) rfl
theorem q1782 : (Jvm.Cond.instanceMethod ({ cls := "BrambleLogic$Logic", name := "constantAtRank", desc := "(II)I" } : Jvm.MethodName)) ∈ lw_all := lw_g (lw_at lw_m7 235 rfl) rfl
theorem q1783 : (Jvm.Cond.selects "BrambleLogic$Logic" ({ cls := "BrambleLogic$Logic", name := "constantAtRank", desc := "(II)I" } : Jvm.MethodName) ({ cls := "BrambleLogic$Logic", name := "constantAtRank", desc := "(II)I" } : Jvm.MethodName)) ∈ lw_all := lw_g (lw_at lw_m7 236 rfl) rfl
theorem q1784 : (Jvm.Cond.code ({ cls := "BrambleLogic$Logic", name := "constantAtRank", desc := "(II)I" } : Jvm.MethodName) prog_17_method_16_code (9 : Nat) (Option.some Jvm.ClassFile.FieldType.int)) ∈ lw_all := lw_g (lw_at lw_m7 237 rfl) rfl
theorem q1785 : (Jvm.Cond.methodLink "BrambleLogic$Logic" (206 : Nat) ({ cls := "BrambleLogic$Logic", name := "countFirst", desc := "(II)I" } : Jvm.MethodName)) ∈ lw_all := lw_g (lw_at lw_m7 238 rfl) rfl
theorem q1786 : (Jvm.Cond.privateMethod ({ cls := "BrambleLogic$Logic", name := "countFirst", desc := "(II)I" } : Jvm.MethodName)) ∈ lw_tbl := lw_at lw_m7 239 rfl
theorem q1787 : (Jvm.Cond.instanceMethod ({ cls := "BrambleLogic$Logic", name := "countFirst", desc := "(II)I" } : Jvm.MethodName)) ∈ lw_all := lw_g (lw_at lw_m8 0 rfl) rfl
theorem q1788 : (Jvm.Cond.code ({ cls := "BrambleLogic$Logic", name := "countFirst", desc := "(II)I" } : Jvm.MethodName) prog_17_method_15_code (6 : Nat) (Option.some Jvm.ClassFile.FieldType.int)) ∈ lw_all := lw_g (lw_at lw_m8 1 rfl) rfl
theorem q1789 : (Jvm.Cond.methodLinkNest "BrambleLogic$Logic" (202 : Nat) ({ cls := "BrambleLogic", name := "isPair", desc := "(I)Z" } : Jvm.MethodName) "BrambleLogic") ∈ lw_tbl := lw_at lw_m8 2 rfl
theorem q1802 : (Jvm.Cond.instanceMethod ({ cls := "BrambleLogic$Logic", name := "greatest", desc := "(I)I" } : Jvm.MethodName)) ∈ lw_all := lw_g (lw_at lw_m8 15 rfl) rfl
theorem q1803 : (Jvm.Cond.selects "BrambleLogic$Logic" ({ cls := "BrambleLogic$Logic", name := "greatest", desc := "(I)I" } : Jvm.MethodName) ({ cls := "BrambleLogic$Logic", name := "greatest", desc := "(I)I" } : Jvm.MethodName)) ∈ lw_all := lw_g (lw_at lw_m8 16 rfl) rfl
theorem q1804 : (Jvm.Cond.code ({ cls := "BrambleLogic$Logic", name := "greatest", desc := "(I)I" } : Jvm.MethodName) prog_17_method_17_code (4 : Nat) (Option.some Jvm.ClassFile.FieldType.int)) ∈ lw_all := lw_g (lw_at lw_m8 17 rfl) rfl
theorem q1805 : (Jvm.Cond.methodLink "BrambleLogic$Logic" (210 : Nat) ({ cls := "java/lang/Math", name := "max", desc := "(II)I" } : Jvm.MethodName)) ∈ lw_all := lw_g (lw_at lw_m8 18 rfl) rfl
theorem q1818 : (Jvm.Cond.instanceMethod ({ cls := "BrambleLogic$Logic", name := "requireTrue", desc := "(II)V" } : Jvm.MethodName)) ∈ lw_all := lw_g (lw_at lw_m8 31 rfl) rfl
theorem q1819 : (Jvm.Cond.selects "BrambleLogic$Logic" ({ cls := "BrambleLogic$Logic", name := "requireTrue", desc := "(II)V" } : Jvm.MethodName) ({ cls := "BrambleLogic$Logic", name := "requireTrue", desc := "(II)V" } : Jvm.MethodName)) ∈ lw_all := lw_g (lw_at lw_m8 32 rfl) rfl
theorem q1820 : (Jvm.Cond.code ({ cls := "BrambleLogic$Logic", name := "requireTrue", desc := "(II)V" } : Jvm.MethodName) prog_17_method_7_code (3 : Nat) (Option.none : Option Jvm.ClassFile.FieldType)) ∈ lw_all := lw_g (lw_at lw_m8 33 rfl) rfl
theorem q1840 : (Jvm.Cond.instanceMethod ({ cls := "BrambleLogic$Logic", name := "isDerived", desc := "(II)Z" } : Jvm.MethodName)) ∈ lw_all := lw_g (lw_at lw_m8 53 rfl) rfl
theorem q1841 : (Jvm.Cond.selects "BrambleLogic$Logic" ({ cls := "BrambleLogic$Logic", name := "isDerived", desc := "(II)Z" } : Jvm.MethodName) ({ cls := "BrambleLogic$Logic", name := "isDerived", desc := "(II)Z" } : Jvm.MethodName)) ∈ lw_all := lw_g (lw_at lw_m8 54 rfl) rfl
theorem q1842 : (Jvm.Cond.code ({ cls := "BrambleLogic$Logic", name := "isDerived", desc := "(II)Z" } : Jvm.MethodName) prog_17_method_6_code (3 : Nat) (Option.some Jvm.ClassFile.FieldType.boolean)) ∈ lw_all := lw_g (lw_at lw_m8 55 rfl) rfl
theorem q1930 : (Jvm.Cond.instanceMethod ({ cls := "BrambleLogic$Logic", name := "answers", desc := "(LBrambleLogic$Goal;)I" } : Jvm.MethodName)) ∈ lw_all := lw_g (lw_at lw_m8 143 rfl) rfl
theorem q1931 : (Jvm.Cond.selects "BrambleLogic$Logic" ({ cls := "BrambleLogic$Logic", name := "answers", desc := "(LBrambleLogic$Goal;)I" } : Jvm.MethodName) ({ cls := "BrambleLogic$Logic", name := "answers", desc := "(LBrambleLogic$Goal;)I" } : Jvm.MethodName)) ∈ lw_all := lw_g (lw_at lw_m8 144 rfl) rfl
theorem q1932 : (Jvm.Cond.code ({ cls := "BrambleLogic$Logic", name := "answers", desc := "(LBrambleLogic$Goal;)I" } : Jvm.MethodName) prog_17_method_18_code (4 : Nat) (Option.some Jvm.ClassFile.FieldType.int)) ∈ lw_all := lw_g (lw_at lw_m8 145 rfl) rfl
theorem q1933 : (Jvm.Cond.methodLink "BrambleLogic$Logic" (218 : Nat) ({ cls := "BrambleLogic$Goal", name := "fits", desc := "(I)Z" } : Jvm.MethodName)) ∈ lw_all := lw_g (lw_at lw_m8 146 rfl) rfl
theorem q1952 : (Jvm.Cond.instanceMethod ({ cls := "BrambleLogic$Logic", name := "answerAt", desc := "(LBrambleLogic$Goal;I)I" } : Jvm.MethodName)) ∈ lw_all := lw_g (lw_at lw_m8 165 rfl) rfl
theorem q1953 : (Jvm.Cond.selects "BrambleLogic$Logic" ({ cls := "BrambleLogic$Logic", name := "answerAt", desc := "(LBrambleLogic$Goal;I)I" } : Jvm.MethodName) ({ cls := "BrambleLogic$Logic", name := "answerAt", desc := "(LBrambleLogic$Goal;I)I" } : Jvm.MethodName)) ∈ lw_all := lw_g (lw_at lw_m8 166 rfl) rfl
theorem q1954 : (Jvm.Cond.code ({ cls := "BrambleLogic$Logic", name := "answerAt", desc := "(LBrambleLogic$Goal;I)I" } : Jvm.MethodName) prog_17_method_19_code (6 : Nat) (Option.some Jvm.ClassFile.FieldType.int)) ∈ lw_all := lw_g (lw_at lw_m8 167 rfl) rfl
theorem q1979 : (Jvm.Cond.instanceMethod ({ cls := "BrambleLogic$Logic", name := "isRecursive", desc := "(LBrambleLogic$Rule;)Z" } : Jvm.MethodName)) ∈ lw_all := lw_g (lw_at lw_m8 192 rfl) rfl
theorem q1980 : (Jvm.Cond.selects "BrambleLogic$Logic" ({ cls := "BrambleLogic$Logic", name := "isRecursive", desc := "(LBrambleLogic$Rule;)Z" } : Jvm.MethodName) ({ cls := "BrambleLogic$Logic", name := "isRecursive", desc := "(LBrambleLogic$Rule;)Z" } : Jvm.MethodName)) ∈ lw_all := lw_g (lw_at lw_m8 193 rfl) rfl
theorem q1981 : (Jvm.Cond.code ({ cls := "BrambleLogic$Logic", name := "isRecursive", desc := "(LBrambleLogic$Rule;)Z" } : Jvm.MethodName) prog_17_method_21_code (8 : Nat) (Option.some Jvm.ClassFile.FieldType.boolean)) ∈ lw_all := lw_g (lw_at lw_m8 194 rfl) rfl
theorem q1982 : (Jvm.Cond.classLink "BrambleLogic$Logic" (233 : Nat) "BrambleLogic$Literal") ∈ lw_all := lw_g (lw_at lw_m8 195 rfl) rfl
theorem q1983 : (Jvm.Cond.interfaceEntry "BrambleLogic$Logic" (235 : Nat)) ∈ lw_tbl := lw_at lw_m8 196 rfl
theorem q1984 : (Jvm.Cond.methodLink "BrambleLogic$Logic" (235 : Nat) ({ cls := "BrambleLogic$Literal", name := "atom", desc := "()Ljava/util/Optional;" } : Jvm.MethodName)) ∈ lw_all := lw_g (lw_at lw_m8 197 rfl) rfl
theorem q1985 : (Jvm.Cond.methodLink "BrambleLogic$Logic" (239 : Nat) ({ cls := "java/util/Optional", name := "isPresent", desc := "()Z" } : Jvm.MethodName)) ∈ lw_all := lw_g (lw_at lw_m8 198 rfl) rfl
theorem q1986 : (Jvm.Cond.methodLink "BrambleLogic$Logic" (244 : Nat) ({ cls := "java/util/Optional", name := "get", desc := "()Ljava/lang/Object;" } : Jvm.MethodName)) ∈ lw_all := lw_g (lw_at lw_m8 199 rfl) rfl
theorem q1987 : (Jvm.Cond.classLink "BrambleLogic$Logic" (66 : Nat) "BrambleLogic$Atom") ∈ lw_all := lw_g (lw_at lw_m8 200 rfl) rfl
theorem q1988 : (Jvm.Cond.methodLink "BrambleLogic$Logic" (246 : Nat) ({ cls := "BrambleLogic$Needs", name := "reached", desc := "(I)I" } : Jvm.MethodName)) ∈ lw_all := lw_g (lw_at lw_m8 201 rfl) rfl
theorem q2039 : (Jvm.Cond.instanceMethod ({ cls := "BrambleLogic$Logic", name := "countSteps", desc := "(LBrambleLogic$Rule;)I" } : Jvm.MethodName)) ∈ lw_all := lw_g (lw_at lw_m9 12 rfl) rfl
theorem q2040 : (Jvm.Cond.selects "BrambleLogic$Logic" ({ cls := "BrambleLogic$Logic", name := "countSteps", desc := "(LBrambleLogic$Rule;)I" } : Jvm.MethodName) ({ cls := "BrambleLogic$Logic", name := "countSteps", desc := "(LBrambleLogic$Rule;)I" } : Jvm.MethodName)) ∈ lw_all := lw_g (lw_at lw_m9 13 rfl) rfl
theorem q2041 : (Jvm.Cond.code ({ cls := "BrambleLogic$Logic", name := "countSteps", desc := "(LBrambleLogic$Rule;)I" } : Jvm.MethodName) prog_17_method_20_code (3 : Nat) (Option.some Jvm.ClassFile.FieldType.int)) ∈ lw_all := lw_g (lw_at lw_m9 14 rfl) rfl
theorem q2042 : (Jvm.Cond.classLink "BrambleLogic$Logic" (221 : Nat) "BrambleLogic$Logic$Counting") ∈ lw_all := lw_g (lw_at lw_m9 15 rfl) rfl
theorem q2044 : (Jvm.Cond.methodLinkNest "BrambleLogic$Logic" (223 : Nat) ({ cls := "BrambleLogic$Logic$Counting", name := "<init>", desc := "()V" } : Jvm.MethodName) "BrambleLogic") ∈ lw_tbl := lw_at lw_m9 17 rfl
theorem q2049 : (Jvm.Cond.fieldLinkNest "BrambleLogic$Logic" (228 : Nat) "BrambleLogic$Logic$Counting" "count" "I" "BrambleLogic") ∈ lw_tbl := lw_at lw_m9 22 rfl
theorem q2053 : (Jvm.Cond.methodLink "BrambleLogic$Logic" (224 : Nat) ({ cls := "BrambleLogic$Logic$Counting", name := "take", desc := "(LBrambleLogic$Rule;LBrambleLogic$Facts;)V" } : Jvm.MethodName)) ∈ lw_all := lw_g (lw_at lw_m9 26 rfl) rfl
theorem q2367 : (Jvm.Cond.fieldLinkNest "BrambleLogic$Logic" (65 : Nat) "BrambleLogic$Atom" "predicate" "I" "BrambleLogic") ∈ lw_tbl := lw_at lw_m10 100 rfl
theorem q2499 : (Jvm.Cond.fieldLinkNest "BrambleLogic$Logic" (61 : Nat) "BrambleLogic$Rule" "head" "LBrambleLogic$Atom;" "BrambleLogic") ∈ lw_tbl := lw_at lw_m10 232 rfl
theorem q2505 : (Jvm.Cond.fieldLinkNest "BrambleLogic$Logic" (230 : Nat) "BrambleLogic$Rule" "literals" "Ljava/util/List;" "BrambleLogic") ∈ lw_tbl := lw_at lw_m10 238 rfl
theorem q2512 : (Jvm.Cond.fieldLinkNest "BrambleLogic$Logic" (166 : Nat) "BrambleLogic$Rule" "text" "Ljava/lang/String;" "BrambleLogic") ∈ lw_tbl := lw_at lw_m11 5 rfl
theorem q2611 : (Jvm.Cond.instanceMethod ({ cls := "BrambleLogic$Logic", name := "addRule", desc := "(LBrambleLogic$Rule;)I" } : Jvm.MethodName)) ∈ lw_all := lw_g (lw_at lw_m11 104 rfl) rfl
theorem q2612 : (Jvm.Cond.selects "BrambleLogic$Logic" ({ cls := "BrambleLogic$Logic", name := "addRule", desc := "(LBrambleLogic$Rule;)I" } : Jvm.MethodName) ({ cls := "BrambleLogic$Logic", name := "addRule", desc := "(LBrambleLogic$Rule;)I" } : Jvm.MethodName)) ∈ lw_all := lw_g (lw_at lw_m11 105 rfl) rfl
theorem q2613 : (Jvm.Cond.code ({ cls := "BrambleLogic$Logic", name := "addRule", desc := "(LBrambleLogic$Rule;)I" } : Jvm.MethodName) prog_17_method_13_code (2 : Nat) (Option.some Jvm.ClassFile.FieldType.int)) ∈ lw_all := lw_g (lw_at lw_m11 106 rfl) rfl
theorem q2614 : (Jvm.Cond.methodLink "BrambleLogic$Logic" (181 : Nat) ({ cls := "BrambleLogic$Rule", name := "unsafeVariable", desc := "()I" } : Jvm.MethodName)) ∈ lw_all := lw_g (lw_at lw_m11 107 rfl) rfl
theorem q2618 : (Jvm.Cond.methodLinkNest "BrambleLogic$Logic" (184 : Nat) ({ cls := "BrambleLogic", name := "refuseIf", desc := "(ZII)V" } : Jvm.MethodName) "BrambleLogic") ∈ lw_tbl := lw_at lw_m11 111 rfl
theorem q2643 : (Jvm.Cond.methodLink "BrambleLogic$Logic" (188 : Nat) ({ cls := "BrambleLogic$Logic", name := "sameRule", desc := "(Ljava/lang/String;)I" } : Jvm.MethodName)) ∈ lw_all := lw_g (lw_at lw_m11 136 rfl) rfl
theorem q2644 : (Jvm.Cond.privateMethod ({ cls := "BrambleLogic$Logic", name := "sameRule", desc := "(Ljava/lang/String;)I" } : Jvm.MethodName)) ∈ lw_tbl := lw_at lw_m11 137 rfl
theorem q2645 : (Jvm.Cond.instanceMethod ({ cls := "BrambleLogic$Logic", name := "sameRule", desc := "(Ljava/lang/String;)I" } : Jvm.MethodName)) ∈ lw_all := lw_g (lw_at lw_m11 138 rfl) rfl
theorem q2646 : (Jvm.Cond.code ({ cls := "BrambleLogic$Logic", name := "sameRule", desc := "(Ljava/lang/String;)I" } : Jvm.MethodName) prog_17_method_11_code (4 : Nat) (Option.some Jvm.ClassFile.FieldType.int)) ∈ lw_all := lw_g (lw_at lw_m11 139 rfl) rfl
theorem q2647 : (Jvm.Cond.interfaceEntry "BrambleLogic$Logic" (162 : Nat)) ∈ lw_tbl := lw_at lw_m11 140 rfl
theorem q2648 : (Jvm.Cond.methodLink "BrambleLogic$Logic" (162 : Nat) ({ cls := "java/util/List", name := "get", desc := "(I)Ljava/lang/Object;" } : Jvm.MethodName)) ∈ lw_all := lw_g (lw_at lw_m11 141 rfl) rfl
theorem q2649 : (Jvm.Cond.methodLink "BrambleLogic$Logic" (170 : Nat) ({ cls := "java/lang/String", name := "equals", desc := "(Ljava/lang/Object;)Z" } : Jvm.MethodName)) ∈ lw_all := lw_g (lw_at lw_m11 142 rfl) rfl
theorem q2650 : (Jvm.Cond.methodLink "BrambleLogic$Logic" (192 : Nat) ({ cls := "BrambleLogic$Logic", name := "makesCircle", desc := "(LBrambleLogic$Rule;)Z" } : Jvm.MethodName)) ∈ lw_all := lw_g (lw_at lw_m11 143 rfl) rfl
theorem q2651 : (Jvm.Cond.privateMethod ({ cls := "BrambleLogic$Logic", name := "makesCircle", desc := "(LBrambleLogic$Rule;)Z" } : Jvm.MethodName)) ∈ lw_tbl := lw_at lw_m11 144 rfl
theorem q2652 : (Jvm.Cond.instanceMethod ({ cls := "BrambleLogic$Logic", name := "makesCircle", desc := "(LBrambleLogic$Rule;)Z" } : Jvm.MethodName)) ∈ lw_all := lw_g (lw_at lw_m11 145 rfl) rfl
theorem q2653 : (Jvm.Cond.code ({ cls := "BrambleLogic$Logic", name := "makesCircle", desc := "(LBrambleLogic$Rule;)Z" } : Jvm.MethodName) prog_17_method_12_code (3 : Nat) (Option.some Jvm.ClassFile.FieldType.boolean)) ∈ lw_all := lw_g (lw_at lw_m11 146 rfl) rfl
theorem q2654 : (Jvm.Cond.methodLink "BrambleLogic$Logic" (175 : Nat) ({ cls := "java/util/ArrayList", name := "<init>", desc := "(Ljava/util/Collection;)V" } : Jvm.MethodName)) ∈ lw_all := lw_g (lw_at lw_m11 147 rfl) rfl
theorem q2669 : (Jvm.Cond.methodLink "BrambleLogic$Logic" (178 : Nat) ({ cls := "BrambleLogic$Needs", name := "isCircle", desc := "()Z" } : Jvm.MethodName)) ∈ lw_all := lw_g (lw_at lw_m11 162 rfl) rfl
theorem q2705 : (Jvm.Cond.instanceMethod ({ cls := "BrambleLogic$Logic", name := "describeStep", desc := "(II)Ljava/lang/String;" } : Jvm.MethodName)) ∈ lw_all := lw_g (lw_at lw_m11 198 rfl) rfl
theorem q2706 : (Jvm.Cond.selects "BrambleLogic$Logic" ({ cls := "BrambleLogic$Logic", name := "describeStep", desc := "(II)Ljava/lang/String;" } : Jvm.MethodName) ({ cls := "BrambleLogic$Logic", name := "describeStep", desc := "(II)Ljava/lang/String;" } : Jvm.MethodName)) ∈ lw_all := lw_g (lw_at lw_m11 199 rfl) rfl
theorem q2707 : (Jvm.Cond.code ({ cls := "BrambleLogic$Logic", name := "describeStep", desc := "(II)Ljava/lang/String;" } : Jvm.MethodName) prog_17_method_24_code (4 : Nat) (Option.some (Jvm.ClassFile.FieldType.object "java/lang/String"))) ∈ lw_all := lw_g (lw_at lw_m11 200 rfl) rfl
theorem q2708 : (Jvm.Cond.stringRef "BrambleLogic$Logic" (296 : Nat) " given") ∈ lw_tbl := lw_at lw_m11 201 rfl
theorem q2709 : (Jvm.Cond.methodLink "BrambleLogic$Logic" (302 : Nat) ({ cls := "BrambleLogic$Heights", name := "step", desc := "(II)LBrambleLogic$Step;" } : Jvm.MethodName)) ∈ lw_all := lw_g (lw_at lw_m11 202 rfl) rfl
theorem q2710 : (Jvm.Cond.methodLink "BrambleLogic$Logic" (306 : Nat) ({ cls := "BrambleLogic$Step", name := "toString", desc := "()Ljava/lang/String;" } : Jvm.MethodName)) ∈ lw_all := lw_g (lw_at lw_m11 203 rfl) rfl
theorem q3366 : (Jvm.Cond.castable "BrambleLogic$Logic" "java/lang/Object") ∈ lw_tbl := lw_at lw_m14 139 rfl
theorem in_X2 : ∀ w ∈ wsX20, w ∈ lw_all := lw_in wsX20 [259, 261, 263, 265] (by decide +kernel) (by decide +kernel)
/-! BrambleLogic$Account -/
set_option maxRecDepth 100000
def RX3 : String := "BrambleLogic$Account"
def TX3 : u_T := fun k => match k with
  | 0 => ("BrambleLogic$Account", "come", "I", false)
  | _ => ("BrambleLogic$Account", "gone", "I", false)
def tyX3 : Nat → FieldType := fun k => match k with
  | 0 => .int
  | _ => .int
abbrev wsX30 : List Cond := u_ws RX3 TX3 2
theorem nmX3 : ∀ a, a < 2 → ∀ b, b < 2 → a ≠ b → (TX3 a).2.1 ≠ (TX3 b).2.1 := by decide +kernel
theorem tyX3_ok : ∀ k, k < 2 → parseFieldDescriptor (TX3 k).2.2.1 = some (tyX3 k) := by decide +kernel
abbrev cX3_init : ByteArray := prog_2_method_1_code
def yX3_init : MethodName := ⟨RX3, "<init>", "()V"⟩
theorem dX3_init_0 : decode cX3_init 0 = .ok (.aload_n 0, 1) := by decide +kernel
theorem dX3_init_1 : decode cX3_init 1 = .ok (.invokespecial 1, 3) := by decide +kernel
theorem dX3_init_4 : decode cX3_init 4 = .ok (.return_, 1) := by decide +kernel
theorem q113 : (Jvm.Cond.initialized "BrambleLogic$Account") ∈ lw_all := lw_g (lw_at lw_m1 6 rfl) rfl
theorem q211 : (Jvm.Cond.instantiable "BrambleLogic$Account" (2 : Nat)) ∈ lw_all := lw_g (lw_at lw_m1 104 rfl) rfl
theorem q213 : (Jvm.Cond.instanceMethod ({ cls := "BrambleLogic$Account", name := "<init>", desc := "()V" } : Jvm.MethodName)) ∈ lw_all := lw_g (lw_at lw_m1 106 rfl) rfl
theorem q214 : (Jvm.Cond.code ({ cls := "BrambleLogic$Account", name := "<init>", desc := "()V" } : Jvm.MethodName) prog_2_method_1_code (1 : Nat) (Option.none : Option Jvm.ClassFile.FieldType)) ∈ lw_all := lw_g (lw_at lw_m1 107 rfl) rfl
theorem q215 : (Jvm.Cond.methodLink "BrambleLogic$Account" (1 : Nat) ({ cls := "java/lang/Object", name := "<init>", desc := "()V" } : Jvm.MethodName)) ∈ lw_all := lw_g (lw_at lw_m1 108 rfl) rfl
theorem q216 : (Jvm.Cond.fieldLink "BrambleLogic$Account" (7 : Nat) "BrambleLogic$Account" "come" "I") ∈ lw_all := lw_g (lw_at lw_m1 109 rfl) rfl
theorem q217 : (Jvm.Cond.fieldLink "BrambleLogic$Account" (13 : Nat) "BrambleLogic$Account" "gone" "I") ∈ lw_all := lw_g (lw_at lw_m1 110 rfl) rfl
theorem q218 : (Jvm.Cond.lays "BrambleLogic$Account" "BrambleLogic$Account" "come" "I") ∈ lw_all := lw_g (lw_at lw_m1 111 rfl) rfl
theorem q219 : (Jvm.Cond.soleField "BrambleLogic$Account" "come") ∈ lw_all := lw_g (lw_at lw_m1 112 rfl) rfl
theorem q220 : (Jvm.Cond.lays "BrambleLogic$Account" "BrambleLogic$Account" "gone" "I") ∈ lw_all := lw_g (lw_at lw_m1 113 rfl) rfl
theorem q221 : (Jvm.Cond.soleField "BrambleLogic$Account" "gone") ∈ lw_all := lw_g (lw_at lw_m1 114 rfl) rfl
theorem q222 : (Jvm.Cond.superclass "BrambleLogic$Account" "java/lang/Object") ∈ lw_all := lw_g (lw_at lw_m1 115 rfl) rfl
theorem q693 : (Jvm.Cond.selects "BrambleLogic$Account" ({ cls := "java/lang/Object", name := "getClass", desc := "()Ljava/lang/Class;" } : Jvm.MethodName) ({ cls := "java/lang/Object", name := "getClass", desc := "()Ljava/lang/Class;" } : Jvm.MethodName)) ∈ lw_all := lw_g (lw_at lw_m3 106 rfl) rfl
theorem q886 : (Jvm.Cond.instanceMethod ({ cls := "BrambleLogic$Account", name := "left", desc := "()I" } : Jvm.MethodName)) ∈ lw_all := lw_g (lw_at lw_m4 59 rfl) rfl
theorem q887 : (Jvm.Cond.selects "BrambleLogic$Account" ({ cls := "BrambleLogic$Account", name := "left", desc := "()I" } : Jvm.MethodName) ({ cls := "BrambleLogic$Account", name := "left", desc := "()I" } : Jvm.MethodName)) ∈ lw_all := lw_g (lw_at lw_m4 60 rfl) rfl
theorem q888 : (Jvm.Cond.codeSync ({ cls := "BrambleLogic$Account", name := "left", desc := "()I" } : Jvm.MethodName) prog_2_method_4_code (1 : Nat) (Option.some Jvm.ClassFile.FieldType.int)) ∈ lw_all := lw_g (lw_at lw_m4 61 rfl) rfl
theorem q1509 : (Jvm.Cond.instanceMethod ({ cls := "BrambleLogic$Account", name := "copy", desc := "(LBrambleLogic$Account;)V" } : Jvm.MethodName)) ∈ lw_all := lw_g (lw_at lw_m6 202 rfl) rfl
theorem q1510 : (Jvm.Cond.selects "BrambleLogic$Account" ({ cls := "BrambleLogic$Account", name := "copy", desc := "(LBrambleLogic$Account;)V" } : Jvm.MethodName) ({ cls := "BrambleLogic$Account", name := "copy", desc := "(LBrambleLogic$Account;)V" } : Jvm.MethodName)) ∈ lw_all := lw_g (lw_at lw_m6 203 rfl) rfl
theorem q1511 : (Jvm.Cond.codeSync ({ cls := "BrambleLogic$Account", name := "copy", desc := "(LBrambleLogic$Account;)V" } : Jvm.MethodName) prog_2_method_5_code (2 : Nat) (Option.none : Option Jvm.ClassFile.FieldType)) ∈ lw_all := lw_g (lw_at lw_m6 204 rfl) rfl
theorem q1572 : (Jvm.Cond.instanceMethod ({ cls := "BrambleLogic$Account", name := "come", desc := "()V" } : Jvm.MethodName)) ∈ lw_all := lw_g (lw_at lw_m7 25 rfl) rfl
theorem q1573 : (Jvm.Cond.selects "BrambleLogic$Account" ({ cls := "BrambleLogic$Account", name := "come", desc := "()V" } : Jvm.MethodName) ({ cls := "BrambleLogic$Account", name := "come", desc := "()V" } : Jvm.MethodName)) ∈ lw_all := lw_g (lw_at lw_m7 26 rfl) rfl
theorem q1574 : (Jvm.Cond.codeSync ({ cls := "BrambleLogic$Account", name := "come", desc := "()V" } : Jvm.MethodName) prog_2_method_2_code (1 : Nat) (Option.none : Option Jvm.ClassFile.FieldType)) ∈ lw_all := lw_g (lw_at lw_m7 27 rfl) rfl
theorem q1667 : (Jvm.Cond.instanceMethod ({ cls := "BrambleLogic$Account", name := "go", desc := "()V" } : Jvm.MethodName)) ∈ lw_all := lw_g (lw_at lw_m7 120 rfl) rfl
theorem q1668 : (Jvm.Cond.selects "BrambleLogic$Account" ({ cls := "BrambleLogic$Account", name := "go", desc := "()V" } : Jvm.MethodName) ({ cls := "BrambleLogic$Account", name := "go", desc := "()V" } : Jvm.MethodName)) ∈ lw_all := lw_g (lw_at lw_m7 121 rfl) rfl
theorem q1669 : (Jvm.Cond.codeSync ({ cls := "BrambleLogic$Account", name := "go", desc := "()V" } : Jvm.MethodName) prog_2_method_3_code (1 : Nat) (Option.none : Option Jvm.ClassFile.FieldType)) ∈ lw_all := lw_g (lw_at lw_m7 122 rfl) rfl
theorem q3368 : (Jvm.Cond.castable "BrambleLogic$Account" "java/lang/Object") ∈ lw_tbl := lw_at lw_m14 141 rfl
theorem in_X3 : ∀ w ∈ wsX30, w ∈ lw_all := lw_in wsX30 [218, 220] (by decide +kernel) (by decide +kernel)
/-! BrambleLogic$Facts -/
set_option maxRecDepth 100000
def RX4 : String := "BrambleLogic$Facts"
def TX4 : u_T := fun k => match k with
  | _ => ("BrambleLogic$Facts", "codes", "[LBrambleLogic$Codes;", true)
def tyX4 : Nat → FieldType := fun k => match k with
  | _ => .array (.object "BrambleLogic$Codes")
abbrev wsX40 : List Cond := u_ws RX4 TX4 1
theorem nmX4 : ∀ a, a < 1 → ∀ b, b < 1 → a ≠ b → (TX4 a).2.1 ≠ (TX4 b).2.1 := by decide +kernel
theorem tyX4_ok : ∀ k, k < 1 → parseFieldDescriptor (TX4 k).2.2.1 = some (tyX4 k) := by decide +kernel
abbrev cX4_init : ByteArray := prog_9_method_1_code
def yX4_init : MethodName := ⟨RX4, "<init>", "()V"⟩
def dkwX4_init_1 : List UInt8 := [180, 0, 11, 27, 187, 0, 9, 89, 183, 0, 17, 83, 132, 1, 1, 167, 255, 234, 177]
abbrev dktX4_init_1 : List UInt8 := dkwX4_init_1 ++ []
def dkwX4_init_0 : List UInt8 := [42, 183, 0, 3, 42, 16, 8, 189, 0, 9, 181, 0, 11, 3, 60, 27, 16, 8, 162, 0, 22, 42]
abbrev dktX4_init_0 : List UInt8 := dkwX4_init_0 ++ dktX4_init_1
theorem dksX4_init_0 : cX4_init.data.toList.drop 0 = dktX4_init_0 := by decide +kernel
theorem dksX4_init_1 : cX4_init.data.toList.drop 22 = dktX4_init_1 := dk_seg dksX4_init_0 22 rfl rfl
theorem dX4_init_0 : decode cX4_init 0 = .ok (.aload_n 0, 1) := dk_42 (dk_at dksX4_init_0 0 rfl rfl)
theorem dX4_init_1 : decode cX4_init 1 = .ok (.invokespecial 3, 3) := dk_183 0 3 (dk_at dksX4_init_0 1 rfl rfl)
theorem dX4_init_4 : decode cX4_init 4 = .ok (.aload_n 0, 1) := dk_42 (dk_at dksX4_init_0 4 rfl rfl)
theorem dX4_init_5 : decode cX4_init 5 = .ok (.bipush 8, 2) := dk_16 8 (dk_at dksX4_init_0 5 rfl rfl)
theorem dX4_init_7 : decode cX4_init 7 = .ok (.anewarray 9, 3) := dk_189 0 9 (dk_at dksX4_init_0 7 rfl rfl)
theorem dX4_init_10 : decode cX4_init 10 = .ok (.putfield 11, 3) := dk_181 0 11 (dk_at dksX4_init_0 10 rfl rfl)
theorem dX4_init_13 : decode cX4_init 13 = .ok (.iconst 0, 1) := dk_3 (dk_at dksX4_init_0 13 rfl rfl)
theorem dX4_init_14 : decode cX4_init 14 = .ok (.istore_n 1, 1) := dk_60 (dk_at dksX4_init_0 14 rfl rfl)
theorem dX4_init_15 : decode cX4_init 15 = .ok (.iload_n 1, 1) := dk_27 (dk_at dksX4_init_0 15 rfl rfl)
theorem dX4_init_16 : decode cX4_init 16 = .ok (.bipush 8, 2) := dk_16 8 (dk_at dksX4_init_0 16 rfl rfl)
theorem dX4_init_18 : decode cX4_init 18 = .ok (.if_icmp .ge 22, 3) := dk_162 0 22 (dk_at dksX4_init_0 18 rfl rfl)
theorem dX4_init_21 : decode cX4_init 21 = .ok (.aload_n 0, 1) := dk_42 (dk_at dksX4_init_0 21 rfl rfl)
theorem dX4_init_22 : decode cX4_init 22 = .ok (.getfield 11, 3) := dk_180 0 11 (dk_at dksX4_init_1 0 rfl rfl)
theorem dX4_init_25 : decode cX4_init 25 = .ok (.iload_n 1, 1) := dk_27 (dk_at dksX4_init_1 3 rfl rfl)
theorem dX4_init_26 : decode cX4_init 26 = .ok (.new 9, 3) := dk_187 0 9 (dk_at dksX4_init_1 4 rfl rfl)
theorem dX4_init_29 : decode cX4_init 29 = .ok (.dup, 1) := dk_89 (dk_at dksX4_init_1 7 rfl rfl)
theorem dX4_init_30 : decode cX4_init 30 = .ok (.invokespecial 17, 3) := dk_183 0 17 (dk_at dksX4_init_1 8 rfl rfl)
theorem dX4_init_33 : decode cX4_init 33 = .ok (.aastore, 1) := dk_83 (dk_at dksX4_init_1 11 rfl rfl)
theorem dX4_init_34 : decode cX4_init 34 = .ok (.iinc 1 1, 3) := dk_132 1 1 (dk_at dksX4_init_1 12 rfl rfl)
theorem dX4_init_37 : decode cX4_init 37 = .ok (.goto (-22), 3) := dk_167 255 234 (dk_at dksX4_init_1 15 rfl rfl)
theorem dX4_init_40 : decode cX4_init 40 = .ok (.return_, 1) := dk_177 (dk_at dksX4_init_1 18 rfl rfl)
abbrev cX4_count : ByteArray := prog_9_method_5_code
def yX4_count : MethodName := ⟨RX4, "count", "()I"⟩
def dkwX4_count_1 : List UInt8 := [58, 5, 27, 25, 5, 182, 0, 28, 96, 60, 132, 4, 1, 167, 255, 233, 27, 172]
abbrev dktX4_count_1 : List UInt8 := dkwX4_count_1 ++ []
def dkwX4_count_0 : List UInt8 := [3, 60, 42, 180, 0, 11, 77, 44, 190, 62, 3, 54, 4, 21, 4, 29, 162, 0, 23, 44, 21, 4, 50]
abbrev dktX4_count_0 : List UInt8 := dkwX4_count_0 ++ dktX4_count_1
theorem dksX4_count_0 : cX4_count.data.toList.drop 0 = dktX4_count_0 := by decide +kernel
theorem dksX4_count_1 : cX4_count.data.toList.drop 23 = dktX4_count_1 := dk_seg dksX4_count_0 23 rfl rfl
theorem dX4_count_0 : decode cX4_count 0 = .ok (.iconst 0, 1) := dk_3 (dk_at dksX4_count_0 0 rfl rfl)
theorem dX4_count_1 : decode cX4_count 1 = .ok (.istore_n 1, 1) := dk_60 (dk_at dksX4_count_0 1 rfl rfl)
theorem dX4_count_2 : decode cX4_count 2 = .ok (.aload_n 0, 1) := dk_42 (dk_at dksX4_count_0 2 rfl rfl)
theorem dX4_count_3 : decode cX4_count 3 = .ok (.getfield 11, 3) := dk_180 0 11 (dk_at dksX4_count_0 3 rfl rfl)
theorem dX4_count_6 : decode cX4_count 6 = .ok (.astore_n 2, 1) := dk_77 (dk_at dksX4_count_0 6 rfl rfl)
theorem dX4_count_7 : decode cX4_count 7 = .ok (.aload_n 2, 1) := dk_44 (dk_at dksX4_count_0 7 rfl rfl)
theorem dX4_count_8 : decode cX4_count 8 = .ok (.arraylength, 1) := dk_190 (dk_at dksX4_count_0 8 rfl rfl)
theorem dX4_count_9 : decode cX4_count 9 = .ok (.istore_n 3, 1) := dk_62 (dk_at dksX4_count_0 9 rfl rfl)
theorem dX4_count_10 : decode cX4_count 10 = .ok (.iconst 0, 1) := dk_3 (dk_at dksX4_count_0 10 rfl rfl)
theorem dX4_count_11 : decode cX4_count 11 = .ok (.istore 4, 2) := dk_54 4 (dk_at dksX4_count_0 11 rfl rfl)
theorem dX4_count_13 : decode cX4_count 13 = .ok (.iload 4, 2) := dk_21 4 (dk_at dksX4_count_0 13 rfl rfl)
theorem dX4_count_15 : decode cX4_count 15 = .ok (.iload_n 3, 1) := dk_29 (dk_at dksX4_count_0 15 rfl rfl)
theorem dX4_count_16 : decode cX4_count 16 = .ok (.if_icmp .ge 23, 3) := dk_162 0 23 (dk_at dksX4_count_0 16 rfl rfl)
theorem dX4_count_19 : decode cX4_count 19 = .ok (.aload_n 2, 1) := dk_44 (dk_at dksX4_count_0 19 rfl rfl)
theorem dX4_count_20 : decode cX4_count 20 = .ok (.iload 4, 2) := dk_21 4 (dk_at dksX4_count_0 20 rfl rfl)
theorem dX4_count_22 : decode cX4_count 22 = .ok (.aaload, 1) := dk_50 (dk_at dksX4_count_0 22 rfl rfl)
theorem dX4_count_23 : decode cX4_count 23 = .ok (.astore 5, 2) := dk_58 5 (dk_at dksX4_count_1 0 rfl rfl)
theorem dX4_count_25 : decode cX4_count 25 = .ok (.iload_n 1, 1) := dk_27 (dk_at dksX4_count_1 2 rfl rfl)
theorem dX4_count_26 : decode cX4_count 26 = .ok (.aload 5, 2) := dk_25 5 (dk_at dksX4_count_1 3 rfl rfl)
theorem dX4_count_28 : decode cX4_count 28 = .ok (.invokevirtual 28, 3) := dk_182 0 28 (dk_at dksX4_count_1 5 rfl rfl)
theorem dX4_count_31 : decode cX4_count 31 = .ok (.iadd, 1) := dk_96 (dk_at dksX4_count_1 8 rfl rfl)
theorem dX4_count_32 : decode cX4_count 32 = .ok (.istore_n 1, 1) := dk_60 (dk_at dksX4_count_1 9 rfl rfl)
theorem dX4_count_33 : decode cX4_count 33 = .ok (.iinc 4 1, 3) := dk_132 4 1 (dk_at dksX4_count_1 10 rfl rfl)
theorem dX4_count_36 : decode cX4_count 36 = .ok (.goto (-23), 3) := dk_167 255 233 (dk_at dksX4_count_1 13 rfl rfl)
theorem dX4_count_39 : decode cX4_count 39 = .ok (.iload_n 1, 1) := dk_27 (dk_at dksX4_count_1 16 rfl rfl)
theorem dX4_count_40 : decode cX4_count 40 = .ok (.ireturn, 1) := dk_172 (dk_at dksX4_count_1 17 rfl rfl)
abbrev cX4_init_2 : ByteArray := prog_9_method_2_code
def yX4_init_2 : MethodName := ⟨RX4, "<init>", "(LBrambleLogic$Facts;)V"⟩
def dkwX4_init_2_2 : List UInt8 := [177]
abbrev dktX4_init_2_2 : List UInt8 := dkwX4_init_2_2 ++ []
def dkwX4_init_2_1 : List UInt8 := [180, 0, 11, 28, 187, 0, 9, 89, 43, 180, 0, 11, 28, 50, 183, 0, 18, 83, 132, 2, 1, 167, 255, 228]
abbrev dktX4_init_2_1 : List UInt8 := dkwX4_init_2_1 ++ dktX4_init_2_2
def dkwX4_init_2_0 : List UInt8 := [42, 183, 0, 3, 42, 16, 8, 189, 0, 9, 181, 0, 11, 3, 61, 28, 16, 8, 162, 0, 28, 42]
abbrev dktX4_init_2_0 : List UInt8 := dkwX4_init_2_0 ++ dktX4_init_2_1
theorem dksX4_init_2_0 : cX4_init_2.data.toList.drop 0 = dktX4_init_2_0 := by decide +kernel
theorem dksX4_init_2_1 : cX4_init_2.data.toList.drop 22 = dktX4_init_2_1 := dk_seg dksX4_init_2_0 22 rfl rfl
theorem dksX4_init_2_2 : cX4_init_2.data.toList.drop 46 = dktX4_init_2_2 := dk_seg dksX4_init_2_1 24 rfl rfl
theorem dX4_init_2_0 : decode cX4_init_2 0 = .ok (.aload_n 0, 1) := dk_42 (dk_at dksX4_init_2_0 0 rfl rfl)
theorem dX4_init_2_1 : decode cX4_init_2 1 = .ok (.invokespecial 3, 3) := dk_183 0 3 (dk_at dksX4_init_2_0 1 rfl rfl)
theorem dX4_init_2_4 : decode cX4_init_2 4 = .ok (.aload_n 0, 1) := dk_42 (dk_at dksX4_init_2_0 4 rfl rfl)
theorem dX4_init_2_5 : decode cX4_init_2 5 = .ok (.bipush 8, 2) := dk_16 8 (dk_at dksX4_init_2_0 5 rfl rfl)
theorem dX4_init_2_7 : decode cX4_init_2 7 = .ok (.anewarray 9, 3) := dk_189 0 9 (dk_at dksX4_init_2_0 7 rfl rfl)
theorem dX4_init_2_10 : decode cX4_init_2 10 = .ok (.putfield 11, 3) := dk_181 0 11 (dk_at dksX4_init_2_0 10 rfl rfl)
theorem dX4_init_2_13 : decode cX4_init_2 13 = .ok (.iconst 0, 1) := dk_3 (dk_at dksX4_init_2_0 13 rfl rfl)
theorem dX4_init_2_14 : decode cX4_init_2 14 = .ok (.istore_n 2, 1) := dk_61 (dk_at dksX4_init_2_0 14 rfl rfl)
theorem dX4_init_2_15 : decode cX4_init_2 15 = .ok (.iload_n 2, 1) := dk_28 (dk_at dksX4_init_2_0 15 rfl rfl)
theorem dX4_init_2_16 : decode cX4_init_2 16 = .ok (.bipush 8, 2) := dk_16 8 (dk_at dksX4_init_2_0 16 rfl rfl)
theorem dX4_init_2_18 : decode cX4_init_2 18 = .ok (.if_icmp .ge 28, 3) := dk_162 0 28 (dk_at dksX4_init_2_0 18 rfl rfl)
theorem dX4_init_2_21 : decode cX4_init_2 21 = .ok (.aload_n 0, 1) := dk_42 (dk_at dksX4_init_2_0 21 rfl rfl)
theorem dX4_init_2_22 : decode cX4_init_2 22 = .ok (.getfield 11, 3) := dk_180 0 11 (dk_at dksX4_init_2_1 0 rfl rfl)
theorem dX4_init_2_25 : decode cX4_init_2 25 = .ok (.iload_n 2, 1) := dk_28 (dk_at dksX4_init_2_1 3 rfl rfl)
theorem dX4_init_2_26 : decode cX4_init_2 26 = .ok (.new 9, 3) := dk_187 0 9 (dk_at dksX4_init_2_1 4 rfl rfl)
theorem dX4_init_2_29 : decode cX4_init_2 29 = .ok (.dup, 1) := dk_89 (dk_at dksX4_init_2_1 7 rfl rfl)
theorem dX4_init_2_30 : decode cX4_init_2 30 = .ok (.aload_n 1, 1) := dk_43 (dk_at dksX4_init_2_1 8 rfl rfl)
theorem dX4_init_2_31 : decode cX4_init_2 31 = .ok (.getfield 11, 3) := dk_180 0 11 (dk_at dksX4_init_2_1 9 rfl rfl)
theorem dX4_init_2_34 : decode cX4_init_2 34 = .ok (.iload_n 2, 1) := dk_28 (dk_at dksX4_init_2_1 12 rfl rfl)
theorem dX4_init_2_35 : decode cX4_init_2 35 = .ok (.aaload, 1) := dk_50 (dk_at dksX4_init_2_1 13 rfl rfl)
theorem dX4_init_2_36 : decode cX4_init_2 36 = .ok (.invokespecial 18, 3) := dk_183 0 18 (dk_at dksX4_init_2_1 14 rfl rfl)
theorem dX4_init_2_39 : decode cX4_init_2 39 = .ok (.aastore, 1) := dk_83 (dk_at dksX4_init_2_1 17 rfl rfl)
theorem dX4_init_2_40 : decode cX4_init_2 40 = .ok (.iinc 2 1, 3) := dk_132 2 1 (dk_at dksX4_init_2_1 18 rfl rfl)
theorem dX4_init_2_43 : decode cX4_init_2 43 = .ok (.goto (-28), 3) := dk_167 255 228 (dk_at dksX4_init_2_1 21 rfl rfl)
theorem dX4_init_2_46 : decode cX4_init_2 46 = .ok (.return_, 1) := dk_177 (dk_at dksX4_init_2_2 0 rfl rfl)
abbrev cX4_has : ByteArray := prog_9_method_3_code
def yX4_has : MethodName := ⟨RX4, "has", "(II)Z"⟩
def dkwX4_has_0 : List UInt8 := [42, 180, 0, 11, 27, 50, 28, 182, 0, 21, 172]
abbrev dktX4_has_0 : List UInt8 := dkwX4_has_0 ++ []
theorem dksX4_has_0 : cX4_has.data.toList.drop 0 = dktX4_has_0 := by decide +kernel
theorem dX4_has_0 : decode cX4_has 0 = .ok (.aload_n 0, 1) := dk_42 (dk_at dksX4_has_0 0 rfl rfl)
theorem dX4_has_1 : decode cX4_has 1 = .ok (.getfield 11, 3) := dk_180 0 11 (dk_at dksX4_has_0 1 rfl rfl)
theorem dX4_has_4 : decode cX4_has 4 = .ok (.iload_n 1, 1) := dk_27 (dk_at dksX4_has_0 4 rfl rfl)
theorem dX4_has_5 : decode cX4_has 5 = .ok (.aaload, 1) := dk_50 (dk_at dksX4_has_0 5 rfl rfl)
theorem dX4_has_6 : decode cX4_has 6 = .ok (.iload_n 2, 1) := dk_28 (dk_at dksX4_has_0 6 rfl rfl)
theorem dX4_has_7 : decode cX4_has 7 = .ok (.invokevirtual 21, 3) := dk_182 0 21 (dk_at dksX4_has_0 7 rfl rfl)
theorem dX4_has_10 : decode cX4_has 10 = .ok (.ireturn, 1) := dk_172 (dk_at dksX4_has_0 10 rfl rfl)
abbrev cX4_add : ByteArray := prog_9_method_4_code
def yX4_add : MethodName := ⟨RX4, "add", "(II)Z"⟩
def dkwX4_add_0 : List UInt8 := [42, 180, 0, 11, 27, 50, 28, 182, 0, 25, 172]
abbrev dktX4_add_0 : List UInt8 := dkwX4_add_0 ++ []
theorem dksX4_add_0 : cX4_add.data.toList.drop 0 = dktX4_add_0 := by decide +kernel
theorem dX4_add_0 : decode cX4_add 0 = .ok (.aload_n 0, 1) := dk_42 (dk_at dksX4_add_0 0 rfl rfl)
theorem dX4_add_1 : decode cX4_add 1 = .ok (.getfield 11, 3) := dk_180 0 11 (dk_at dksX4_add_0 1 rfl rfl)
theorem dX4_add_4 : decode cX4_add 4 = .ok (.iload_n 1, 1) := dk_27 (dk_at dksX4_add_0 4 rfl rfl)
theorem dX4_add_5 : decode cX4_add 5 = .ok (.aaload, 1) := dk_50 (dk_at dksX4_add_0 5 rfl rfl)
theorem dX4_add_6 : decode cX4_add 6 = .ok (.iload_n 2, 1) := dk_28 (dk_at dksX4_add_0 6 rfl rfl)
theorem dX4_add_7 : decode cX4_add 7 = .ok (.invokevirtual 25, 3) := dk_182 0 25 (dk_at dksX4_add_0 7 rfl rfl)
theorem dX4_add_10 : decode cX4_add 10 = .ok (.ireturn, 1) := dk_172 (dk_at dksX4_add_0 10 rfl rfl)
abbrev cX4_countWithout : ByteArray := prog_9_method_6_code
def yX4_countWithout : MethodName := ⟨RX4, "countWithout", "(LBrambleLogic$Facts;)I"⟩
def dkwX4_countWithout_2 : List UInt8 := [61, 132, 4, 1, 167, 255, 218, 132, 3, 1, 167, 255, 203, 28, 172]
abbrev dktX4_countWithout_2 : List UInt8 := dkwX4_countWithout_2 ++ []
def dkwX4_countWithout_1 : List UInt8 := [21, 4, 182, 0, 32, 153, 0, 17, 43, 29, 21, 4, 182, 0, 32, 154, 0, 7, 4, 167, 0, 4, 3, 96]
abbrev dktX4_countWithout_1 : List UInt8 := dkwX4_countWithout_1 ++ dktX4_countWithout_2
def dkwX4_countWithout_0 : List UInt8 := [3, 61, 3, 62, 29, 16, 8, 162, 0, 53, 3, 54, 4, 21, 4, 16, 100, 162, 0, 37, 28, 42, 29]
abbrev dktX4_countWithout_0 : List UInt8 := dkwX4_countWithout_0 ++ dktX4_countWithout_1
theorem dksX4_countWithout_0 : cX4_countWithout.data.toList.drop 0 = dktX4_countWithout_0 := by decide +kernel
theorem dksX4_countWithout_1 : cX4_countWithout.data.toList.drop 23 = dktX4_countWithout_1 := dk_seg dksX4_countWithout_0 23 rfl rfl
theorem dksX4_countWithout_2 : cX4_countWithout.data.toList.drop 47 = dktX4_countWithout_2 := dk_seg dksX4_countWithout_1 24 rfl rfl
theorem dX4_countWithout_0 : decode cX4_countWithout 0 = .ok (.iconst 0, 1) := dk_3 (dk_at dksX4_countWithout_0 0 rfl rfl)
theorem dX4_countWithout_1 : decode cX4_countWithout 1 = .ok (.istore_n 2, 1) := dk_61 (dk_at dksX4_countWithout_0 1 rfl rfl)
theorem dX4_countWithout_2 : decode cX4_countWithout 2 = .ok (.iconst 0, 1) := dk_3 (dk_at dksX4_countWithout_0 2 rfl rfl)
theorem dX4_countWithout_3 : decode cX4_countWithout 3 = .ok (.istore_n 3, 1) := dk_62 (dk_at dksX4_countWithout_0 3 rfl rfl)
theorem dX4_countWithout_4 : decode cX4_countWithout 4 = .ok (.iload_n 3, 1) := dk_29 (dk_at dksX4_countWithout_0 4 rfl rfl)
theorem dX4_countWithout_5 : decode cX4_countWithout 5 = .ok (.bipush 8, 2) := dk_16 8 (dk_at dksX4_countWithout_0 5 rfl rfl)
theorem dX4_countWithout_7 : decode cX4_countWithout 7 = .ok (.if_icmp .ge 53, 3) := dk_162 0 53 (dk_at dksX4_countWithout_0 7 rfl rfl)
theorem dX4_countWithout_10 : decode cX4_countWithout 10 = .ok (.iconst 0, 1) := dk_3 (dk_at dksX4_countWithout_0 10 rfl rfl)
theorem dX4_countWithout_11 : decode cX4_countWithout 11 = .ok (.istore 4, 2) := dk_54 4 (dk_at dksX4_countWithout_0 11 rfl rfl)
theorem dX4_countWithout_13 : decode cX4_countWithout 13 = .ok (.iload 4, 2) := dk_21 4 (dk_at dksX4_countWithout_0 13 rfl rfl)
theorem dX4_countWithout_15 : decode cX4_countWithout 15 = .ok (.bipush 100, 2) := dk_16 100 (dk_at dksX4_countWithout_0 15 rfl rfl)
theorem dX4_countWithout_17 : decode cX4_countWithout 17 = .ok (.if_icmp .ge 37, 3) := dk_162 0 37 (dk_at dksX4_countWithout_0 17 rfl rfl)
theorem dX4_countWithout_20 : decode cX4_countWithout 20 = .ok (.iload_n 2, 1) := dk_28 (dk_at dksX4_countWithout_0 20 rfl rfl)
theorem dX4_countWithout_21 : decode cX4_countWithout 21 = .ok (.aload_n 0, 1) := dk_42 (dk_at dksX4_countWithout_0 21 rfl rfl)
theorem dX4_countWithout_22 : decode cX4_countWithout 22 = .ok (.iload_n 3, 1) := dk_29 (dk_at dksX4_countWithout_0 22 rfl rfl)
theorem dX4_countWithout_23 : decode cX4_countWithout 23 = .ok (.iload 4, 2) := dk_21 4 (dk_at dksX4_countWithout_1 0 rfl rfl)
theorem dX4_countWithout_25 : decode cX4_countWithout 25 = .ok (.invokevirtual 32, 3) := dk_182 0 32 (dk_at dksX4_countWithout_1 2 rfl rfl)
theorem dX4_countWithout_28 : decode cX4_countWithout 28 = .ok (.ifCond .eq 17, 3) := dk_153 0 17 (dk_at dksX4_countWithout_1 5 rfl rfl)
theorem dX4_countWithout_31 : decode cX4_countWithout 31 = .ok (.aload_n 1, 1) := dk_43 (dk_at dksX4_countWithout_1 8 rfl rfl)
theorem dX4_countWithout_32 : decode cX4_countWithout 32 = .ok (.iload_n 3, 1) := dk_29 (dk_at dksX4_countWithout_1 9 rfl rfl)
theorem dX4_countWithout_33 : decode cX4_countWithout 33 = .ok (.iload 4, 2) := dk_21 4 (dk_at dksX4_countWithout_1 10 rfl rfl)
theorem dX4_countWithout_35 : decode cX4_countWithout 35 = .ok (.invokevirtual 32, 3) := dk_182 0 32 (dk_at dksX4_countWithout_1 12 rfl rfl)
theorem dX4_countWithout_38 : decode cX4_countWithout 38 = .ok (.ifCond .ne 7, 3) := dk_154 0 7 (dk_at dksX4_countWithout_1 15 rfl rfl)
theorem dX4_countWithout_41 : decode cX4_countWithout 41 = .ok (.iconst 1, 1) := dk_4 (dk_at dksX4_countWithout_1 18 rfl rfl)
theorem dX4_countWithout_42 : decode cX4_countWithout 42 = .ok (.goto 4, 3) := dk_167 0 4 (dk_at dksX4_countWithout_1 19 rfl rfl)
theorem dX4_countWithout_45 : decode cX4_countWithout 45 = .ok (.iconst 0, 1) := dk_3 (dk_at dksX4_countWithout_1 22 rfl rfl)
theorem dX4_countWithout_46 : decode cX4_countWithout 46 = .ok (.iadd, 1) := dk_96 (dk_at dksX4_countWithout_1 23 rfl rfl)
theorem dX4_countWithout_47 : decode cX4_countWithout 47 = .ok (.istore_n 2, 1) := dk_61 (dk_at dksX4_countWithout_2 0 rfl rfl)
theorem dX4_countWithout_48 : decode cX4_countWithout 48 = .ok (.iinc 4 1, 3) := dk_132 4 1 (dk_at dksX4_countWithout_2 1 rfl rfl)
theorem dX4_countWithout_51 : decode cX4_countWithout 51 = .ok (.goto (-38), 3) := dk_167 255 218 (dk_at dksX4_countWithout_2 4 rfl rfl)
theorem dX4_countWithout_54 : decode cX4_countWithout 54 = .ok (.iinc 3 1, 3) := dk_132 3 1 (dk_at dksX4_countWithout_2 7 rfl rfl)
theorem dX4_countWithout_57 : decode cX4_countWithout 57 = .ok (.goto (-53), 3) := dk_167 255 203 (dk_at dksX4_countWithout_2 10 rfl rfl)
theorem dX4_countWithout_60 : decode cX4_countWithout 60 = .ok (.iload_n 2, 1) := dk_28 (dk_at dksX4_countWithout_2 13 rfl rfl)
theorem dX4_countWithout_61 : decode cX4_countWithout 61 = .ok (.ireturn, 1) := dk_172 (dk_at dksX4_countWithout_2 14 rfl rfl)
theorem q114 : (Jvm.Cond.initialized "BrambleLogic$Facts") ∈ lw_all := lw_g (lw_at lw_m1 7 rfl) rfl
theorem q224 : (Jvm.Cond.instantiable "BrambleLogic$Facts" (1 : Nat)) ∈ lw_all := lw_g (lw_at lw_m1 117 rfl) rfl
theorem q226 : (Jvm.Cond.instanceMethod ({ cls := "BrambleLogic$Facts", name := "<init>", desc := "()V" } : Jvm.MethodName)) ∈ lw_all := lw_g (lw_at lw_m1 119 rfl) rfl
theorem q227 : (Jvm.Cond.code ({ cls := "BrambleLogic$Facts", name := "<init>", desc := "()V" } : Jvm.MethodName) prog_9_method_1_code (2 : Nat) (Option.none : Option Jvm.ClassFile.FieldType)) ∈ lw_all := lw_g (lw_at lw_m1 120 rfl) rfl
theorem q228 : (Jvm.Cond.methodLink "BrambleLogic$Facts" (3 : Nat) ({ cls := "java/lang/Object", name := "<init>", desc := "()V" } : Jvm.MethodName)) ∈ lw_all := lw_g (lw_at lw_m1 121 rfl) rfl
theorem q229 : (Jvm.Cond.classLink "BrambleLogic$Facts" (9 : Nat) "BrambleLogic$Codes") ∈ lw_all := lw_g (lw_at lw_m1 122 rfl) rfl
theorem q232 : (Jvm.Cond.methodLink "BrambleLogic$Facts" (17 : Nat) ({ cls := "BrambleLogic$Codes", name := "<init>", desc := "()V" } : Jvm.MethodName)) ∈ lw_all := lw_g (lw_at lw_m1 125 rfl) rfl
theorem q241 : (Jvm.Cond.fieldLink "BrambleLogic$Facts" (11 : Nat) "BrambleLogic$Facts" "codes" "[LBrambleLogic$Codes;") ∈ lw_all := lw_g (lw_at lw_m1 134 rfl) rfl
theorem q245 : (Jvm.Cond.laysFinal "BrambleLogic$Facts" "BrambleLogic$Facts" "codes" "[LBrambleLogic$Codes;") ∈ lw_all := lw_g (lw_at lw_m1 138 rfl) rfl
theorem q246 : (Jvm.Cond.soleField "BrambleLogic$Facts" "codes") ∈ lw_all := lw_g (lw_at lw_m1 139 rfl) rfl
theorem q247 : (Jvm.Cond.superclass "BrambleLogic$Facts" "java/lang/Object") ∈ lw_all := lw_g (lw_at lw_m1 140 rfl) rfl
theorem q351 : (Jvm.Cond.instanceMethod ({ cls := "BrambleLogic$Facts", name := "count", desc := "()I" } : Jvm.MethodName)) ∈ lw_all := lw_g (lw_at lw_m2 4 rfl) rfl
theorem q352 : (Jvm.Cond.selects "BrambleLogic$Facts" ({ cls := "BrambleLogic$Facts", name := "count", desc := "()I" } : Jvm.MethodName) ({ cls := "BrambleLogic$Facts", name := "count", desc := "()I" } : Jvm.MethodName)) ∈ lw_all := lw_g (lw_at lw_m2 5 rfl) rfl
theorem q353 : (Jvm.Cond.code ({ cls := "BrambleLogic$Facts", name := "count", desc := "()I" } : Jvm.MethodName) prog_9_method_5_code (6 : Nat) (Option.some Jvm.ClassFile.FieldType.int)) ∈ lw_all := lw_g (lw_at lw_m2 6 rfl) rfl
theorem q354 : (Jvm.Cond.methodLink "BrambleLogic$Facts" (28 : Nat) ({ cls := "BrambleLogic$Codes", name := "count", desc := "()I" } : Jvm.MethodName)) ∈ lw_all := lw_g (lw_at lw_m2 7 rfl) rfl
theorem q623 : (Jvm.Cond.instanceMethod ({ cls := "BrambleLogic$Facts", name := "<init>", desc := "(LBrambleLogic$Facts;)V" } : Jvm.MethodName)) ∈ lw_all := lw_g (lw_at lw_m3 36 rfl) rfl
theorem q624 : (Jvm.Cond.code ({ cls := "BrambleLogic$Facts", name := "<init>", desc := "(LBrambleLogic$Facts;)V" } : Jvm.MethodName) prog_9_method_2_code (3 : Nat) (Option.none : Option Jvm.ClassFile.FieldType)) ∈ lw_all := lw_g (lw_at lw_m3 37 rfl) rfl
theorem q625 : (Jvm.Cond.methodLink "BrambleLogic$Facts" (18 : Nat) ({ cls := "BrambleLogic$Codes", name := "<init>", desc := "(LBrambleLogic$Codes;)V" } : Jvm.MethodName)) ∈ lw_all := lw_g (lw_at lw_m3 38 rfl) rfl
theorem q700 : (Jvm.Cond.selects "BrambleLogic$Facts" ({ cls := "java/lang/Object", name := "getClass", desc := "()Ljava/lang/Class;" } : Jvm.MethodName) ({ cls := "java/lang/Object", name := "getClass", desc := "()Ljava/lang/Class;" } : Jvm.MethodName)) ∈ lw_all := lw_g (lw_at lw_m3 113 rfl) rfl
theorem q814 : (Jvm.Cond.instanceMethod ({ cls := "BrambleLogic$Facts", name := "has", desc := "(II)Z" } : Jvm.MethodName)) ∈ lw_all := lw_g (lw_at lw_m3 227 rfl) rfl
theorem q815 : (Jvm.Cond.selects "BrambleLogic$Facts" ({ cls := "BrambleLogic$Facts", name := "has", desc := "(II)Z" } : Jvm.MethodName) ({ cls := "BrambleLogic$Facts", name := "has", desc := "(II)Z" } : Jvm.MethodName)) ∈ lw_all := lw_g (lw_at lw_m3 228 rfl) rfl
theorem q816 : (Jvm.Cond.code ({ cls := "BrambleLogic$Facts", name := "has", desc := "(II)Z" } : Jvm.MethodName) prog_9_method_3_code (3 : Nat) (Option.some Jvm.ClassFile.FieldType.boolean)) ∈ lw_all := lw_g (lw_at lw_m3 229 rfl) rfl
theorem q817 : (Jvm.Cond.methodLink "BrambleLogic$Facts" (21 : Nat) ({ cls := "BrambleLogic$Codes", name := "has", desc := "(I)Z" } : Jvm.MethodName)) ∈ lw_all := lw_g (lw_at lw_m3 230 rfl) rfl
theorem q834 : (Jvm.Cond.instanceMethod ({ cls := "BrambleLogic$Facts", name := "add", desc := "(II)Z" } : Jvm.MethodName)) ∈ lw_all := lw_g (lw_at lw_m4 7 rfl) rfl
theorem q835 : (Jvm.Cond.selects "BrambleLogic$Facts" ({ cls := "BrambleLogic$Facts", name := "add", desc := "(II)Z" } : Jvm.MethodName) ({ cls := "BrambleLogic$Facts", name := "add", desc := "(II)Z" } : Jvm.MethodName)) ∈ lw_all := lw_g (lw_at lw_m4 8 rfl) rfl
theorem q836 : (Jvm.Cond.code ({ cls := "BrambleLogic$Facts", name := "add", desc := "(II)Z" } : Jvm.MethodName) prog_9_method_4_code (3 : Nat) (Option.some Jvm.ClassFile.FieldType.boolean)) ∈ lw_all := lw_g (lw_at lw_m4 9 rfl) rfl
theorem q837 : (Jvm.Cond.methodLink "BrambleLogic$Facts" (25 : Nat) ({ cls := "BrambleLogic$Codes", name := "add", desc := "(I)Z" } : Jvm.MethodName)) ∈ lw_all := lw_g (lw_at lw_m4 10 rfl) rfl
theorem q986 : (Jvm.Cond.instanceMethod ({ cls := "BrambleLogic$Facts", name := "countWithout", desc := "(LBrambleLogic$Facts;)I" } : Jvm.MethodName)) ∈ lw_all := lw_g (lw_at lw_m4 159 rfl) rfl
theorem q987 : (Jvm.Cond.selects "BrambleLogic$Facts" ({ cls := "BrambleLogic$Facts", name := "countWithout", desc := "(LBrambleLogic$Facts;)I" } : Jvm.MethodName) ({ cls := "BrambleLogic$Facts", name := "countWithout", desc := "(LBrambleLogic$Facts;)I" } : Jvm.MethodName)) ∈ lw_all := lw_g (lw_at lw_m4 160 rfl) rfl
theorem q988 : (Jvm.Cond.code ({ cls := "BrambleLogic$Facts", name := "countWithout", desc := "(LBrambleLogic$Facts;)I" } : Jvm.MethodName) prog_9_method_6_code (5 : Nat) (Option.some Jvm.ClassFile.FieldType.int)) ∈ lw_all := lw_g (lw_at lw_m4 161 rfl) rfl
theorem q989 : (Jvm.Cond.methodLink "BrambleLogic$Facts" (32 : Nat) ({ cls := "BrambleLogic$Facts", name := "has", desc := "(II)Z" } : Jvm.MethodName)) ∈ lw_all := lw_g (lw_at lw_m4 162 rfl) rfl
theorem q3369 : (Jvm.Cond.castable "BrambleLogic$Facts" "java/lang/Object") ∈ lw_tbl := lw_at lw_m14 142 rfl
theorem in_X4 : ∀ w ∈ wsX40, w ∈ lw_all := lw_in wsX40 [245] (by decide +kernel) (by decide +kernel)
/-! BrambleLogic$Codes -/
set_option maxRecDepth 100000
def RX5 : String := "BrambleLogic$Codes"
def TX5 : u_T := fun k => match k with
  | _ => ("BrambleLogic$Codes", "words", "[I", true)
def tyX5 : Nat → FieldType := fun k => match k with
  | _ => .array .int
abbrev wsX50 : List Cond := u_ws RX5 TX5 1
theorem nmX5 : ∀ a, a < 1 → ∀ b, b < 1 → a ≠ b → (TX5 a).2.1 ≠ (TX5 b).2.1 := by decide +kernel
theorem tyX5_ok : ∀ k, k < 1 → parseFieldDescriptor (TX5 k).2.2.1 = some (tyX5 k) := by decide +kernel
abbrev cX5_init : ByteArray := prog_6_method_1_code
def yX5_init : MethodName := ⟨RX5, "<init>", "()V"⟩
def dkwX5_init_0 : List UInt8 := [42, 183, 0, 1, 42, 7, 188, 10, 181, 0, 7, 177]
abbrev dktX5_init_0 : List UInt8 := dkwX5_init_0 ++ []
theorem dksX5_init_0 : cX5_init.data.toList.drop 0 = dktX5_init_0 := by decide +kernel
theorem dX5_init_0 : decode cX5_init 0 = .ok (.aload_n 0, 1) := dk_42 (dk_at dksX5_init_0 0 rfl rfl)
theorem dX5_init_1 : decode cX5_init 1 = .ok (.invokespecial 1, 3) := dk_183 0 1 (dk_at dksX5_init_0 1 rfl rfl)
theorem dX5_init_4 : decode cX5_init 4 = .ok (.aload_n 0, 1) := dk_42 (dk_at dksX5_init_0 4 rfl rfl)
theorem dX5_init_5 : decode cX5_init 5 = .ok (.iconst 4, 1) := dk_7 (dk_at dksX5_init_0 5 rfl rfl)
theorem dX5_init_6 : decode cX5_init 6 = .ok (.newarray .int, 2) := dk_188_10 (dk_at dksX5_init_0 6 rfl rfl)
theorem dX5_init_8 : decode cX5_init 8 = .ok (.putfield 7, 3) := dk_181 0 7 (dk_at dksX5_init_0 8 rfl rfl)
theorem dX5_init_11 : decode cX5_init 11 = .ok (.return_, 1) := dk_177 (dk_at dksX5_init_0 11 rfl rfl)
abbrev cX5_count : ByteArray := prog_6_method_6_code
def yX5_count : MethodName := ⟨RX5, "count", "()I"⟩
def dkwX5_count_1 : List UInt8 := [54, 5, 27, 21, 5, 184, 0, 22, 96, 60, 132, 4, 1, 167, 255, 233, 27, 172]
abbrev dktX5_count_1 : List UInt8 := dkwX5_count_1 ++ []
def dkwX5_count_0 : List UInt8 := [3, 60, 42, 180, 0, 7, 77, 44, 190, 62, 3, 54, 4, 21, 4, 29, 162, 0, 23, 44, 21, 4, 46]
abbrev dktX5_count_0 : List UInt8 := dkwX5_count_0 ++ dktX5_count_1
theorem dksX5_count_0 : cX5_count.data.toList.drop 0 = dktX5_count_0 := by decide +kernel
theorem dksX5_count_1 : cX5_count.data.toList.drop 23 = dktX5_count_1 := dk_seg dksX5_count_0 23 rfl rfl
theorem dX5_count_0 : decode cX5_count 0 = .ok (.iconst 0, 1) := dk_3 (dk_at dksX5_count_0 0 rfl rfl)
theorem dX5_count_1 : decode cX5_count 1 = .ok (.istore_n 1, 1) := dk_60 (dk_at dksX5_count_0 1 rfl rfl)
theorem dX5_count_2 : decode cX5_count 2 = .ok (.aload_n 0, 1) := dk_42 (dk_at dksX5_count_0 2 rfl rfl)
theorem dX5_count_3 : decode cX5_count 3 = .ok (.getfield 7, 3) := dk_180 0 7 (dk_at dksX5_count_0 3 rfl rfl)
theorem dX5_count_6 : decode cX5_count 6 = .ok (.astore_n 2, 1) := dk_77 (dk_at dksX5_count_0 6 rfl rfl)
theorem dX5_count_7 : decode cX5_count 7 = .ok (.aload_n 2, 1) := dk_44 (dk_at dksX5_count_0 7 rfl rfl)
theorem dX5_count_8 : decode cX5_count 8 = .ok (.arraylength, 1) := dk_190 (dk_at dksX5_count_0 8 rfl rfl)
theorem dX5_count_9 : decode cX5_count 9 = .ok (.istore_n 3, 1) := dk_62 (dk_at dksX5_count_0 9 rfl rfl)
theorem dX5_count_10 : decode cX5_count 10 = .ok (.iconst 0, 1) := dk_3 (dk_at dksX5_count_0 10 rfl rfl)
theorem dX5_count_11 : decode cX5_count 11 = .ok (.istore 4, 2) := dk_54 4 (dk_at dksX5_count_0 11 rfl rfl)
theorem dX5_count_13 : decode cX5_count 13 = .ok (.iload 4, 2) := dk_21 4 (dk_at dksX5_count_0 13 rfl rfl)
theorem dX5_count_15 : decode cX5_count 15 = .ok (.iload_n 3, 1) := dk_29 (dk_at dksX5_count_0 15 rfl rfl)
theorem dX5_count_16 : decode cX5_count 16 = .ok (.if_icmp .ge 23, 3) := dk_162 0 23 (dk_at dksX5_count_0 16 rfl rfl)
theorem dX5_count_19 : decode cX5_count 19 = .ok (.aload_n 2, 1) := dk_44 (dk_at dksX5_count_0 19 rfl rfl)
theorem dX5_count_20 : decode cX5_count 20 = .ok (.iload 4, 2) := dk_21 4 (dk_at dksX5_count_0 20 rfl rfl)
theorem dX5_count_22 : decode cX5_count 22 = .ok (.iaload, 1) := dk_46 (dk_at dksX5_count_0 22 rfl rfl)
theorem dX5_count_23 : decode cX5_count 23 = .ok (.istore 5, 2) := dk_54 5 (dk_at dksX5_count_1 0 rfl rfl)
theorem dX5_count_25 : decode cX5_count 25 = .ok (.iload_n 1, 1) := dk_27 (dk_at dksX5_count_1 2 rfl rfl)
theorem dX5_count_26 : decode cX5_count 26 = .ok (.iload 5, 2) := dk_21 5 (dk_at dksX5_count_1 3 rfl rfl)
theorem dX5_count_28 : decode cX5_count 28 = .ok (.invokestatic 22, 3) := dk_184 0 22 (dk_at dksX5_count_1 5 rfl rfl)
theorem dX5_count_31 : decode cX5_count 31 = .ok (.iadd, 1) := dk_96 (dk_at dksX5_count_1 8 rfl rfl)
theorem dX5_count_32 : decode cX5_count 32 = .ok (.istore_n 1, 1) := dk_60 (dk_at dksX5_count_1 9 rfl rfl)
theorem dX5_count_33 : decode cX5_count 33 = .ok (.iinc 4 1, 3) := dk_132 4 1 (dk_at dksX5_count_1 10 rfl rfl)
theorem dX5_count_36 : decode cX5_count 36 = .ok (.goto (-23), 3) := dk_167 255 233 (dk_at dksX5_count_1 13 rfl rfl)
theorem dX5_count_39 : decode cX5_count 39 = .ok (.iload_n 1, 1) := dk_27 (dk_at dksX5_count_1 16 rfl rfl)
theorem dX5_count_40 : decode cX5_count 40 = .ok (.ireturn, 1) := dk_172 (dk_at dksX5_count_1 17 rfl rfl)
abbrev cX5_init_2 : ByteArray := prog_6_method_2_code
def yX5_init_2 : MethodName := ⟨RX5, "<init>", "(LBrambleLogic$Codes;)V"⟩
def dkwX5_init_2_0 : List UInt8 := [42, 183, 0, 1, 42, 43, 180, 0, 7, 182, 0, 13, 192, 0, 14, 181, 0, 7, 177]
abbrev dktX5_init_2_0 : List UInt8 := dkwX5_init_2_0 ++ []
theorem dksX5_init_2_0 : cX5_init_2.data.toList.drop 0 = dktX5_init_2_0 := by decide +kernel
theorem dX5_init_2_0 : decode cX5_init_2 0 = .ok (.aload_n 0, 1) := dk_42 (dk_at dksX5_init_2_0 0 rfl rfl)
theorem dX5_init_2_1 : decode cX5_init_2 1 = .ok (.invokespecial 1, 3) := dk_183 0 1 (dk_at dksX5_init_2_0 1 rfl rfl)
theorem dX5_init_2_4 : decode cX5_init_2 4 = .ok (.aload_n 0, 1) := dk_42 (dk_at dksX5_init_2_0 4 rfl rfl)
theorem dX5_init_2_5 : decode cX5_init_2 5 = .ok (.aload_n 1, 1) := dk_43 (dk_at dksX5_init_2_0 5 rfl rfl)
theorem dX5_init_2_6 : decode cX5_init_2 6 = .ok (.getfield 7, 3) := dk_180 0 7 (dk_at dksX5_init_2_0 6 rfl rfl)
theorem dX5_init_2_9 : decode cX5_init_2 9 = .ok (.invokevirtual 13, 3) := dk_182 0 13 (dk_at dksX5_init_2_0 9 rfl rfl)
theorem dX5_init_2_12 : decode cX5_init_2 12 = .ok (.checkcast 14, 3) := dk_192 0 14 (dk_at dksX5_init_2_0 12 rfl rfl)
theorem dX5_init_2_15 : decode cX5_init_2 15 = .ok (.putfield 7, 3) := dk_181 0 7 (dk_at dksX5_init_2_0 15 rfl rfl)
theorem dX5_init_2_18 : decode cX5_init_2 18 = .ok (.return_, 1) := dk_177 (dk_at dksX5_init_2_0 18 rfl rfl)
abbrev cX5_has : ByteArray := prog_6_method_3_code
def yX5_has : MethodName := ⟨RX5, "has", "(I)Z"⟩
def dkwX5_has_1 : List UInt8 := [3, 172]
abbrev dktX5_has_1 : List UInt8 := dkwX5_has_1 ++ []
def dkwX5_has_0 : List UInt8 := [42, 180, 0, 7, 27, 16, 32, 108, 46, 27, 16, 32, 112, 122, 4, 126, 4, 160, 0, 7, 4, 167, 0, 4]
abbrev dktX5_has_0 : List UInt8 := dkwX5_has_0 ++ dktX5_has_1
theorem dksX5_has_0 : cX5_has.data.toList.drop 0 = dktX5_has_0 := by decide +kernel
theorem dksX5_has_1 : cX5_has.data.toList.drop 24 = dktX5_has_1 := dk_seg dksX5_has_0 24 rfl rfl
theorem dX5_has_0 : decode cX5_has 0 = .ok (.aload_n 0, 1) := dk_42 (dk_at dksX5_has_0 0 rfl rfl)
theorem dX5_has_1 : decode cX5_has 1 = .ok (.getfield 7, 3) := dk_180 0 7 (dk_at dksX5_has_0 1 rfl rfl)
theorem dX5_has_4 : decode cX5_has 4 = .ok (.iload_n 1, 1) := dk_27 (dk_at dksX5_has_0 4 rfl rfl)
theorem dX5_has_5 : decode cX5_has 5 = .ok (.bipush 32, 2) := dk_16 32 (dk_at dksX5_has_0 5 rfl rfl)
theorem dX5_has_7 : decode cX5_has 7 = .ok (.idiv, 1) := dk_108 (dk_at dksX5_has_0 7 rfl rfl)
theorem dX5_has_8 : decode cX5_has 8 = .ok (.iaload, 1) := dk_46 (dk_at dksX5_has_0 8 rfl rfl)
theorem dX5_has_9 : decode cX5_has 9 = .ok (.iload_n 1, 1) := dk_27 (dk_at dksX5_has_0 9 rfl rfl)
theorem dX5_has_10 : decode cX5_has 10 = .ok (.bipush 32, 2) := dk_16 32 (dk_at dksX5_has_0 10 rfl rfl)
theorem dX5_has_12 : decode cX5_has 12 = .ok (.irem, 1) := dk_112 (dk_at dksX5_has_0 12 rfl rfl)
theorem dX5_has_13 : decode cX5_has 13 = .ok (.ishr, 1) := dk_122 (dk_at dksX5_has_0 13 rfl rfl)
theorem dX5_has_14 : decode cX5_has 14 = .ok (.iconst 1, 1) := dk_4 (dk_at dksX5_has_0 14 rfl rfl)
theorem dX5_has_15 : decode cX5_has 15 = .ok (.iand, 1) := dk_126 (dk_at dksX5_has_0 15 rfl rfl)
theorem dX5_has_16 : decode cX5_has 16 = .ok (.iconst 1, 1) := dk_4 (dk_at dksX5_has_0 16 rfl rfl)
theorem dX5_has_17 : decode cX5_has 17 = .ok (.if_icmp .ne 7, 3) := dk_160 0 7 (dk_at dksX5_has_0 17 rfl rfl)
theorem dX5_has_20 : decode cX5_has 20 = .ok (.iconst 1, 1) := dk_4 (dk_at dksX5_has_0 20 rfl rfl)
theorem dX5_has_21 : decode cX5_has 21 = .ok (.goto 4, 3) := dk_167 0 4 (dk_at dksX5_has_0 21 rfl rfl)
theorem dX5_has_24 : decode cX5_has 24 = .ok (.iconst 0, 1) := dk_3 (dk_at dksX5_has_1 0 rfl rfl)
theorem dX5_has_25 : decode cX5_has 25 = .ok (.ireturn, 1) := dk_172 (dk_at dksX5_has_1 1 rfl rfl)
abbrev cX5_add : ByteArray := prog_6_method_4_code
def yX5_add : MethodName := ⟨RX5, "add", "(I)Z"⟩
def dkwX5_add_1 : List UInt8 := [4, 27, 16, 32, 112, 120, 128, 79, 28, 172]
abbrev dktX5_add_1 : List UInt8 := dkwX5_add_1 ++ []
def dkwX5_add_0 : List UInt8 := [42, 27, 182, 0, 18, 154, 0, 7, 4, 167, 0, 4, 3, 61, 42, 180, 0, 7, 27, 16, 32, 108, 92, 46]
abbrev dktX5_add_0 : List UInt8 := dkwX5_add_0 ++ dktX5_add_1
theorem dksX5_add_0 : cX5_add.data.toList.drop 0 = dktX5_add_0 := by decide +kernel
theorem dksX5_add_1 : cX5_add.data.toList.drop 24 = dktX5_add_1 := dk_seg dksX5_add_0 24 rfl rfl
theorem dX5_add_0 : decode cX5_add 0 = .ok (.aload_n 0, 1) := dk_42 (dk_at dksX5_add_0 0 rfl rfl)
theorem dX5_add_1 : decode cX5_add 1 = .ok (.iload_n 1, 1) := dk_27 (dk_at dksX5_add_0 1 rfl rfl)
theorem dX5_add_2 : decode cX5_add 2 = .ok (.invokevirtual 18, 3) := dk_182 0 18 (dk_at dksX5_add_0 2 rfl rfl)
theorem dX5_add_5 : decode cX5_add 5 = .ok (.ifCond .ne 7, 3) := dk_154 0 7 (dk_at dksX5_add_0 5 rfl rfl)
theorem dX5_add_8 : decode cX5_add 8 = .ok (.iconst 1, 1) := dk_4 (dk_at dksX5_add_0 8 rfl rfl)
theorem dX5_add_9 : decode cX5_add 9 = .ok (.goto 4, 3) := dk_167 0 4 (dk_at dksX5_add_0 9 rfl rfl)
theorem dX5_add_12 : decode cX5_add 12 = .ok (.iconst 0, 1) := dk_3 (dk_at dksX5_add_0 12 rfl rfl)
theorem dX5_add_13 : decode cX5_add 13 = .ok (.istore_n 2, 1) := dk_61 (dk_at dksX5_add_0 13 rfl rfl)
theorem dX5_add_14 : decode cX5_add 14 = .ok (.aload_n 0, 1) := dk_42 (dk_at dksX5_add_0 14 rfl rfl)
theorem dX5_add_15 : decode cX5_add 15 = .ok (.getfield 7, 3) := dk_180 0 7 (dk_at dksX5_add_0 15 rfl rfl)
theorem dX5_add_18 : decode cX5_add 18 = .ok (.iload_n 1, 1) := dk_27 (dk_at dksX5_add_0 18 rfl rfl)
theorem dX5_add_19 : decode cX5_add 19 = .ok (.bipush 32, 2) := dk_16 32 (dk_at dksX5_add_0 19 rfl rfl)
theorem dX5_add_21 : decode cX5_add 21 = .ok (.idiv, 1) := dk_108 (dk_at dksX5_add_0 21 rfl rfl)
theorem dX5_add_22 : decode cX5_add 22 = .ok (.dup2, 1) := dk_92 (dk_at dksX5_add_0 22 rfl rfl)
theorem dX5_add_23 : decode cX5_add 23 = .ok (.iaload, 1) := dk_46 (dk_at dksX5_add_0 23 rfl rfl)
theorem dX5_add_24 : decode cX5_add 24 = .ok (.iconst 1, 1) := dk_4 (dk_at dksX5_add_1 0 rfl rfl)
theorem dX5_add_25 : decode cX5_add 25 = .ok (.iload_n 1, 1) := dk_27 (dk_at dksX5_add_1 1 rfl rfl)
theorem dX5_add_26 : decode cX5_add 26 = .ok (.bipush 32, 2) := dk_16 32 (dk_at dksX5_add_1 2 rfl rfl)
theorem dX5_add_28 : decode cX5_add 28 = .ok (.irem, 1) := dk_112 (dk_at dksX5_add_1 4 rfl rfl)
theorem dX5_add_29 : decode cX5_add 29 = .ok (.ishl, 1) := dk_120 (dk_at dksX5_add_1 5 rfl rfl)
theorem dX5_add_30 : decode cX5_add 30 = .ok (.ior, 1) := dk_128 (dk_at dksX5_add_1 6 rfl rfl)
theorem dX5_add_31 : decode cX5_add 31 = .ok (.iastore, 1) := dk_79 (dk_at dksX5_add_1 7 rfl rfl)
theorem dX5_add_32 : decode cX5_add 32 = .ok (.iload_n 2, 1) := dk_28 (dk_at dksX5_add_1 8 rfl rfl)
theorem dX5_add_33 : decode cX5_add 33 = .ok (.ireturn, 1) := dk_172 (dk_at dksX5_add_1 9 rfl rfl)
abbrev cX5_remove : ByteArray := prog_6_method_5_code
def yX5_remove : MethodName := ⟨RX5, "remove", "(I)V"⟩
def dkwX5_remove_0 : List UInt8 := [42, 180, 0, 7, 27, 16, 32, 108, 92, 46, 4, 27, 16, 32, 112, 120, 2, 130, 126, 79, 177]
abbrev dktX5_remove_0 : List UInt8 := dkwX5_remove_0 ++ []
theorem dksX5_remove_0 : cX5_remove.data.toList.drop 0 = dktX5_remove_0 := by decide +kernel
theorem dX5_remove_0 : decode cX5_remove 0 = .ok (.aload_n 0, 1) := dk_42 (dk_at dksX5_remove_0 0 rfl rfl)
theorem dX5_remove_1 : decode cX5_remove 1 = .ok (.getfield 7, 3) := dk_180 0 7 (dk_at dksX5_remove_0 1 rfl rfl)
theorem dX5_remove_4 : decode cX5_remove 4 = .ok (.iload_n 1, 1) := dk_27 (dk_at dksX5_remove_0 4 rfl rfl)
theorem dX5_remove_5 : decode cX5_remove 5 = .ok (.bipush 32, 2) := dk_16 32 (dk_at dksX5_remove_0 5 rfl rfl)
theorem dX5_remove_7 : decode cX5_remove 7 = .ok (.idiv, 1) := dk_108 (dk_at dksX5_remove_0 7 rfl rfl)
theorem dX5_remove_8 : decode cX5_remove 8 = .ok (.dup2, 1) := dk_92 (dk_at dksX5_remove_0 8 rfl rfl)
theorem dX5_remove_9 : decode cX5_remove 9 = .ok (.iaload, 1) := dk_46 (dk_at dksX5_remove_0 9 rfl rfl)
theorem dX5_remove_10 : decode cX5_remove 10 = .ok (.iconst 1, 1) := dk_4 (dk_at dksX5_remove_0 10 rfl rfl)
theorem dX5_remove_11 : decode cX5_remove 11 = .ok (.iload_n 1, 1) := dk_27 (dk_at dksX5_remove_0 11 rfl rfl)
theorem dX5_remove_12 : decode cX5_remove 12 = .ok (.bipush 32, 2) := dk_16 32 (dk_at dksX5_remove_0 12 rfl rfl)
theorem dX5_remove_14 : decode cX5_remove 14 = .ok (.irem, 1) := dk_112 (dk_at dksX5_remove_0 14 rfl rfl)
theorem dX5_remove_15 : decode cX5_remove 15 = .ok (.ishl, 1) := dk_120 (dk_at dksX5_remove_0 15 rfl rfl)
theorem dX5_remove_16 : decode cX5_remove 16 = .ok (.iconst (-1), 1) := dk_2 (dk_at dksX5_remove_0 16 rfl rfl)
theorem dX5_remove_17 : decode cX5_remove 17 = .ok (.ixor, 1) := dk_130 (dk_at dksX5_remove_0 17 rfl rfl)
theorem dX5_remove_18 : decode cX5_remove 18 = .ok (.iand, 1) := dk_126 (dk_at dksX5_remove_0 18 rfl rfl)
theorem dX5_remove_19 : decode cX5_remove 19 = .ok (.iastore, 1) := dk_79 (dk_at dksX5_remove_0 19 rfl rfl)
theorem dX5_remove_20 : decode cX5_remove 20 = .ok (.return_, 1) := dk_177 (dk_at dksX5_remove_0 20 rfl rfl)
theorem q115 : (Jvm.Cond.initialized "BrambleLogic$Codes") ∈ lw_all := lw_g (lw_at lw_m1 8 rfl) rfl
theorem q231 : (Jvm.Cond.instantiable "BrambleLogic$Codes" (1 : Nat)) ∈ lw_all := lw_g (lw_at lw_m1 124 rfl) rfl
theorem q233 : (Jvm.Cond.instanceMethod ({ cls := "BrambleLogic$Codes", name := "<init>", desc := "()V" } : Jvm.MethodName)) ∈ lw_all := lw_g (lw_at lw_m1 126 rfl) rfl
theorem q234 : (Jvm.Cond.code ({ cls := "BrambleLogic$Codes", name := "<init>", desc := "()V" } : Jvm.MethodName) prog_6_method_1_code (1 : Nat) (Option.none : Option Jvm.ClassFile.FieldType)) ∈ lw_all := lw_g (lw_at lw_m1 127 rfl) rfl
theorem q235 : (Jvm.Cond.methodLink "BrambleLogic$Codes" (1 : Nat) ({ cls := "java/lang/Object", name := "<init>", desc := "()V" } : Jvm.MethodName)) ∈ lw_all := lw_g (lw_at lw_m1 128 rfl) rfl
theorem q236 : (Jvm.Cond.fieldLink "BrambleLogic$Codes" (7 : Nat) "BrambleLogic$Codes" "words" "[I") ∈ lw_all := lw_g (lw_at lw_m1 129 rfl) rfl
theorem q237 : (Jvm.Cond.laysFinal "BrambleLogic$Codes" "BrambleLogic$Codes" "words" "[I") ∈ lw_all := lw_g (lw_at lw_m1 130 rfl) rfl
theorem q238 : (Jvm.Cond.soleField "BrambleLogic$Codes" "words") ∈ lw_all := lw_g (lw_at lw_m1 131 rfl) rfl
theorem q239 : (Jvm.Cond.superclass "BrambleLogic$Codes" "java/lang/Object") ∈ lw_all := lw_g (lw_at lw_m1 132 rfl) rfl
theorem q355 : (Jvm.Cond.instanceMethod ({ cls := "BrambleLogic$Codes", name := "count", desc := "()I" } : Jvm.MethodName)) ∈ lw_all := lw_g (lw_at lw_m2 8 rfl) rfl
theorem q356 : (Jvm.Cond.selects "BrambleLogic$Codes" ({ cls := "BrambleLogic$Codes", name := "count", desc := "()I" } : Jvm.MethodName) ({ cls := "BrambleLogic$Codes", name := "count", desc := "()I" } : Jvm.MethodName)) ∈ lw_all := lw_g (lw_at lw_m2 9 rfl) rfl
theorem q357 : (Jvm.Cond.code ({ cls := "BrambleLogic$Codes", name := "count", desc := "()I" } : Jvm.MethodName) prog_6_method_6_code (6 : Nat) (Option.some Jvm.ClassFile.FieldType.int)) ∈ lw_all := lw_g (lw_at lw_m2 10 rfl) rfl
theorem q358 : (Jvm.Cond.methodLink "BrambleLogic$Codes" (22 : Nat) ({ cls := "java/lang/Integer", name := "bitCount", desc := "(I)I" } : Jvm.MethodName)) ∈ lw_all := lw_g (lw_at lw_m2 11 rfl) rfl
theorem q626 : (Jvm.Cond.instanceMethod ({ cls := "BrambleLogic$Codes", name := "<init>", desc := "(LBrambleLogic$Codes;)V" } : Jvm.MethodName)) ∈ lw_all := lw_g (lw_at lw_m3 39 rfl) rfl
theorem q627 : (Jvm.Cond.code ({ cls := "BrambleLogic$Codes", name := "<init>", desc := "(LBrambleLogic$Codes;)V" } : Jvm.MethodName) prog_6_method_2_code (2 : Nat) (Option.none : Option Jvm.ClassFile.FieldType)) ∈ lw_all := lw_g (lw_at lw_m3 40 rfl) rfl
theorem q628 : (Jvm.Cond.methodLink "BrambleLogic$Codes" (13 : Nat) ({ cls := "[I", name := "clone", desc := "()Ljava/lang/Object;" } : Jvm.MethodName)) ∈ lw_all := lw_g (lw_at lw_m3 41 rfl) rfl
theorem q634 : (Jvm.Cond.classLink "BrambleLogic$Codes" (14 : Nat) "[I") ∈ lw_all := lw_g (lw_at lw_m3 47 rfl) rfl
theorem q697 : (Jvm.Cond.selects "BrambleLogic$Codes" ({ cls := "java/lang/Object", name := "getClass", desc := "()Ljava/lang/Class;" } : Jvm.MethodName) ({ cls := "java/lang/Object", name := "getClass", desc := "()Ljava/lang/Class;" } : Jvm.MethodName)) ∈ lw_all := lw_g (lw_at lw_m3 110 rfl) rfl
theorem q818 : (Jvm.Cond.instanceMethod ({ cls := "BrambleLogic$Codes", name := "has", desc := "(I)Z" } : Jvm.MethodName)) ∈ lw_all := lw_g (lw_at lw_m3 231 rfl) rfl
theorem q819 : (Jvm.Cond.selects "BrambleLogic$Codes" ({ cls := "BrambleLogic$Codes", name := "has", desc := "(I)Z" } : Jvm.MethodName) ({ cls := "BrambleLogic$Codes", name := "has", desc := "(I)Z" } : Jvm.MethodName)) ∈ lw_all := lw_g (lw_at lw_m3 232 rfl) rfl
theorem q820 : (Jvm.Cond.code ({ cls := "BrambleLogic$Codes", name := "has", desc := "(I)Z" } : Jvm.MethodName) prog_6_method_3_code (2 : Nat) (Option.some Jvm.ClassFile.FieldType.boolean)) ∈ lw_all := lw_g (lw_at lw_m3 233 rfl) rfl
theorem q838 : (Jvm.Cond.instanceMethod ({ cls := "BrambleLogic$Codes", name := "add", desc := "(I)Z" } : Jvm.MethodName)) ∈ lw_all := lw_g (lw_at lw_m4 11 rfl) rfl
theorem q839 : (Jvm.Cond.selects "BrambleLogic$Codes" ({ cls := "BrambleLogic$Codes", name := "add", desc := "(I)Z" } : Jvm.MethodName) ({ cls := "BrambleLogic$Codes", name := "add", desc := "(I)Z" } : Jvm.MethodName)) ∈ lw_all := lw_g (lw_at lw_m4 12 rfl) rfl
theorem q840 : (Jvm.Cond.code ({ cls := "BrambleLogic$Codes", name := "add", desc := "(I)Z" } : Jvm.MethodName) prog_6_method_4_code (3 : Nat) (Option.some Jvm.ClassFile.FieldType.boolean)) ∈ lw_all := lw_g (lw_at lw_m4 13 rfl) rfl
theorem q841 : (Jvm.Cond.methodLink "BrambleLogic$Codes" (18 : Nat) ({ cls := "BrambleLogic$Codes", name := "has", desc := "(I)Z" } : Jvm.MethodName)) ∈ lw_all := lw_g (lw_at lw_m4 14 rfl) rfl
theorem q1663 : (Jvm.Cond.instanceMethod ({ cls := "BrambleLogic$Codes", name := "remove", desc := "(I)V" } : Jvm.MethodName)) ∈ lw_all := lw_g (lw_at lw_m7 116 rfl) rfl
theorem q1664 : (Jvm.Cond.selects "BrambleLogic$Codes" ({ cls := "BrambleLogic$Codes", name := "remove", desc := "(I)V" } : Jvm.MethodName) ({ cls := "BrambleLogic$Codes", name := "remove", desc := "(I)V" } : Jvm.MethodName)) ∈ lw_all := lw_g (lw_at lw_m7 117 rfl) rfl
theorem q1665 : (Jvm.Cond.code ({ cls := "BrambleLogic$Codes", name := "remove", desc := "(I)V" } : Jvm.MethodName) prog_6_method_5_code (2 : Nat) (Option.none : Option Jvm.ClassFile.FieldType)) ∈ lw_all := lw_g (lw_at lw_m7 118 rfl) rfl
theorem q3364 : (Jvm.Cond.castable "BrambleLogic$Codes" "java/lang/Object") ∈ lw_tbl := lw_at lw_m14 137 rfl
theorem in_X5 : ∀ w ∈ wsX50, w ∈ lw_all := lw_in wsX50 [237] (by decide +kernel) (by decide +kernel)
/-! BrambleLogic$Needs -/
set_option maxRecDepth 100000
def RX7 : String := "BrambleLogic$Needs"
def TX7 : u_T := fun k => match k with
  | 0 => ("BrambleLogic$Needs", "isNeeded", "[[Z", true)
  | _ => ("BrambleLogic$Needs", "isNegative", "[[Z", true)
def tyX7 : Nat → FieldType := fun k => match k with
  | 0 => .array (.array .boolean)
  | _ => .array (.array .boolean)
abbrev wsX70 : List Cond := u_ws RX7 TX7 2
theorem nmX7 : ∀ a, a < 2 → ∀ b, b < 2 → a ≠ b → (TX7 a).2.1 ≠ (TX7 b).2.1 := by decide +kernel
theorem tyX7_ok : ∀ k, k < 2 → parseFieldDescriptor (TX7 k).2.2.1 = some (tyX7 k) := by decide +kernel
abbrev cX7_init : ByteArray := prog_19_method_1_code
def yX7_init : MethodName := ⟨RX7, "<init>", "(Ljava/util/List;)V"⟩
def dkwX7_init_4 : List UInt8 := [180, 0, 43, 180, 0, 47, 25, 5, 182, 0, 53, 167, 255, 221, 167, 255, 188, 177]
abbrev dktX7_init_4 : List UInt8 := dkwX7_init_4 ++ []
def dkwX7_init_3 : List UInt8 := [185, 0, 25, 1, 0, 153, 0, 31, 25, 4, 185, 0, 31, 1, 0, 192, 0, 41, 58, 5, 42, 45]
abbrev dktX7_init_3 : List UInt8 := dkwX7_init_3 ++ dktX7_init_4
def dkwX7_init_2 : List UInt8 := [185, 0, 31, 1, 0, 192, 0, 35, 78, 45, 180, 0, 37, 185, 0, 19, 1, 0, 58, 4, 25, 4]
abbrev dktX7_init_2 : List UInt8 := dkwX7_init_2 ++ dktX7_init_3
def dkwX7_init_1 : List UInt8 := [197, 0, 9, 2, 181, 0, 16, 43, 185, 0, 19, 1, 0, 77, 44, 185, 0, 25, 1, 0, 153, 0, 65, 44]
abbrev dktX7_init_1 : List UInt8 := dkwX7_init_1 ++ dktX7_init_2
def dkwX7_init_0 : List UInt8 := [42, 183, 0, 3, 42, 16, 8, 16, 8, 197, 0, 9, 2, 181, 0, 11, 42, 16, 8, 16, 8]
abbrev dktX7_init_0 : List UInt8 := dkwX7_init_0 ++ dktX7_init_1
theorem dksX7_init_0 : cX7_init.data.toList.drop 0 = dktX7_init_0 := by decide +kernel
theorem dksX7_init_1 : cX7_init.data.toList.drop 21 = dktX7_init_1 := dk_seg dksX7_init_0 21 rfl rfl
theorem dksX7_init_2 : cX7_init.data.toList.drop 45 = dktX7_init_2 := dk_seg dksX7_init_1 24 rfl rfl
theorem dksX7_init_3 : cX7_init.data.toList.drop 67 = dktX7_init_3 := dk_seg dksX7_init_2 22 rfl rfl
theorem dksX7_init_4 : cX7_init.data.toList.drop 89 = dktX7_init_4 := dk_seg dksX7_init_3 22 rfl rfl
theorem dX7_init_0 : decode cX7_init 0 = .ok (.aload_n 0, 1) := dk_42 (dk_at dksX7_init_0 0 rfl rfl)
theorem dX7_init_1 : decode cX7_init 1 = .ok (.invokespecial 3, 3) := dk_183 0 3 (dk_at dksX7_init_0 1 rfl rfl)
theorem dX7_init_4 : decode cX7_init 4 = .ok (.aload_n 0, 1) := dk_42 (dk_at dksX7_init_0 4 rfl rfl)
theorem dX7_init_5 : decode cX7_init 5 = .ok (.bipush 8, 2) := dk_16 8 (dk_at dksX7_init_0 5 rfl rfl)
theorem dX7_init_7 : decode cX7_init 7 = .ok (.bipush 8, 2) := dk_16 8 (dk_at dksX7_init_0 7 rfl rfl)
theorem dX7_init_9 : decode cX7_init 9 = .ok (.multianewarray 9 2, 4) := by decide +kernel
theorem dX7_init_13 : decode cX7_init 13 = .ok (.putfield 11, 3) := dk_181 0 11 (dk_at dksX7_init_0 13 rfl rfl)
theorem dX7_init_16 : decode cX7_init 16 = .ok (.aload_n 0, 1) := dk_42 (dk_at dksX7_init_0 16 rfl rfl)
theorem dX7_init_17 : decode cX7_init 17 = .ok (.bipush 8, 2) := dk_16 8 (dk_at dksX7_init_0 17 rfl rfl)
theorem dX7_init_19 : decode cX7_init 19 = .ok (.bipush 8, 2) := dk_16 8 (dk_at dksX7_init_0 19 rfl rfl)
theorem dX7_init_21 : decode cX7_init 21 = .ok (.multianewarray 9 2, 4) := by decide +kernel
theorem dX7_init_25 : decode cX7_init 25 = .ok (.putfield 16, 3) := dk_181 0 16 (dk_at dksX7_init_1 4 rfl rfl)
theorem dX7_init_28 : decode cX7_init 28 = .ok (.aload_n 1, 1) := dk_43 (dk_at dksX7_init_1 7 rfl rfl)
theorem dX7_init_29 : decode cX7_init 29 = .ok (.invokeinterface 19 1, 5) := by decide +kernel
theorem dX7_init_34 : decode cX7_init 34 = .ok (.astore_n 2, 1) := dk_77 (dk_at dksX7_init_1 13 rfl rfl)
theorem dX7_init_35 : decode cX7_init 35 = .ok (.aload_n 2, 1) := dk_44 (dk_at dksX7_init_1 14 rfl rfl)
theorem dX7_init_36 : decode cX7_init 36 = .ok (.invokeinterface 25 1, 5) := by decide +kernel
theorem dX7_init_41 : decode cX7_init 41 = .ok (.ifCond .eq 65, 3) := dk_153 0 65 (dk_at dksX7_init_1 20 rfl rfl)
theorem dX7_init_44 : decode cX7_init 44 = .ok (.aload_n 2, 1) := dk_44 (dk_at dksX7_init_1 23 rfl rfl)
theorem dX7_init_45 : decode cX7_init 45 = .ok (.invokeinterface 31 1, 5) := by decide +kernel
theorem dX7_init_50 : decode cX7_init 50 = .ok (.checkcast 35, 3) := dk_192 0 35 (dk_at dksX7_init_2 5 rfl rfl)
theorem dX7_init_53 : decode cX7_init 53 = .ok (.astore_n 3, 1) := dk_78 (dk_at dksX7_init_2 8 rfl rfl)
theorem dX7_init_54 : decode cX7_init 54 = .ok (.aload_n 3, 1) := dk_45 (dk_at dksX7_init_2 9 rfl rfl)
theorem dX7_init_55 : decode cX7_init 55 = .ok (.getfield 37, 3) := dk_180 0 37 (dk_at dksX7_init_2 10 rfl rfl)
theorem dX7_init_58 : decode cX7_init 58 = .ok (.invokeinterface 19 1, 5) := by decide +kernel
theorem dX7_init_63 : decode cX7_init 63 = .ok (.astore 4, 2) := dk_58 4 (dk_at dksX7_init_2 18 rfl rfl)
theorem dX7_init_65 : decode cX7_init 65 = .ok (.aload 4, 2) := dk_25 4 (dk_at dksX7_init_2 20 rfl rfl)
theorem dX7_init_67 : decode cX7_init 67 = .ok (.invokeinterface 25 1, 5) := by decide +kernel
theorem dX7_init_72 : decode cX7_init 72 = .ok (.ifCond .eq 31, 3) := dk_153 0 31 (dk_at dksX7_init_3 5 rfl rfl)
theorem dX7_init_75 : decode cX7_init 75 = .ok (.aload 4, 2) := dk_25 4 (dk_at dksX7_init_3 8 rfl rfl)
theorem dX7_init_77 : decode cX7_init 77 = .ok (.invokeinterface 31 1, 5) := by decide +kernel
theorem dX7_init_82 : decode cX7_init 82 = .ok (.checkcast 41, 3) := dk_192 0 41 (dk_at dksX7_init_3 15 rfl rfl)
theorem dX7_init_85 : decode cX7_init 85 = .ok (.astore 5, 2) := dk_58 5 (dk_at dksX7_init_3 18 rfl rfl)
theorem dX7_init_87 : decode cX7_init 87 = .ok (.aload_n 0, 1) := dk_42 (dk_at dksX7_init_3 20 rfl rfl)
theorem dX7_init_88 : decode cX7_init 88 = .ok (.aload_n 3, 1) := dk_45 (dk_at dksX7_init_3 21 rfl rfl)
theorem dX7_init_89 : decode cX7_init 89 = .ok (.getfield 43, 3) := dk_180 0 43 (dk_at dksX7_init_4 0 rfl rfl)
theorem dX7_init_92 : decode cX7_init 92 = .ok (.getfield 47, 3) := dk_180 0 47 (dk_at dksX7_init_4 3 rfl rfl)
theorem dX7_init_95 : decode cX7_init 95 = .ok (.aload 5, 2) := dk_25 5 (dk_at dksX7_init_4 6 rfl rfl)
theorem dX7_init_97 : decode cX7_init 97 = .ok (.invokevirtual 53, 3) := dk_182 0 53 (dk_at dksX7_init_4 8 rfl rfl)
theorem dX7_init_100 : decode cX7_init 100 = .ok (.goto (-35), 3) := dk_167 255 221 (dk_at dksX7_init_4 11 rfl rfl)
theorem dX7_init_103 : decode cX7_init 103 = .ok (.goto (-68), 3) := dk_167 255 188 (dk_at dksX7_init_4 14 rfl rfl)
theorem dX7_init_106 : decode cX7_init 106 = .ok (.return_, 1) := dk_177 (dk_at dksX7_init_4 17 rfl rfl)
abbrev cX7_add : ByteArray := prog_19_method_2_code
def yX7_add : MethodName := ⟨RX7, "add", "(ILBrambleLogic$Literal;)V"⟩
def dkwX7_add_2 : List UInt8 := [92, 51, 44, 185, 0, 69, 1, 0, 128, 84, 177]
abbrev dktX7_add_2 : List UInt8 := dkwX7_add_2 ++ []
def dkwX7_add_1 : List UInt8 := [192, 0, 48, 180, 0, 47, 4, 84, 42, 180, 0, 16, 27, 50, 45, 182, 0, 66, 192, 0, 48, 180, 0, 47]
abbrev dktX7_add_1 : List UInt8 := dkwX7_add_1 ++ dktX7_add_2
def dkwX7_add_0 : List UInt8 := [44, 185, 0, 57, 1, 0, 78, 45, 182, 0, 61, 153, 0, 47, 42, 180, 0, 11, 27, 50, 45, 182, 0, 66]
abbrev dktX7_add_0 : List UInt8 := dkwX7_add_0 ++ dktX7_add_1
theorem dksX7_add_0 : cX7_add.data.toList.drop 0 = dktX7_add_0 := by decide +kernel
theorem dksX7_add_1 : cX7_add.data.toList.drop 24 = dktX7_add_1 := dk_seg dksX7_add_0 24 rfl rfl
theorem dksX7_add_2 : cX7_add.data.toList.drop 48 = dktX7_add_2 := dk_seg dksX7_add_1 24 rfl rfl
theorem dX7_add_0 : decode cX7_add 0 = .ok (.aload_n 2, 1) := dk_44 (dk_at dksX7_add_0 0 rfl rfl)
theorem dX7_add_1 : decode cX7_add 1 = .ok (.invokeinterface 57 1, 5) := by decide +kernel
theorem dX7_add_6 : decode cX7_add 6 = .ok (.astore_n 3, 1) := dk_78 (dk_at dksX7_add_0 6 rfl rfl)
theorem dX7_add_7 : decode cX7_add 7 = .ok (.aload_n 3, 1) := dk_45 (dk_at dksX7_add_0 7 rfl rfl)
theorem dX7_add_8 : decode cX7_add 8 = .ok (.invokevirtual 61, 3) := dk_182 0 61 (dk_at dksX7_add_0 8 rfl rfl)
theorem dX7_add_11 : decode cX7_add 11 = .ok (.ifCond .eq 47, 3) := dk_153 0 47 (dk_at dksX7_add_0 11 rfl rfl)
theorem dX7_add_14 : decode cX7_add 14 = .ok (.aload_n 0, 1) := dk_42 (dk_at dksX7_add_0 14 rfl rfl)
theorem dX7_add_15 : decode cX7_add 15 = .ok (.getfield 11, 3) := dk_180 0 11 (dk_at dksX7_add_0 15 rfl rfl)
theorem dX7_add_18 : decode cX7_add 18 = .ok (.iload_n 1, 1) := dk_27 (dk_at dksX7_add_0 18 rfl rfl)
theorem dX7_add_19 : decode cX7_add 19 = .ok (.aaload, 1) := dk_50 (dk_at dksX7_add_0 19 rfl rfl)
theorem dX7_add_20 : decode cX7_add 20 = .ok (.aload_n 3, 1) := dk_45 (dk_at dksX7_add_0 20 rfl rfl)
theorem dX7_add_21 : decode cX7_add 21 = .ok (.invokevirtual 66, 3) := dk_182 0 66 (dk_at dksX7_add_0 21 rfl rfl)
theorem dX7_add_24 : decode cX7_add 24 = .ok (.checkcast 48, 3) := dk_192 0 48 (dk_at dksX7_add_1 0 rfl rfl)
theorem dX7_add_27 : decode cX7_add 27 = .ok (.getfield 47, 3) := dk_180 0 47 (dk_at dksX7_add_1 3 rfl rfl)
theorem dX7_add_30 : decode cX7_add 30 = .ok (.iconst 1, 1) := dk_4 (dk_at dksX7_add_1 6 rfl rfl)
theorem dX7_add_31 : decode cX7_add 31 = .ok (.bastore, 1) := dk_84 (dk_at dksX7_add_1 7 rfl rfl)
theorem dX7_add_32 : decode cX7_add 32 = .ok (.aload_n 0, 1) := dk_42 (dk_at dksX7_add_1 8 rfl rfl)
theorem dX7_add_33 : decode cX7_add 33 = .ok (.getfield 16, 3) := dk_180 0 16 (dk_at dksX7_add_1 9 rfl rfl)
theorem dX7_add_36 : decode cX7_add 36 = .ok (.iload_n 1, 1) := dk_27 (dk_at dksX7_add_1 12 rfl rfl)
theorem dX7_add_37 : decode cX7_add 37 = .ok (.aaload, 1) := dk_50 (dk_at dksX7_add_1 13 rfl rfl)
theorem dX7_add_38 : decode cX7_add 38 = .ok (.aload_n 3, 1) := dk_45 (dk_at dksX7_add_1 14 rfl rfl)
theorem dX7_add_39 : decode cX7_add 39 = .ok (.invokevirtual 66, 3) := dk_182 0 66 (dk_at dksX7_add_1 15 rfl rfl)
theorem dX7_add_42 : decode cX7_add 42 = .ok (.checkcast 48, 3) := dk_192 0 48 (dk_at dksX7_add_1 18 rfl rfl)
theorem dX7_add_45 : decode cX7_add 45 = .ok (.getfield 47, 3) := dk_180 0 47 (dk_at dksX7_add_1 21 rfl rfl)
theorem dX7_add_48 : decode cX7_add 48 = .ok (.dup2, 1) := dk_92 (dk_at dksX7_add_2 0 rfl rfl)
theorem dX7_add_49 : decode cX7_add 49 = .ok (.baload, 1) := dk_51 (dk_at dksX7_add_2 1 rfl rfl)
theorem dX7_add_50 : decode cX7_add 50 = .ok (.aload_n 2, 1) := dk_44 (dk_at dksX7_add_2 2 rfl rfl)
theorem dX7_add_51 : decode cX7_add 51 = .ok (.invokeinterface 69 1, 5) := by decide +kernel
theorem dX7_add_56 : decode cX7_add 56 = .ok (.ior, 1) := dk_128 (dk_at dksX7_add_2 8 rfl rfl)
theorem dX7_add_57 : decode cX7_add 57 = .ok (.bastore, 1) := dk_84 (dk_at dksX7_add_2 9 rfl rfl)
theorem dX7_add_58 : decode cX7_add 58 = .ok (.return_, 1) := dk_177 (dk_at dksX7_add_2 10 rfl rfl)
abbrev cX7_layers : ByteArray := prog_19_method_3_code
def yX7_layers : MethodName := ⟨RX7, "layers", "()[I"⟩
def dkwX7_layers_3 : List UInt8 := [132, 3, 1, 167, 255, 200, 167, 255, 189, 43, 176]
abbrev dktX7_layers_3 : List UInt8 := dkwX7_layers_3 ++ []
def dkwX7_layers_2 : List UInt8 := [167, 0, 4, 3, 128, 61, 43, 29, 43, 29, 46, 21, 4, 16, 8, 184, 0, 75, 184, 0, 81, 79]
abbrev dktX7_layers_2 : List UInt8 := dkwX7_layers_2 ++ dktX7_layers_3
def dkwX7_layers_1 : List UInt8 := [182, 0, 71, 54, 4, 28, 21, 4, 43, 29, 46, 164, 0, 14, 21, 4, 16, 8, 163, 0, 7, 4]
abbrev dktX7_layers_1 : List UInt8 := dkwX7_layers_1 ++ dktX7_layers_2
def dkwX7_layers_0 : List UInt8 := [16, 8, 188, 10, 76, 4, 61, 28, 153, 0, 69, 3, 61, 3, 62, 29, 16, 8, 162, 0, 56, 42, 29, 43]
abbrev dktX7_layers_0 : List UInt8 := dkwX7_layers_0 ++ dktX7_layers_1
theorem dksX7_layers_0 : cX7_layers.data.toList.drop 0 = dktX7_layers_0 := by decide +kernel
theorem dksX7_layers_1 : cX7_layers.data.toList.drop 24 = dktX7_layers_1 := dk_seg dksX7_layers_0 24 rfl rfl
theorem dksX7_layers_2 : cX7_layers.data.toList.drop 46 = dktX7_layers_2 := dk_seg dksX7_layers_1 22 rfl rfl
theorem dksX7_layers_3 : cX7_layers.data.toList.drop 68 = dktX7_layers_3 := dk_seg dksX7_layers_2 22 rfl rfl
theorem dX7_layers_0 : decode cX7_layers 0 = .ok (.bipush 8, 2) := dk_16 8 (dk_at dksX7_layers_0 0 rfl rfl)
theorem dX7_layers_2 : decode cX7_layers 2 = .ok (.newarray .int, 2) := dk_188_10 (dk_at dksX7_layers_0 2 rfl rfl)
theorem dX7_layers_4 : decode cX7_layers 4 = .ok (.astore_n 1, 1) := dk_76 (dk_at dksX7_layers_0 4 rfl rfl)
theorem dX7_layers_5 : decode cX7_layers 5 = .ok (.iconst 1, 1) := dk_4 (dk_at dksX7_layers_0 5 rfl rfl)
theorem dX7_layers_6 : decode cX7_layers 6 = .ok (.istore_n 2, 1) := dk_61 (dk_at dksX7_layers_0 6 rfl rfl)
theorem dX7_layers_7 : decode cX7_layers 7 = .ok (.iload_n 2, 1) := dk_28 (dk_at dksX7_layers_0 7 rfl rfl)
theorem dX7_layers_8 : decode cX7_layers 8 = .ok (.ifCond .eq 69, 3) := dk_153 0 69 (dk_at dksX7_layers_0 8 rfl rfl)
theorem dX7_layers_11 : decode cX7_layers 11 = .ok (.iconst 0, 1) := dk_3 (dk_at dksX7_layers_0 11 rfl rfl)
theorem dX7_layers_12 : decode cX7_layers 12 = .ok (.istore_n 2, 1) := dk_61 (dk_at dksX7_layers_0 12 rfl rfl)
theorem dX7_layers_13 : decode cX7_layers 13 = .ok (.iconst 0, 1) := dk_3 (dk_at dksX7_layers_0 13 rfl rfl)
theorem dX7_layers_14 : decode cX7_layers 14 = .ok (.istore_n 3, 1) := dk_62 (dk_at dksX7_layers_0 14 rfl rfl)
theorem dX7_layers_15 : decode cX7_layers 15 = .ok (.iload_n 3, 1) := dk_29 (dk_at dksX7_layers_0 15 rfl rfl)
theorem dX7_layers_16 : decode cX7_layers 16 = .ok (.bipush 8, 2) := dk_16 8 (dk_at dksX7_layers_0 16 rfl rfl)
theorem dX7_layers_18 : decode cX7_layers 18 = .ok (.if_icmp .ge 56, 3) := dk_162 0 56 (dk_at dksX7_layers_0 18 rfl rfl)
theorem dX7_layers_21 : decode cX7_layers 21 = .ok (.aload_n 0, 1) := dk_42 (dk_at dksX7_layers_0 21 rfl rfl)
theorem dX7_layers_22 : decode cX7_layers 22 = .ok (.iload_n 3, 1) := dk_29 (dk_at dksX7_layers_0 22 rfl rfl)
theorem dX7_layers_23 : decode cX7_layers 23 = .ok (.aload_n 1, 1) := dk_43 (dk_at dksX7_layers_0 23 rfl rfl)
theorem dX7_layers_24 : decode cX7_layers 24 = .ok (.invokevirtual 71, 3) := dk_182 0 71 (dk_at dksX7_layers_1 0 rfl rfl)
theorem dX7_layers_27 : decode cX7_layers 27 = .ok (.istore 4, 2) := dk_54 4 (dk_at dksX7_layers_1 3 rfl rfl)
theorem dX7_layers_29 : decode cX7_layers 29 = .ok (.iload_n 2, 1) := dk_28 (dk_at dksX7_layers_1 5 rfl rfl)
theorem dX7_layers_30 : decode cX7_layers 30 = .ok (.iload 4, 2) := dk_21 4 (dk_at dksX7_layers_1 6 rfl rfl)
theorem dX7_layers_32 : decode cX7_layers 32 = .ok (.aload_n 1, 1) := dk_43 (dk_at dksX7_layers_1 8 rfl rfl)
theorem dX7_layers_33 : decode cX7_layers 33 = .ok (.iload_n 3, 1) := dk_29 (dk_at dksX7_layers_1 9 rfl rfl)
theorem dX7_layers_34 : decode cX7_layers 34 = .ok (.iaload, 1) := dk_46 (dk_at dksX7_layers_1 10 rfl rfl)
theorem dX7_layers_35 : decode cX7_layers 35 = .ok (.if_icmp .le 14, 3) := dk_164 0 14 (dk_at dksX7_layers_1 11 rfl rfl)
theorem dX7_layers_38 : decode cX7_layers 38 = .ok (.iload 4, 2) := dk_21 4 (dk_at dksX7_layers_1 14 rfl rfl)
theorem dX7_layers_40 : decode cX7_layers 40 = .ok (.bipush 8, 2) := dk_16 8 (dk_at dksX7_layers_1 16 rfl rfl)
theorem dX7_layers_42 : decode cX7_layers 42 = .ok (.if_icmp .gt 7, 3) := dk_163 0 7 (dk_at dksX7_layers_1 18 rfl rfl)
theorem dX7_layers_45 : decode cX7_layers 45 = .ok (.iconst 1, 1) := dk_4 (dk_at dksX7_layers_1 21 rfl rfl)
theorem dX7_layers_46 : decode cX7_layers 46 = .ok (.goto 4, 3) := dk_167 0 4 (dk_at dksX7_layers_2 0 rfl rfl)
theorem dX7_layers_49 : decode cX7_layers 49 = .ok (.iconst 0, 1) := dk_3 (dk_at dksX7_layers_2 3 rfl rfl)
theorem dX7_layers_50 : decode cX7_layers 50 = .ok (.ior, 1) := dk_128 (dk_at dksX7_layers_2 4 rfl rfl)
theorem dX7_layers_51 : decode cX7_layers 51 = .ok (.istore_n 2, 1) := dk_61 (dk_at dksX7_layers_2 5 rfl rfl)
theorem dX7_layers_52 : decode cX7_layers 52 = .ok (.aload_n 1, 1) := dk_43 (dk_at dksX7_layers_2 6 rfl rfl)
theorem dX7_layers_53 : decode cX7_layers 53 = .ok (.iload_n 3, 1) := dk_29 (dk_at dksX7_layers_2 7 rfl rfl)
theorem dX7_layers_54 : decode cX7_layers 54 = .ok (.aload_n 1, 1) := dk_43 (dk_at dksX7_layers_2 8 rfl rfl)
theorem dX7_layers_55 : decode cX7_layers 55 = .ok (.iload_n 3, 1) := dk_29 (dk_at dksX7_layers_2 9 rfl rfl)
theorem dX7_layers_56 : decode cX7_layers 56 = .ok (.iaload, 1) := dk_46 (dk_at dksX7_layers_2 10 rfl rfl)
theorem dX7_layers_57 : decode cX7_layers 57 = .ok (.iload 4, 2) := dk_21 4 (dk_at dksX7_layers_2 11 rfl rfl)
theorem dX7_layers_59 : decode cX7_layers 59 = .ok (.bipush 8, 2) := dk_16 8 (dk_at dksX7_layers_2 13 rfl rfl)
theorem dX7_layers_61 : decode cX7_layers 61 = .ok (.invokestatic 75, 3) := dk_184 0 75 (dk_at dksX7_layers_2 15 rfl rfl)
theorem dX7_layers_64 : decode cX7_layers 64 = .ok (.invokestatic 81, 3) := dk_184 0 81 (dk_at dksX7_layers_2 18 rfl rfl)
theorem dX7_layers_67 : decode cX7_layers 67 = .ok (.iastore, 1) := dk_79 (dk_at dksX7_layers_2 21 rfl rfl)
theorem dX7_layers_68 : decode cX7_layers 68 = .ok (.iinc 3 1, 3) := dk_132 3 1 (dk_at dksX7_layers_3 0 rfl rfl)
theorem dX7_layers_71 : decode cX7_layers 71 = .ok (.goto (-56), 3) := dk_167 255 200 (dk_at dksX7_layers_3 3 rfl rfl)
theorem dX7_layers_74 : decode cX7_layers 74 = .ok (.goto (-67), 3) := dk_167 255 189 (dk_at dksX7_layers_3 6 rfl rfl)
theorem dX7_layers_77 : decode cX7_layers 77 = .ok (.aload_n 1, 1) := dk_43 (dk_at dksX7_layers_3 9 rfl rfl)
theorem dX7_layers_78 : decode cX7_layers 78 = .ok (.areturn, 1) := dk_176 (dk_at dksX7_layers_3 10 rfl rfl)
abbrev cX7_wantedLayer : ByteArray := prog_19_method_4_code
def yX7_wantedLayer : MethodName := ⟨RX7, "wantedLayer", "(I[I)I"⟩
def dkwX7_wantedLayer_2 : List UInt8 := [29, 21, 5, 184, 0, 81, 167, 0, 4, 29, 62, 132, 4, 1, 167, 255, 199, 29, 172]
abbrev dktX7_wantedLayer_2 : List UInt8 := dkwX7_wantedLayer_2 ++ []
def dkwX7_wantedLayer_1 : List UInt8 := [51, 153, 0, 7, 4, 167, 0, 4, 3, 96, 54, 5, 42, 180, 0, 11, 27, 50, 21, 4, 51, 153, 0, 12]
abbrev dktX7_wantedLayer_1 : List UInt8 := dkwX7_wantedLayer_1 ++ dktX7_wantedLayer_2
def dkwX7_wantedLayer_0 : List UInt8 := [3, 62, 3, 54, 4, 21, 4, 16, 8, 162, 0, 56, 44, 21, 4, 46, 42, 180, 0, 16, 27, 50, 21, 4]
abbrev dktX7_wantedLayer_0 : List UInt8 := dkwX7_wantedLayer_0 ++ dktX7_wantedLayer_1
theorem dksX7_wantedLayer_0 : cX7_wantedLayer.data.toList.drop 0 = dktX7_wantedLayer_0 := by decide +kernel
theorem dksX7_wantedLayer_1 : cX7_wantedLayer.data.toList.drop 24 = dktX7_wantedLayer_1 := dk_seg dksX7_wantedLayer_0 24 rfl rfl
theorem dksX7_wantedLayer_2 : cX7_wantedLayer.data.toList.drop 48 = dktX7_wantedLayer_2 := dk_seg dksX7_wantedLayer_1 24 rfl rfl
theorem dX7_wantedLayer_0 : decode cX7_wantedLayer 0 = .ok (.iconst 0, 1) := dk_3 (dk_at dksX7_wantedLayer_0 0 rfl rfl)
theorem dX7_wantedLayer_1 : decode cX7_wantedLayer 1 = .ok (.istore_n 3, 1) := dk_62 (dk_at dksX7_wantedLayer_0 1 rfl rfl)
theorem dX7_wantedLayer_2 : decode cX7_wantedLayer 2 = .ok (.iconst 0, 1) := dk_3 (dk_at dksX7_wantedLayer_0 2 rfl rfl)
theorem dX7_wantedLayer_3 : decode cX7_wantedLayer 3 = .ok (.istore 4, 2) := dk_54 4 (dk_at dksX7_wantedLayer_0 3 rfl rfl)
theorem dX7_wantedLayer_5 : decode cX7_wantedLayer 5 = .ok (.iload 4, 2) := dk_21 4 (dk_at dksX7_wantedLayer_0 5 rfl rfl)
theorem dX7_wantedLayer_7 : decode cX7_wantedLayer 7 = .ok (.bipush 8, 2) := dk_16 8 (dk_at dksX7_wantedLayer_0 7 rfl rfl)
theorem dX7_wantedLayer_9 : decode cX7_wantedLayer 9 = .ok (.if_icmp .ge 56, 3) := dk_162 0 56 (dk_at dksX7_wantedLayer_0 9 rfl rfl)
theorem dX7_wantedLayer_12 : decode cX7_wantedLayer 12 = .ok (.aload_n 2, 1) := dk_44 (dk_at dksX7_wantedLayer_0 12 rfl rfl)
theorem dX7_wantedLayer_13 : decode cX7_wantedLayer 13 = .ok (.iload 4, 2) := dk_21 4 (dk_at dksX7_wantedLayer_0 13 rfl rfl)
theorem dX7_wantedLayer_15 : decode cX7_wantedLayer 15 = .ok (.iaload, 1) := dk_46 (dk_at dksX7_wantedLayer_0 15 rfl rfl)
theorem dX7_wantedLayer_16 : decode cX7_wantedLayer 16 = .ok (.aload_n 0, 1) := dk_42 (dk_at dksX7_wantedLayer_0 16 rfl rfl)
theorem dX7_wantedLayer_17 : decode cX7_wantedLayer 17 = .ok (.getfield 16, 3) := dk_180 0 16 (dk_at dksX7_wantedLayer_0 17 rfl rfl)
theorem dX7_wantedLayer_20 : decode cX7_wantedLayer 20 = .ok (.iload_n 1, 1) := dk_27 (dk_at dksX7_wantedLayer_0 20 rfl rfl)
theorem dX7_wantedLayer_21 : decode cX7_wantedLayer 21 = .ok (.aaload, 1) := dk_50 (dk_at dksX7_wantedLayer_0 21 rfl rfl)
theorem dX7_wantedLayer_22 : decode cX7_wantedLayer 22 = .ok (.iload 4, 2) := dk_21 4 (dk_at dksX7_wantedLayer_0 22 rfl rfl)
theorem dX7_wantedLayer_24 : decode cX7_wantedLayer 24 = .ok (.baload, 1) := dk_51 (dk_at dksX7_wantedLayer_1 0 rfl rfl)
theorem dX7_wantedLayer_25 : decode cX7_wantedLayer 25 = .ok (.ifCond .eq 7, 3) := dk_153 0 7 (dk_at dksX7_wantedLayer_1 1 rfl rfl)
theorem dX7_wantedLayer_28 : decode cX7_wantedLayer 28 = .ok (.iconst 1, 1) := dk_4 (dk_at dksX7_wantedLayer_1 4 rfl rfl)
theorem dX7_wantedLayer_29 : decode cX7_wantedLayer 29 = .ok (.goto 4, 3) := dk_167 0 4 (dk_at dksX7_wantedLayer_1 5 rfl rfl)
theorem dX7_wantedLayer_32 : decode cX7_wantedLayer 32 = .ok (.iconst 0, 1) := dk_3 (dk_at dksX7_wantedLayer_1 8 rfl rfl)
theorem dX7_wantedLayer_33 : decode cX7_wantedLayer 33 = .ok (.iadd, 1) := dk_96 (dk_at dksX7_wantedLayer_1 9 rfl rfl)
theorem dX7_wantedLayer_34 : decode cX7_wantedLayer 34 = .ok (.istore 5, 2) := dk_54 5 (dk_at dksX7_wantedLayer_1 10 rfl rfl)
theorem dX7_wantedLayer_36 : decode cX7_wantedLayer 36 = .ok (.aload_n 0, 1) := dk_42 (dk_at dksX7_wantedLayer_1 12 rfl rfl)
theorem dX7_wantedLayer_37 : decode cX7_wantedLayer 37 = .ok (.getfield 11, 3) := dk_180 0 11 (dk_at dksX7_wantedLayer_1 13 rfl rfl)
theorem dX7_wantedLayer_40 : decode cX7_wantedLayer 40 = .ok (.iload_n 1, 1) := dk_27 (dk_at dksX7_wantedLayer_1 16 rfl rfl)
theorem dX7_wantedLayer_41 : decode cX7_wantedLayer 41 = .ok (.aaload, 1) := dk_50 (dk_at dksX7_wantedLayer_1 17 rfl rfl)
theorem dX7_wantedLayer_42 : decode cX7_wantedLayer 42 = .ok (.iload 4, 2) := dk_21 4 (dk_at dksX7_wantedLayer_1 18 rfl rfl)
theorem dX7_wantedLayer_44 : decode cX7_wantedLayer 44 = .ok (.baload, 1) := dk_51 (dk_at dksX7_wantedLayer_1 20 rfl rfl)
theorem dX7_wantedLayer_45 : decode cX7_wantedLayer 45 = .ok (.ifCond .eq 12, 3) := dk_153 0 12 (dk_at dksX7_wantedLayer_1 21 rfl rfl)
theorem dX7_wantedLayer_48 : decode cX7_wantedLayer 48 = .ok (.iload_n 3, 1) := dk_29 (dk_at dksX7_wantedLayer_2 0 rfl rfl)
theorem dX7_wantedLayer_49 : decode cX7_wantedLayer 49 = .ok (.iload 5, 2) := dk_21 5 (dk_at dksX7_wantedLayer_2 1 rfl rfl)
theorem dX7_wantedLayer_51 : decode cX7_wantedLayer 51 = .ok (.invokestatic 81, 3) := dk_184 0 81 (dk_at dksX7_wantedLayer_2 3 rfl rfl)
theorem dX7_wantedLayer_54 : decode cX7_wantedLayer 54 = .ok (.goto 4, 3) := dk_167 0 4 (dk_at dksX7_wantedLayer_2 6 rfl rfl)
theorem dX7_wantedLayer_57 : decode cX7_wantedLayer 57 = .ok (.iload_n 3, 1) := dk_29 (dk_at dksX7_wantedLayer_2 9 rfl rfl)
theorem dX7_wantedLayer_58 : decode cX7_wantedLayer 58 = .ok (.istore_n 3, 1) := dk_62 (dk_at dksX7_wantedLayer_2 10 rfl rfl)
theorem dX7_wantedLayer_59 : decode cX7_wantedLayer 59 = .ok (.iinc 4 1, 3) := dk_132 4 1 (dk_at dksX7_wantedLayer_2 11 rfl rfl)
theorem dX7_wantedLayer_62 : decode cX7_wantedLayer 62 = .ok (.goto (-57), 3) := dk_167 255 199 (dk_at dksX7_wantedLayer_2 14 rfl rfl)
theorem dX7_wantedLayer_65 : decode cX7_wantedLayer 65 = .ok (.iload_n 3, 1) := dk_29 (dk_at dksX7_wantedLayer_2 17 rfl rfl)
theorem dX7_wantedLayer_66 : decode cX7_wantedLayer 66 = .ok (.ireturn, 1) := dk_172 (dk_at dksX7_wantedLayer_2 18 rfl rfl)
abbrev cX7_longestChain : ByteArray := prog_19_method_6_code
def yX7_longestChain : MethodName := ⟨RX7, "longestChain", "(II)I"⟩
def dkwX7_longestChain_3 : List UInt8 := [132, 4, 1, 167, 255, 186, 29, 172]
abbrev dktX7_longestChain_3 : List UInt8 := dkwX7_longestChain_3 ++ []
def dkwX7_longestChain_2 : List UInt8 := [21, 5, 42, 180, 0, 16, 27, 50, 21, 4, 51, 153, 0, 7, 4, 167, 0, 4, 3, 96, 184, 0, 81, 62]
abbrev dktX7_longestChain_2 : List UInt8 := dkwX7_longestChain_2 ++ dktX7_longestChain_3
def dkwX7_longestChain_1 : List UInt8 := [28, 21, 4, 122, 4, 126, 154, 0, 42, 42, 21, 4, 28, 4, 21, 4, 120, 128, 182, 0, 88, 54, 5, 29]
abbrev dktX7_longestChain_1 : List UInt8 := dkwX7_longestChain_1 ++ dktX7_longestChain_2
def dkwX7_longestChain_0 : List UInt8 := [3, 62, 3, 54, 4, 21, 4, 16, 8, 162, 0, 69, 42, 180, 0, 11, 27, 50, 21, 4, 51, 153, 0, 51]
abbrev dktX7_longestChain_0 : List UInt8 := dkwX7_longestChain_0 ++ dktX7_longestChain_1
theorem dksX7_longestChain_0 : cX7_longestChain.data.toList.drop 0 = dktX7_longestChain_0 := by decide +kernel
theorem dksX7_longestChain_1 : cX7_longestChain.data.toList.drop 24 = dktX7_longestChain_1 := dk_seg dksX7_longestChain_0 24 rfl rfl
theorem dksX7_longestChain_2 : cX7_longestChain.data.toList.drop 48 = dktX7_longestChain_2 := dk_seg dksX7_longestChain_1 24 rfl rfl
theorem dksX7_longestChain_3 : cX7_longestChain.data.toList.drop 72 = dktX7_longestChain_3 := dk_seg dksX7_longestChain_2 24 rfl rfl
theorem dX7_longestChain_0 : decode cX7_longestChain 0 = .ok (.iconst 0, 1) := dk_3 (dk_at dksX7_longestChain_0 0 rfl rfl)
theorem dX7_longestChain_1 : decode cX7_longestChain 1 = .ok (.istore_n 3, 1) := dk_62 (dk_at dksX7_longestChain_0 1 rfl rfl)
theorem dX7_longestChain_2 : decode cX7_longestChain 2 = .ok (.iconst 0, 1) := dk_3 (dk_at dksX7_longestChain_0 2 rfl rfl)
theorem dX7_longestChain_3 : decode cX7_longestChain 3 = .ok (.istore 4, 2) := dk_54 4 (dk_at dksX7_longestChain_0 3 rfl rfl)
theorem dX7_longestChain_5 : decode cX7_longestChain 5 = .ok (.iload 4, 2) := dk_21 4 (dk_at dksX7_longestChain_0 5 rfl rfl)
theorem dX7_longestChain_7 : decode cX7_longestChain 7 = .ok (.bipush 8, 2) := dk_16 8 (dk_at dksX7_longestChain_0 7 rfl rfl)
theorem dX7_longestChain_9 : decode cX7_longestChain 9 = .ok (.if_icmp .ge 69, 3) := dk_162 0 69 (dk_at dksX7_longestChain_0 9 rfl rfl)
theorem dX7_longestChain_12 : decode cX7_longestChain 12 = .ok (.aload_n 0, 1) := dk_42 (dk_at dksX7_longestChain_0 12 rfl rfl)
theorem dX7_longestChain_13 : decode cX7_longestChain 13 = .ok (.getfield 11, 3) := dk_180 0 11 (dk_at dksX7_longestChain_0 13 rfl rfl)
theorem dX7_longestChain_16 : decode cX7_longestChain 16 = .ok (.iload_n 1, 1) := dk_27 (dk_at dksX7_longestChain_0 16 rfl rfl)
theorem dX7_longestChain_17 : decode cX7_longestChain 17 = .ok (.aaload, 1) := dk_50 (dk_at dksX7_longestChain_0 17 rfl rfl)
theorem dX7_longestChain_18 : decode cX7_longestChain 18 = .ok (.iload 4, 2) := dk_21 4 (dk_at dksX7_longestChain_0 18 rfl rfl)
theorem dX7_longestChain_20 : decode cX7_longestChain 20 = .ok (.baload, 1) := dk_51 (dk_at dksX7_longestChain_0 20 rfl rfl)
theorem dX7_longestChain_21 : decode cX7_longestChain 21 = .ok (.ifCond .eq 51, 3) := dk_153 0 51 (dk_at dksX7_longestChain_0 21 rfl rfl)
theorem dX7_longestChain_24 : decode cX7_longestChain 24 = .ok (.iload_n 2, 1) := dk_28 (dk_at dksX7_longestChain_1 0 rfl rfl)
theorem dX7_longestChain_25 : decode cX7_longestChain 25 = .ok (.iload 4, 2) := dk_21 4 (dk_at dksX7_longestChain_1 1 rfl rfl)
theorem dX7_longestChain_27 : decode cX7_longestChain 27 = .ok (.ishr, 1) := dk_122 (dk_at dksX7_longestChain_1 3 rfl rfl)
theorem dX7_longestChain_28 : decode cX7_longestChain 28 = .ok (.iconst 1, 1) := dk_4 (dk_at dksX7_longestChain_1 4 rfl rfl)
theorem dX7_longestChain_29 : decode cX7_longestChain 29 = .ok (.iand, 1) := dk_126 (dk_at dksX7_longestChain_1 5 rfl rfl)
theorem dX7_longestChain_30 : decode cX7_longestChain 30 = .ok (.ifCond .ne 42, 3) := dk_154 0 42 (dk_at dksX7_longestChain_1 6 rfl rfl)
theorem dX7_longestChain_33 : decode cX7_longestChain 33 = .ok (.aload_n 0, 1) := dk_42 (dk_at dksX7_longestChain_1 9 rfl rfl)
theorem dX7_longestChain_34 : decode cX7_longestChain 34 = .ok (.iload 4, 2) := dk_21 4 (dk_at dksX7_longestChain_1 10 rfl rfl)
theorem dX7_longestChain_36 : decode cX7_longestChain 36 = .ok (.iload_n 2, 1) := dk_28 (dk_at dksX7_longestChain_1 12 rfl rfl)
theorem dX7_longestChain_37 : decode cX7_longestChain 37 = .ok (.iconst 1, 1) := dk_4 (dk_at dksX7_longestChain_1 13 rfl rfl)
theorem dX7_longestChain_38 : decode cX7_longestChain 38 = .ok (.iload 4, 2) := dk_21 4 (dk_at dksX7_longestChain_1 14 rfl rfl)
theorem dX7_longestChain_40 : decode cX7_longestChain 40 = .ok (.ishl, 1) := dk_120 (dk_at dksX7_longestChain_1 16 rfl rfl)
theorem dX7_longestChain_41 : decode cX7_longestChain 41 = .ok (.ior, 1) := dk_128 (dk_at dksX7_longestChain_1 17 rfl rfl)
theorem dX7_longestChain_42 : decode cX7_longestChain 42 = .ok (.invokevirtual 88, 3) := dk_182 0 88 (dk_at dksX7_longestChain_1 18 rfl rfl)
theorem dX7_longestChain_45 : decode cX7_longestChain 45 = .ok (.istore 5, 2) := dk_54 5 (dk_at dksX7_longestChain_1 21 rfl rfl)
theorem dX7_longestChain_47 : decode cX7_longestChain 47 = .ok (.iload_n 3, 1) := dk_29 (dk_at dksX7_longestChain_1 23 rfl rfl)
theorem dX7_longestChain_48 : decode cX7_longestChain 48 = .ok (.iload 5, 2) := dk_21 5 (dk_at dksX7_longestChain_2 0 rfl rfl)
theorem dX7_longestChain_50 : decode cX7_longestChain 50 = .ok (.aload_n 0, 1) := dk_42 (dk_at dksX7_longestChain_2 2 rfl rfl)
theorem dX7_longestChain_51 : decode cX7_longestChain 51 = .ok (.getfield 16, 3) := dk_180 0 16 (dk_at dksX7_longestChain_2 3 rfl rfl)
theorem dX7_longestChain_54 : decode cX7_longestChain 54 = .ok (.iload_n 1, 1) := dk_27 (dk_at dksX7_longestChain_2 6 rfl rfl)
theorem dX7_longestChain_55 : decode cX7_longestChain 55 = .ok (.aaload, 1) := dk_50 (dk_at dksX7_longestChain_2 7 rfl rfl)
theorem dX7_longestChain_56 : decode cX7_longestChain 56 = .ok (.iload 4, 2) := dk_21 4 (dk_at dksX7_longestChain_2 8 rfl rfl)
theorem dX7_longestChain_58 : decode cX7_longestChain 58 = .ok (.baload, 1) := dk_51 (dk_at dksX7_longestChain_2 10 rfl rfl)
theorem dX7_longestChain_59 : decode cX7_longestChain 59 = .ok (.ifCond .eq 7, 3) := dk_153 0 7 (dk_at dksX7_longestChain_2 11 rfl rfl)
theorem dX7_longestChain_62 : decode cX7_longestChain 62 = .ok (.iconst 1, 1) := dk_4 (dk_at dksX7_longestChain_2 14 rfl rfl)
theorem dX7_longestChain_63 : decode cX7_longestChain 63 = .ok (.goto 4, 3) := dk_167 0 4 (dk_at dksX7_longestChain_2 15 rfl rfl)
theorem dX7_longestChain_66 : decode cX7_longestChain 66 = .ok (.iconst 0, 1) := dk_3 (dk_at dksX7_longestChain_2 18 rfl rfl)
theorem dX7_longestChain_67 : decode cX7_longestChain 67 = .ok (.iadd, 1) := dk_96 (dk_at dksX7_longestChain_2 19 rfl rfl)
theorem dX7_longestChain_68 : decode cX7_longestChain 68 = .ok (.invokestatic 81, 3) := dk_184 0 81 (dk_at dksX7_longestChain_2 20 rfl rfl)
theorem dX7_longestChain_71 : decode cX7_longestChain 71 = .ok (.istore_n 3, 1) := dk_62 (dk_at dksX7_longestChain_2 23 rfl rfl)
theorem dX7_longestChain_72 : decode cX7_longestChain 72 = .ok (.iinc 4 1, 3) := dk_132 4 1 (dk_at dksX7_longestChain_3 0 rfl rfl)
theorem dX7_longestChain_75 : decode cX7_longestChain 75 = .ok (.goto (-70), 3) := dk_167 255 186 (dk_at dksX7_longestChain_3 3 rfl rfl)
theorem dX7_longestChain_78 : decode cX7_longestChain 78 = .ok (.iload_n 3, 1) := dk_29 (dk_at dksX7_longestChain_3 6 rfl rfl)
theorem dX7_longestChain_79 : decode cX7_longestChain 79 = .ok (.ireturn, 1) := dk_172 (dk_at dksX7_longestChain_3 7 rfl rfl)
abbrev cX7_reached : ByteArray := prog_19_method_7_code
def yX7_reached : MethodName := ⟨RX7, "reached", "(I)I"⟩
def dkwX7_reached_4 : List UInt8 := [185, 0, 100, 2, 0, 132, 5, 1, 167, 255, 206, 167, 255, 177, 28, 172]
abbrev dktX7_reached_4 : List UInt8 := dkwX7_reached_4 ++ []
def dkwX7_reached_3 : List UInt8 := [21, 5, 122, 4, 126, 154, 0, 21, 28, 4, 21, 5, 120, 128, 61, 45, 21, 5, 184, 0, 94]
abbrev dktX7_reached_3 : List UInt8 := dkwX7_reached_3 ++ dktX7_reached_4
def dkwX7_reached_2 : List UInt8 := [54, 5, 21, 5, 16, 8, 162, 0, 49, 42, 180, 0, 11, 21, 4, 50, 21, 5, 51, 153, 0, 30, 28]
abbrev dktX7_reached_2 : List UInt8 := dkwX7_reached_2 ++ dktX7_reached_3
def dkwX7_reached_1 : List UInt8 := [185, 0, 106, 1, 0, 154, 0, 76, 45, 185, 0, 109, 1, 0, 192, 0, 95, 182, 0, 112, 54, 4, 3]
abbrev dktX7_reached_1 : List UInt8 := dkwX7_reached_1 ++ dktX7_reached_2
def dkwX7_reached_0 : List UInt8 := [3, 61, 187, 0, 91, 89, 183, 0, 93, 78, 45, 27, 184, 0, 94, 185, 0, 100, 2, 0, 45]
abbrev dktX7_reached_0 : List UInt8 := dkwX7_reached_0 ++ dktX7_reached_1
theorem dksX7_reached_0 : cX7_reached.data.toList.drop 0 = dktX7_reached_0 := by decide +kernel
theorem dksX7_reached_1 : cX7_reached.data.toList.drop 21 = dktX7_reached_1 := dk_seg dksX7_reached_0 21 rfl rfl
theorem dksX7_reached_2 : cX7_reached.data.toList.drop 44 = dktX7_reached_2 := dk_seg dksX7_reached_1 23 rfl rfl
theorem dksX7_reached_3 : cX7_reached.data.toList.drop 67 = dktX7_reached_3 := dk_seg dksX7_reached_2 23 rfl rfl
theorem dksX7_reached_4 : cX7_reached.data.toList.drop 88 = dktX7_reached_4 := dk_seg dksX7_reached_3 21 rfl rfl
theorem dX7_reached_0 : decode cX7_reached 0 = .ok (.iconst 0, 1) := dk_3 (dk_at dksX7_reached_0 0 rfl rfl)
theorem dX7_reached_1 : decode cX7_reached 1 = .ok (.istore_n 2, 1) := dk_61 (dk_at dksX7_reached_0 1 rfl rfl)
theorem dX7_reached_2 : decode cX7_reached 2 = .ok (.new 91, 3) := dk_187 0 91 (dk_at dksX7_reached_0 2 rfl rfl)
theorem dX7_reached_5 : decode cX7_reached 5 = .ok (.dup, 1) := dk_89 (dk_at dksX7_reached_0 5 rfl rfl)
theorem dX7_reached_6 : decode cX7_reached 6 = .ok (.invokespecial 93, 3) := dk_183 0 93 (dk_at dksX7_reached_0 6 rfl rfl)
theorem dX7_reached_9 : decode cX7_reached 9 = .ok (.astore_n 3, 1) := dk_78 (dk_at dksX7_reached_0 9 rfl rfl)
theorem dX7_reached_10 : decode cX7_reached 10 = .ok (.aload_n 3, 1) := dk_45 (dk_at dksX7_reached_0 10 rfl rfl)
theorem dX7_reached_11 : decode cX7_reached 11 = .ok (.iload_n 1, 1) := dk_27 (dk_at dksX7_reached_0 11 rfl rfl)
theorem dX7_reached_12 : decode cX7_reached 12 = .ok (.invokestatic 94, 3) := dk_184 0 94 (dk_at dksX7_reached_0 12 rfl rfl)
theorem dX7_reached_15 : decode cX7_reached 15 = .ok (.invokeinterface 100 2, 5) := by decide +kernel
theorem dX7_reached_20 : decode cX7_reached 20 = .ok (.aload_n 3, 1) := dk_45 (dk_at dksX7_reached_0 20 rfl rfl)
theorem dX7_reached_21 : decode cX7_reached 21 = .ok (.invokeinterface 106 1, 5) := by decide +kernel
theorem dX7_reached_26 : decode cX7_reached 26 = .ok (.ifCond .ne 76, 3) := dk_154 0 76 (dk_at dksX7_reached_1 5 rfl rfl)
theorem dX7_reached_29 : decode cX7_reached 29 = .ok (.aload_n 3, 1) := dk_45 (dk_at dksX7_reached_1 8 rfl rfl)
theorem dX7_reached_30 : decode cX7_reached 30 = .ok (.invokeinterface 109 1, 5) := by decide +kernel
theorem dX7_reached_35 : decode cX7_reached 35 = .ok (.checkcast 95, 3) := dk_192 0 95 (dk_at dksX7_reached_1 14 rfl rfl)
theorem dX7_reached_38 : decode cX7_reached 38 = .ok (.invokevirtual 112, 3) := dk_182 0 112 (dk_at dksX7_reached_1 17 rfl rfl)
theorem dX7_reached_41 : decode cX7_reached 41 = .ok (.istore 4, 2) := dk_54 4 (dk_at dksX7_reached_1 20 rfl rfl)
theorem dX7_reached_43 : decode cX7_reached 43 = .ok (.iconst 0, 1) := dk_3 (dk_at dksX7_reached_1 22 rfl rfl)
theorem dX7_reached_44 : decode cX7_reached 44 = .ok (.istore 5, 2) := dk_54 5 (dk_at dksX7_reached_2 0 rfl rfl)
theorem dX7_reached_46 : decode cX7_reached 46 = .ok (.iload 5, 2) := dk_21 5 (dk_at dksX7_reached_2 2 rfl rfl)
theorem dX7_reached_48 : decode cX7_reached 48 = .ok (.bipush 8, 2) := dk_16 8 (dk_at dksX7_reached_2 4 rfl rfl)
theorem dX7_reached_50 : decode cX7_reached 50 = .ok (.if_icmp .ge 49, 3) := dk_162 0 49 (dk_at dksX7_reached_2 6 rfl rfl)
theorem dX7_reached_53 : decode cX7_reached 53 = .ok (.aload_n 0, 1) := dk_42 (dk_at dksX7_reached_2 9 rfl rfl)
theorem dX7_reached_54 : decode cX7_reached 54 = .ok (.getfield 11, 3) := dk_180 0 11 (dk_at dksX7_reached_2 10 rfl rfl)
theorem dX7_reached_57 : decode cX7_reached 57 = .ok (.iload 4, 2) := dk_21 4 (dk_at dksX7_reached_2 13 rfl rfl)
theorem dX7_reached_59 : decode cX7_reached 59 = .ok (.aaload, 1) := dk_50 (dk_at dksX7_reached_2 15 rfl rfl)
theorem dX7_reached_60 : decode cX7_reached 60 = .ok (.iload 5, 2) := dk_21 5 (dk_at dksX7_reached_2 16 rfl rfl)
theorem dX7_reached_62 : decode cX7_reached 62 = .ok (.baload, 1) := dk_51 (dk_at dksX7_reached_2 18 rfl rfl)
theorem dX7_reached_63 : decode cX7_reached 63 = .ok (.ifCond .eq 30, 3) := dk_153 0 30 (dk_at dksX7_reached_2 19 rfl rfl)
theorem dX7_reached_66 : decode cX7_reached 66 = .ok (.iload_n 2, 1) := dk_28 (dk_at dksX7_reached_2 22 rfl rfl)
theorem dX7_reached_67 : decode cX7_reached 67 = .ok (.iload 5, 2) := dk_21 5 (dk_at dksX7_reached_3 0 rfl rfl)
theorem dX7_reached_69 : decode cX7_reached 69 = .ok (.ishr, 1) := dk_122 (dk_at dksX7_reached_3 2 rfl rfl)
theorem dX7_reached_70 : decode cX7_reached 70 = .ok (.iconst 1, 1) := dk_4 (dk_at dksX7_reached_3 3 rfl rfl)
theorem dX7_reached_71 : decode cX7_reached 71 = .ok (.iand, 1) := dk_126 (dk_at dksX7_reached_3 4 rfl rfl)
theorem dX7_reached_72 : decode cX7_reached 72 = .ok (.ifCond .ne 21, 3) := dk_154 0 21 (dk_at dksX7_reached_3 5 rfl rfl)
theorem dX7_reached_75 : decode cX7_reached 75 = .ok (.iload_n 2, 1) := dk_28 (dk_at dksX7_reached_3 8 rfl rfl)
theorem dX7_reached_76 : decode cX7_reached 76 = .ok (.iconst 1, 1) := dk_4 (dk_at dksX7_reached_3 9 rfl rfl)
theorem dX7_reached_77 : decode cX7_reached 77 = .ok (.iload 5, 2) := dk_21 5 (dk_at dksX7_reached_3 10 rfl rfl)
theorem dX7_reached_79 : decode cX7_reached 79 = .ok (.ishl, 1) := dk_120 (dk_at dksX7_reached_3 12 rfl rfl)
theorem dX7_reached_80 : decode cX7_reached 80 = .ok (.ior, 1) := dk_128 (dk_at dksX7_reached_3 13 rfl rfl)
theorem dX7_reached_81 : decode cX7_reached 81 = .ok (.istore_n 2, 1) := dk_61 (dk_at dksX7_reached_3 14 rfl rfl)
theorem dX7_reached_82 : decode cX7_reached 82 = .ok (.aload_n 3, 1) := dk_45 (dk_at dksX7_reached_3 15 rfl rfl)
theorem dX7_reached_83 : decode cX7_reached 83 = .ok (.iload 5, 2) := dk_21 5 (dk_at dksX7_reached_3 16 rfl rfl)
theorem dX7_reached_85 : decode cX7_reached 85 = .ok (.invokestatic 94, 3) := dk_184 0 94 (dk_at dksX7_reached_3 18 rfl rfl)
theorem dX7_reached_88 : decode cX7_reached 88 = .ok (.invokeinterface 100 2, 5) := by decide +kernel
theorem dX7_reached_93 : decode cX7_reached 93 = .ok (.iinc 5 1, 3) := dk_132 5 1 (dk_at dksX7_reached_4 5 rfl rfl)
theorem dX7_reached_96 : decode cX7_reached 96 = .ok (.goto (-50), 3) := dk_167 255 206 (dk_at dksX7_reached_4 8 rfl rfl)
theorem dX7_reached_99 : decode cX7_reached 99 = .ok (.goto (-79), 3) := dk_167 255 177 (dk_at dksX7_reached_4 11 rfl rfl)
theorem dX7_reached_102 : decode cX7_reached 102 = .ok (.iload_n 2, 1) := dk_28 (dk_at dksX7_reached_4 14 rfl rfl)
theorem dX7_reached_103 : decode cX7_reached 103 = .ok (.ireturn, 1) := dk_172 (dk_at dksX7_reached_4 15 rfl rfl)
abbrev cX7_isCircle : ByteArray := prog_19_method_5_code
def yX7_isCircle : MethodName := ⟨RX7, "isCircle", "()Z"⟩
def dkwX7_isCircle_2 : List UInt8 := [172]
abbrev dktX7_isCircle_2 : List UInt8 := dkwX7_isCircle_2 ++ []
def dkwX7_isCircle_1 : List UInt8 := [54, 5, 27, 21, 5, 16, 8, 160, 0, 7, 4, 167, 0, 4, 3, 128, 60, 132, 4, 1, 167, 255, 226, 27]
abbrev dktX7_isCircle_1 : List UInt8 := dkwX7_isCircle_1 ++ dktX7_isCircle_2
def dkwX7_isCircle_0 : List UInt8 := [3, 60, 42, 182, 0, 84, 77, 44, 190, 62, 3, 54, 4, 21, 4, 29, 162, 0, 30, 44, 21, 4, 46]
abbrev dktX7_isCircle_0 : List UInt8 := dkwX7_isCircle_0 ++ dktX7_isCircle_1
theorem dksX7_isCircle_0 : cX7_isCircle.data.toList.drop 0 = dktX7_isCircle_0 := by decide +kernel
theorem dksX7_isCircle_1 : cX7_isCircle.data.toList.drop 23 = dktX7_isCircle_1 := dk_seg dksX7_isCircle_0 23 rfl rfl
theorem dksX7_isCircle_2 : cX7_isCircle.data.toList.drop 47 = dktX7_isCircle_2 := dk_seg dksX7_isCircle_1 24 rfl rfl
theorem dX7_isCircle_0 : decode cX7_isCircle 0 = .ok (.iconst 0, 1) := dk_3 (dk_at dksX7_isCircle_0 0 rfl rfl)
theorem dX7_isCircle_1 : decode cX7_isCircle 1 = .ok (.istore_n 1, 1) := dk_60 (dk_at dksX7_isCircle_0 1 rfl rfl)
theorem dX7_isCircle_2 : decode cX7_isCircle 2 = .ok (.aload_n 0, 1) := dk_42 (dk_at dksX7_isCircle_0 2 rfl rfl)
theorem dX7_isCircle_3 : decode cX7_isCircle 3 = .ok (.invokevirtual 84, 3) := dk_182 0 84 (dk_at dksX7_isCircle_0 3 rfl rfl)
theorem dX7_isCircle_6 : decode cX7_isCircle 6 = .ok (.astore_n 2, 1) := dk_77 (dk_at dksX7_isCircle_0 6 rfl rfl)
theorem dX7_isCircle_7 : decode cX7_isCircle 7 = .ok (.aload_n 2, 1) := dk_44 (dk_at dksX7_isCircle_0 7 rfl rfl)
theorem dX7_isCircle_8 : decode cX7_isCircle 8 = .ok (.arraylength, 1) := dk_190 (dk_at dksX7_isCircle_0 8 rfl rfl)
theorem dX7_isCircle_9 : decode cX7_isCircle 9 = .ok (.istore_n 3, 1) := dk_62 (dk_at dksX7_isCircle_0 9 rfl rfl)
theorem dX7_isCircle_10 : decode cX7_isCircle 10 = .ok (.iconst 0, 1) := dk_3 (dk_at dksX7_isCircle_0 10 rfl rfl)
theorem dX7_isCircle_11 : decode cX7_isCircle 11 = .ok (.istore 4, 2) := dk_54 4 (dk_at dksX7_isCircle_0 11 rfl rfl)
theorem dX7_isCircle_13 : decode cX7_isCircle 13 = .ok (.iload 4, 2) := dk_21 4 (dk_at dksX7_isCircle_0 13 rfl rfl)
theorem dX7_isCircle_15 : decode cX7_isCircle 15 = .ok (.iload_n 3, 1) := dk_29 (dk_at dksX7_isCircle_0 15 rfl rfl)
theorem dX7_isCircle_16 : decode cX7_isCircle 16 = .ok (.if_icmp .ge 30, 3) := dk_162 0 30 (dk_at dksX7_isCircle_0 16 rfl rfl)
theorem dX7_isCircle_19 : decode cX7_isCircle 19 = .ok (.aload_n 2, 1) := dk_44 (dk_at dksX7_isCircle_0 19 rfl rfl)
theorem dX7_isCircle_20 : decode cX7_isCircle 20 = .ok (.iload 4, 2) := dk_21 4 (dk_at dksX7_isCircle_0 20 rfl rfl)
theorem dX7_isCircle_22 : decode cX7_isCircle 22 = .ok (.iaload, 1) := dk_46 (dk_at dksX7_isCircle_0 22 rfl rfl)
theorem dX7_isCircle_23 : decode cX7_isCircle 23 = .ok (.istore 5, 2) := dk_54 5 (dk_at dksX7_isCircle_1 0 rfl rfl)
theorem dX7_isCircle_25 : decode cX7_isCircle 25 = .ok (.iload_n 1, 1) := dk_27 (dk_at dksX7_isCircle_1 2 rfl rfl)
theorem dX7_isCircle_26 : decode cX7_isCircle 26 = .ok (.iload 5, 2) := dk_21 5 (dk_at dksX7_isCircle_1 3 rfl rfl)
theorem dX7_isCircle_28 : decode cX7_isCircle 28 = .ok (.bipush 8, 2) := dk_16 8 (dk_at dksX7_isCircle_1 5 rfl rfl)
theorem dX7_isCircle_30 : decode cX7_isCircle 30 = .ok (.if_icmp .ne 7, 3) := dk_160 0 7 (dk_at dksX7_isCircle_1 7 rfl rfl)
theorem dX7_isCircle_33 : decode cX7_isCircle 33 = .ok (.iconst 1, 1) := dk_4 (dk_at dksX7_isCircle_1 10 rfl rfl)
theorem dX7_isCircle_34 : decode cX7_isCircle 34 = .ok (.goto 4, 3) := dk_167 0 4 (dk_at dksX7_isCircle_1 11 rfl rfl)
theorem dX7_isCircle_37 : decode cX7_isCircle 37 = .ok (.iconst 0, 1) := dk_3 (dk_at dksX7_isCircle_1 14 rfl rfl)
theorem dX7_isCircle_38 : decode cX7_isCircle 38 = .ok (.ior, 1) := dk_128 (dk_at dksX7_isCircle_1 15 rfl rfl)
theorem dX7_isCircle_39 : decode cX7_isCircle 39 = .ok (.istore_n 1, 1) := dk_60 (dk_at dksX7_isCircle_1 16 rfl rfl)
theorem dX7_isCircle_40 : decode cX7_isCircle 40 = .ok (.iinc 4 1, 3) := dk_132 4 1 (dk_at dksX7_isCircle_1 17 rfl rfl)
theorem dX7_isCircle_43 : decode cX7_isCircle 43 = .ok (.goto (-30), 3) := dk_167 255 226 (dk_at dksX7_isCircle_1 20 rfl rfl)
theorem dX7_isCircle_46 : decode cX7_isCircle 46 = .ok (.iload_n 1, 1) := dk_27 (dk_at dksX7_isCircle_1 23 rfl rfl)
theorem dX7_isCircle_47 : decode cX7_isCircle 47 = .ok (.ireturn, 1) := dk_172 (dk_at dksX7_isCircle_2 0 rfl rfl)
theorem q138 : (Jvm.Cond.initialized "BrambleLogic$Needs") ∈ lw_all := lw_g (lw_at lw_m1 31 rfl) rfl
theorem q373 : (Jvm.Cond.instantiable "BrambleLogic$Needs" (2 : Nat)) ∈ lw_all := lw_g (lw_at lw_m2 26 rfl) rfl
theorem q375 : (Jvm.Cond.instanceMethod ({ cls := "BrambleLogic$Needs", name := "<init>", desc := "(Ljava/util/List;)V" } : Jvm.MethodName)) ∈ lw_all := lw_g (lw_at lw_m2 28 rfl) rfl
theorem q376 : (Jvm.Cond.code ({ cls := "BrambleLogic$Needs", name := "<init>", desc := "(Ljava/util/List;)V" } : Jvm.MethodName) prog_19_method_1_code (6 : Nat) (Option.none : Option Jvm.ClassFile.FieldType)) ∈ lw_all := lw_g (lw_at lw_m2 29 rfl) rfl
theorem q377 : (Jvm.Cond.methodLink "BrambleLogic$Needs" (3 : Nat) ({ cls := "java/lang/Object", name := "<init>", desc := "()V" } : Jvm.MethodName)) ∈ lw_all := lw_g (lw_at lw_m2 30 rfl) rfl
theorem q378 : (Jvm.Cond.classLink "BrambleLogic$Needs" (9 : Nat) "[[Z") ∈ lw_all := lw_g (lw_at lw_m2 31 rfl) rfl
theorem q380 : (Jvm.Cond.interfaceEntry "BrambleLogic$Needs" (19 : Nat)) ∈ lw_tbl := lw_at lw_m2 33 rfl
theorem q381 : (Jvm.Cond.methodLink "BrambleLogic$Needs" (19 : Nat) ({ cls := "java/util/List", name := "iterator", desc := "()Ljava/util/Iterator;" } : Jvm.MethodName)) ∈ lw_all := lw_g (lw_at lw_m2 34 rfl) rfl
theorem q410 : (Jvm.Cond.interfaceEntry "BrambleLogic$Needs" (25 : Nat)) ∈ lw_tbl := lw_at lw_m2 63 rfl
theorem q411 : (Jvm.Cond.methodLink "BrambleLogic$Needs" (25 : Nat) ({ cls := "java/util/Iterator", name := "hasNext", desc := "()Z" } : Jvm.MethodName)) ∈ lw_all := lw_g (lw_at lw_m2 64 rfl) rfl
theorem q420 : (Jvm.Cond.interfaceEntry "BrambleLogic$Needs" (31 : Nat)) ∈ lw_tbl := lw_at lw_m2 73 rfl
theorem q421 : (Jvm.Cond.methodLink "BrambleLogic$Needs" (31 : Nat) ({ cls := "java/util/Iterator", name := "next", desc := "()Ljava/lang/Object;" } : Jvm.MethodName)) ∈ lw_all := lw_g (lw_at lw_m2 74 rfl) rfl
theorem q504 : (Jvm.Cond.classLink "BrambleLogic$Needs" (35 : Nat) "BrambleLogic$Rule") ∈ lw_all := lw_g (lw_at lw_m2 157 rfl) rfl
theorem q505 : (Jvm.Cond.classLink "BrambleLogic$Needs" (41 : Nat) "BrambleLogic$Literal") ∈ lw_all := lw_g (lw_at lw_m2 158 rfl) rfl
theorem q506 : (Jvm.Cond.methodLink "BrambleLogic$Needs" (53 : Nat) ({ cls := "BrambleLogic$Needs", name := "add", desc := "(ILBrambleLogic$Literal;)V" } : Jvm.MethodName)) ∈ lw_all := lw_g (lw_at lw_m2 159 rfl) rfl
theorem q507 : (Jvm.Cond.privateMethod ({ cls := "BrambleLogic$Needs", name := "add", desc := "(ILBrambleLogic$Literal;)V" } : Jvm.MethodName)) ∈ lw_tbl := lw_at lw_m2 160 rfl
theorem q508 : (Jvm.Cond.instanceMethod ({ cls := "BrambleLogic$Needs", name := "add", desc := "(ILBrambleLogic$Literal;)V" } : Jvm.MethodName)) ∈ lw_all := lw_g (lw_at lw_m2 161 rfl) rfl
theorem q509 : (Jvm.Cond.code ({ cls := "BrambleLogic$Needs", name := "add", desc := "(ILBrambleLogic$Literal;)V" } : Jvm.MethodName) prog_19_method_2_code (4 : Nat) (Option.none : Option Jvm.ClassFile.FieldType)) ∈ lw_all := lw_g (lw_at lw_m2 162 rfl) rfl
theorem q510 : (Jvm.Cond.interfaceEntry "BrambleLogic$Needs" (57 : Nat)) ∈ lw_tbl := lw_at lw_m2 163 rfl
theorem q511 : (Jvm.Cond.methodLink "BrambleLogic$Needs" (57 : Nat) ({ cls := "BrambleLogic$Literal", name := "atom", desc := "()Ljava/util/Optional;" } : Jvm.MethodName)) ∈ lw_all := lw_g (lw_at lw_m2 164 rfl) rfl
theorem q546 : (Jvm.Cond.methodLink "BrambleLogic$Needs" (61 : Nat) ({ cls := "java/util/Optional", name := "isPresent", desc := "()Z" } : Jvm.MethodName)) ∈ lw_all := lw_g (lw_at lw_m2 199 rfl) rfl
theorem q550 : (Jvm.Cond.methodLink "BrambleLogic$Needs" (66 : Nat) ({ cls := "java/util/Optional", name := "get", desc := "()Ljava/lang/Object;" } : Jvm.MethodName)) ∈ lw_all := lw_g (lw_at lw_m2 203 rfl) rfl
theorem q568 : (Jvm.Cond.classLink "BrambleLogic$Needs" (48 : Nat) "BrambleLogic$Atom") ∈ lw_all := lw_g (lw_at lw_m2 221 rfl) rfl
theorem q569 : (Jvm.Cond.interfaceEntry "BrambleLogic$Needs" (69 : Nat)) ∈ lw_tbl := lw_at lw_m2 222 rfl
theorem q570 : (Jvm.Cond.methodLink "BrambleLogic$Needs" (69 : Nat) ({ cls := "BrambleLogic$Literal", name := "isNegative", desc := "()Z" } : Jvm.MethodName)) ∈ lw_all := lw_g (lw_at lw_m2 223 rfl) rfl
theorem q594 : (Jvm.Cond.fieldLink "BrambleLogic$Needs" (11 : Nat) "BrambleLogic$Needs" "isNeeded" "[[Z") ∈ lw_all := lw_g (lw_at lw_m3 7 rfl) rfl
theorem q595 : (Jvm.Cond.fieldLink "BrambleLogic$Needs" (16 : Nat) "BrambleLogic$Needs" "isNegative" "[[Z") ∈ lw_all := lw_g (lw_at lw_m3 8 rfl) rfl
theorem q596 : (Jvm.Cond.laysFinal "BrambleLogic$Needs" "BrambleLogic$Needs" "isNeeded" "[[Z") ∈ lw_all := lw_g (lw_at lw_m3 9 rfl) rfl
theorem q597 : (Jvm.Cond.soleField "BrambleLogic$Needs" "isNeeded") ∈ lw_all := lw_g (lw_at lw_m3 10 rfl) rfl
theorem q598 : (Jvm.Cond.laysFinal "BrambleLogic$Needs" "BrambleLogic$Needs" "isNegative" "[[Z") ∈ lw_all := lw_g (lw_at lw_m3 11 rfl) rfl
theorem q599 : (Jvm.Cond.soleField "BrambleLogic$Needs" "isNegative") ∈ lw_all := lw_g (lw_at lw_m3 12 rfl) rfl
theorem q600 : (Jvm.Cond.superclass "BrambleLogic$Needs" "java/lang/Object") ∈ lw_all := lw_g (lw_at lw_m3 13 rfl) rfl
theorem q602 : (Jvm.Cond.instanceMethod ({ cls := "BrambleLogic$Needs", name := "layers", desc := "()[I" } : Jvm.MethodName)) ∈ lw_all := lw_g (lw_at lw_m3 15 rfl) rfl
theorem q603 : (Jvm.Cond.selects "BrambleLogic$Needs" ({ cls := "BrambleLogic$Needs", name := "layers", desc := "()[I" } : Jvm.MethodName) ({ cls := "BrambleLogic$Needs", name := "layers", desc := "()[I" } : Jvm.MethodName)) ∈ lw_all := lw_g (lw_at lw_m3 16 rfl) rfl
theorem q604 : (Jvm.Cond.code ({ cls := "BrambleLogic$Needs", name := "layers", desc := "()[I" } : Jvm.MethodName) prog_19_method_3_code (5 : Nat) (Option.some (Jvm.ClassFile.FieldType.array Jvm.ClassFile.FieldType.int))) ∈ lw_all := lw_g (lw_at lw_m3 17 rfl) rfl
theorem q605 : (Jvm.Cond.methodLink "BrambleLogic$Needs" (71 : Nat) ({ cls := "BrambleLogic$Needs", name := "wantedLayer", desc := "(I[I)I" } : Jvm.MethodName)) ∈ lw_all := lw_g (lw_at lw_m3 18 rfl) rfl
theorem q606 : (Jvm.Cond.privateMethod ({ cls := "BrambleLogic$Needs", name := "wantedLayer", desc := "(I[I)I" } : Jvm.MethodName)) ∈ lw_tbl := lw_at lw_m3 19 rfl
theorem q607 : (Jvm.Cond.instanceMethod ({ cls := "BrambleLogic$Needs", name := "wantedLayer", desc := "(I[I)I" } : Jvm.MethodName)) ∈ lw_all := lw_g (lw_at lw_m3 20 rfl) rfl
theorem q608 : (Jvm.Cond.code ({ cls := "BrambleLogic$Needs", name := "wantedLayer", desc := "(I[I)I" } : Jvm.MethodName) prog_19_method_4_code (6 : Nat) (Option.some Jvm.ClassFile.FieldType.int)) ∈ lw_all := lw_g (lw_at lw_m3 21 rfl) rfl
theorem q609 : (Jvm.Cond.methodLink "BrambleLogic$Needs" (81 : Nat) ({ cls := "java/lang/Math", name := "max", desc := "(II)I" } : Jvm.MethodName)) ∈ lw_all := lw_g (lw_at lw_m3 22 rfl) rfl
theorem q612 : (Jvm.Cond.methodLink "BrambleLogic$Needs" (75 : Nat) ({ cls := "java/lang/Math", name := "min", desc := "(II)I" } : Jvm.MethodName)) ∈ lw_all := lw_g (lw_at lw_m3 25 rfl) rfl
theorem q709 : (Jvm.Cond.selects "BrambleLogic$Needs" ({ cls := "java/lang/Object", name := "getClass", desc := "()Ljava/lang/Class;" } : Jvm.MethodName) ({ cls := "java/lang/Object", name := "getClass", desc := "()Ljava/lang/Class;" } : Jvm.MethodName)) ∈ lw_all := lw_g (lw_at lw_m3 122 rfl) rfl
theorem q1198 : (Jvm.Cond.instanceMethod ({ cls := "BrambleLogic$Needs", name := "longestChain", desc := "(II)I" } : Jvm.MethodName)) ∈ lw_all := lw_g (lw_at lw_m5 131 rfl) rfl
theorem q1199 : (Jvm.Cond.selects "BrambleLogic$Needs" ({ cls := "BrambleLogic$Needs", name := "longestChain", desc := "(II)I" } : Jvm.MethodName) ({ cls := "BrambleLogic$Needs", name := "longestChain", desc := "(II)I" } : Jvm.MethodName)) ∈ lw_all := lw_g (lw_at lw_m5 132 rfl) rfl
theorem q1200 : (Jvm.Cond.code ({ cls := "BrambleLogic$Needs", name := "longestChain", desc := "(II)I" } : Jvm.MethodName) prog_19_method_6_code (6 : Nat) (Option.some Jvm.ClassFile.FieldType.int)) ∈ lw_all := lw_g (lw_at lw_m5 133 rfl) rfl
theorem q1201 : (Jvm.Cond.methodLink "BrambleLogic$Needs" (88 : Nat) ({ cls := "BrambleLogic$Needs", name := "longestChain", desc := "(II)I" } : Jvm.MethodName)) ∈ lw_all := lw_g (lw_at lw_m5 134 rfl) rfl
theorem q1989 : (Jvm.Cond.instanceMethod ({ cls := "BrambleLogic$Needs", name := "reached", desc := "(I)I" } : Jvm.MethodName)) ∈ lw_all := lw_g (lw_at lw_m8 202 rfl) rfl
theorem q1990 : (Jvm.Cond.selects "BrambleLogic$Needs" ({ cls := "BrambleLogic$Needs", name := "reached", desc := "(I)I" } : Jvm.MethodName) ({ cls := "BrambleLogic$Needs", name := "reached", desc := "(I)I" } : Jvm.MethodName)) ∈ lw_all := lw_g (lw_at lw_m8 203 rfl) rfl
theorem q1991 : (Jvm.Cond.code ({ cls := "BrambleLogic$Needs", name := "reached", desc := "(I)I" } : Jvm.MethodName) prog_19_method_7_code (6 : Nat) (Option.some Jvm.ClassFile.FieldType.int)) ∈ lw_all := lw_g (lw_at lw_m8 204 rfl) rfl
theorem q1992 : (Jvm.Cond.classLink "BrambleLogic$Needs" (91 : Nat) "java/util/ArrayDeque") ∈ lw_all := lw_g (lw_at lw_m8 205 rfl) rfl
theorem q1993 : (Jvm.Cond.methodLink "BrambleLogic$Needs" (93 : Nat) ({ cls := "java/util/ArrayDeque", name := "<init>", desc := "()V" } : Jvm.MethodName)) ∈ lw_all := lw_g (lw_at lw_m8 206 rfl) rfl
theorem q1994 : (Jvm.Cond.methodLink "BrambleLogic$Needs" (94 : Nat) ({ cls := "java/lang/Integer", name := "valueOf", desc := "(I)Ljava/lang/Integer;" } : Jvm.MethodName)) ∈ lw_all := lw_g (lw_at lw_m8 207 rfl) rfl
theorem q2014 : (Jvm.Cond.interfaceEntry "BrambleLogic$Needs" (100 : Nat)) ∈ lw_tbl := lw_at lw_m8 227 rfl
theorem q2015 : (Jvm.Cond.methodLink "BrambleLogic$Needs" (100 : Nat) ({ cls := "java/util/Deque", name := "addLast", desc := "(Ljava/lang/Object;)V" } : Jvm.MethodName)) ∈ lw_all := lw_g (lw_at lw_m8 228 rfl) rfl
theorem q2016 : (Jvm.Cond.interfaceEntry "BrambleLogic$Needs" (106 : Nat)) ∈ lw_tbl := lw_at lw_m8 229 rfl
theorem q2024 : (Jvm.Cond.interfaceEntry "BrambleLogic$Needs" (109 : Nat)) ∈ lw_tbl := lw_at lw_m8 237 rfl
theorem q2025 : (Jvm.Cond.methodLink "BrambleLogic$Needs" (109 : Nat) ({ cls := "java/util/Deque", name := "removeFirst", desc := "()Ljava/lang/Object;" } : Jvm.MethodName)) ∈ lw_all := lw_g (lw_at lw_m8 238 rfl) rfl
theorem q2026 : (Jvm.Cond.classLink "BrambleLogic$Needs" (95 : Nat) "java/lang/Integer") ∈ lw_all := lw_g (lw_at lw_m8 239 rfl) rfl
theorem q2027 : (Jvm.Cond.methodLink "BrambleLogic$Needs" (112 : Nat) ({ cls := "java/lang/Integer", name := "intValue", desc := "()I" } : Jvm.MethodName)) ∈ lw_all := lw_g (lw_at lw_m9 0 rfl) rfl
theorem q2359 : (Jvm.Cond.fieldLinkNest "BrambleLogic$Needs" (47 : Nat) "BrambleLogic$Atom" "predicate" "I" "BrambleLogic") ∈ lw_tbl := lw_at lw_m10 92 rfl
theorem q2493 : (Jvm.Cond.fieldLinkNest "BrambleLogic$Needs" (43 : Nat) "BrambleLogic$Rule" "head" "LBrambleLogic$Atom;" "BrambleLogic") ∈ lw_tbl := lw_at lw_m10 226 rfl
theorem q2503 : (Jvm.Cond.fieldLinkNest "BrambleLogic$Needs" (37 : Nat) "BrambleLogic$Rule" "literals" "Ljava/util/List;" "BrambleLogic") ∈ lw_tbl := lw_at lw_m10 236 rfl
theorem q2670 : (Jvm.Cond.instanceMethod ({ cls := "BrambleLogic$Needs", name := "isCircle", desc := "()Z" } : Jvm.MethodName)) ∈ lw_all := lw_g (lw_at lw_m11 163 rfl) rfl
theorem q2671 : (Jvm.Cond.selects "BrambleLogic$Needs" ({ cls := "BrambleLogic$Needs", name := "isCircle", desc := "()Z" } : Jvm.MethodName) ({ cls := "BrambleLogic$Needs", name := "isCircle", desc := "()Z" } : Jvm.MethodName)) ∈ lw_all := lw_g (lw_at lw_m11 164 rfl) rfl
theorem q2672 : (Jvm.Cond.code ({ cls := "BrambleLogic$Needs", name := "isCircle", desc := "()Z" } : Jvm.MethodName) prog_19_method_5_code (6 : Nat) (Option.some Jvm.ClassFile.FieldType.boolean)) ∈ lw_all := lw_g (lw_at lw_m11 165 rfl) rfl
theorem q2673 : (Jvm.Cond.methodLink "BrambleLogic$Needs" (84 : Nat) ({ cls := "BrambleLogic$Needs", name := "layers", desc := "()[I" } : Jvm.MethodName)) ∈ lw_all := lw_g (lw_at lw_m11 166 rfl) rfl
theorem q3378 : (Jvm.Cond.castable "BrambleLogic$Needs" "java/lang/Object") ∈ lw_tbl := lw_at lw_m14 151 rfl
theorem in_X7 : ∀ w ∈ wsX70, w ∈ lw_all := lw_in wsX70 [596, 598] (by decide +kernel) (by decide +kernel)
/-! BrambleLogic$Changing -/
set_option maxRecDepth 100000
def RX8 : String := "BrambleLogic$Changing"
def TX8 : u_T := fun k => match k with
  | 0 => ("BrambleLogic$Changing", "facts", "LBrambleLogic$Facts;", true)
  | 1 => ("BrambleLogic$Changing", "latest", "LBrambleLogic$Facts;", false)
  | _ => ("BrambleLogic$Changing", "next", "LBrambleLogic$Facts;", false)
def tyX8 : Nat → FieldType := fun k => match k with
  | 0 => .object "BrambleLogic$Facts"
  | 1 => .object "BrambleLogic$Facts"
  | _ => .object "BrambleLogic$Facts"
abbrev wsX80 : List Cond := u_ws RX8 TX8 3
theorem nmX8 : ∀ a, a < 3 → ∀ b, b < 3 → a ≠ b → (TX8 a).2.1 ≠ (TX8 b).2.1 := by decide +kernel
theorem tyX8_ok : ∀ k, k < 3 → parseFieldDescriptor (TX8 k).2.2.1 = some (tyX8 k) := by decide +kernel
abbrev cX8_init : ByteArray := prog_5_method_1_code
def yX8_init : MethodName := ⟨RX8, "<init>", "(LBrambleLogic$Facts;)V"⟩
def dkwX8_init_0 : List UInt8 := [42, 183, 0, 3, 42, 187, 0, 9, 89, 43, 183, 0, 11, 181, 0, 14, 177]
abbrev dktX8_init_0 : List UInt8 := dkwX8_init_0 ++ []
theorem dksX8_init_0 : cX8_init.data.toList.drop 0 = dktX8_init_0 := by decide +kernel
theorem dX8_init_0 : decode cX8_init 0 = .ok (.aload_n 0, 1) := dk_42 (dk_at dksX8_init_0 0 rfl rfl)
theorem dX8_init_1 : decode cX8_init 1 = .ok (.invokespecial 3, 3) := dk_183 0 3 (dk_at dksX8_init_0 1 rfl rfl)
theorem dX8_init_4 : decode cX8_init 4 = .ok (.aload_n 0, 1) := dk_42 (dk_at dksX8_init_0 4 rfl rfl)
theorem dX8_init_5 : decode cX8_init 5 = .ok (.new 9, 3) := dk_187 0 9 (dk_at dksX8_init_0 5 rfl rfl)
theorem dX8_init_8 : decode cX8_init 8 = .ok (.dup, 1) := dk_89 (dk_at dksX8_init_0 8 rfl rfl)
theorem dX8_init_9 : decode cX8_init 9 = .ok (.aload_n 1, 1) := dk_43 (dk_at dksX8_init_0 9 rfl rfl)
theorem dX8_init_10 : decode cX8_init 10 = .ok (.invokespecial 11, 3) := dk_183 0 11 (dk_at dksX8_init_0 10 rfl rfl)
theorem dX8_init_13 : decode cX8_init 13 = .ok (.putfield 14, 3) := dk_181 0 14 (dk_at dksX8_init_0 13 rfl rfl)
theorem dX8_init_16 : decode cX8_init 16 = .ok (.return_, 1) := dk_177 (dk_at dksX8_init_0 16 rfl rfl)
abbrev cX8_close : ByteArray := prog_5_method_7_code
def yX8_close : MethodName := ⟨RX8, "close", "(Ljava/util/List;)V"⟩
def dkwX8_close_5 : List UInt8 := [167, 255, 228, 167, 255, 203, 167, 255, 186, 177]
abbrev dktX8_close_5 : List UInt8 := dkwX8_close_5 ++ []
def dkwX8_close_4 : List UInt8 := [185, 0, 50, 1, 0, 162, 0, 20, 42, 45, 3, 21, 4, 184, 0, 120, 182, 0, 94, 132, 4, 1]
abbrev dktX8_close_4 : List UInt8 := dkwX8_close_4 ++ dktX8_close_5
def dkwX8_close_3 : List UInt8 := [153, 0, 50, 44, 185, 0, 118, 1, 0, 192, 0, 21, 78, 3, 54, 4, 21, 4, 45, 180, 0, 46]
abbrev dktX8_close_3 : List UInt8 := dkwX8_close_3 ++ dktX8_close_4
def dkwX8_close_2 : List UInt8 := [167, 255, 227, 42, 182, 0, 124, 153, 0, 69, 43, 185, 0, 108, 1, 0, 77, 44, 185, 0, 112, 1, 0]
abbrev dktX8_close_2 : List UInt8 := dkwX8_close_2 ++ dktX8_close_3
def dkwX8_close_1 : List UInt8 := [153, 0, 26, 44, 185, 0, 118, 1, 0, 192, 0, 21, 78, 42, 45, 3, 2, 184, 0, 120, 182, 0, 94]
abbrev dktX8_close_1 : List UInt8 := dkwX8_close_1 ++ dktX8_close_2
def dkwX8_close_0 : List UInt8 := [42, 187, 0, 9, 89, 183, 0, 104, 181, 0, 40, 43, 185, 0, 108, 1, 0, 77, 44, 185, 0, 112, 1, 0]
abbrev dktX8_close_0 : List UInt8 := dkwX8_close_0 ++ dktX8_close_1
theorem dksX8_close_0 : cX8_close.data.toList.drop 0 = dktX8_close_0 := by decide +kernel
theorem dksX8_close_1 : cX8_close.data.toList.drop 24 = dktX8_close_1 := dk_seg dksX8_close_0 24 rfl rfl
theorem dksX8_close_2 : cX8_close.data.toList.drop 47 = dktX8_close_2 := dk_seg dksX8_close_1 23 rfl rfl
theorem dksX8_close_3 : cX8_close.data.toList.drop 70 = dktX8_close_3 := dk_seg dksX8_close_2 23 rfl rfl
theorem dksX8_close_4 : cX8_close.data.toList.drop 92 = dktX8_close_4 := dk_seg dksX8_close_3 22 rfl rfl
theorem dksX8_close_5 : cX8_close.data.toList.drop 114 = dktX8_close_5 := dk_seg dksX8_close_4 22 rfl rfl
theorem dX8_close_0 : decode cX8_close 0 = .ok (.aload_n 0, 1) := dk_42 (dk_at dksX8_close_0 0 rfl rfl)
theorem dX8_close_1 : decode cX8_close 1 = .ok (.new 9, 3) := dk_187 0 9 (dk_at dksX8_close_0 1 rfl rfl)
theorem dX8_close_4 : decode cX8_close 4 = .ok (.dup, 1) := dk_89 (dk_at dksX8_close_0 4 rfl rfl)
theorem dX8_close_5 : decode cX8_close 5 = .ok (.invokespecial 104, 3) := dk_183 0 104 (dk_at dksX8_close_0 5 rfl rfl)
theorem dX8_close_8 : decode cX8_close 8 = .ok (.putfield 40, 3) := dk_181 0 40 (dk_at dksX8_close_0 8 rfl rfl)
theorem dX8_close_11 : decode cX8_close 11 = .ok (.aload_n 1, 1) := dk_43 (dk_at dksX8_close_0 11 rfl rfl)
theorem dX8_close_12 : decode cX8_close 12 = .ok (.invokeinterface 108 1, 5) := by decide +kernel
theorem dX8_close_17 : decode cX8_close 17 = .ok (.astore_n 2, 1) := dk_77 (dk_at dksX8_close_0 17 rfl rfl)
theorem dX8_close_18 : decode cX8_close 18 = .ok (.aload_n 2, 1) := dk_44 (dk_at dksX8_close_0 18 rfl rfl)
theorem dX8_close_19 : decode cX8_close 19 = .ok (.invokeinterface 112 1, 5) := by decide +kernel
theorem dX8_close_24 : decode cX8_close 24 = .ok (.ifCond .eq 26, 3) := dk_153 0 26 (dk_at dksX8_close_1 0 rfl rfl)
theorem dX8_close_27 : decode cX8_close 27 = .ok (.aload_n 2, 1) := dk_44 (dk_at dksX8_close_1 3 rfl rfl)
theorem dX8_close_28 : decode cX8_close 28 = .ok (.invokeinterface 118 1, 5) := by decide +kernel
theorem dX8_close_33 : decode cX8_close 33 = .ok (.checkcast 21, 3) := dk_192 0 21 (dk_at dksX8_close_1 9 rfl rfl)
theorem dX8_close_36 : decode cX8_close 36 = .ok (.astore_n 3, 1) := dk_78 (dk_at dksX8_close_1 12 rfl rfl)
theorem dX8_close_37 : decode cX8_close 37 = .ok (.aload_n 0, 1) := dk_42 (dk_at dksX8_close_1 13 rfl rfl)
theorem dX8_close_38 : decode cX8_close 38 = .ok (.aload_n 3, 1) := dk_45 (dk_at dksX8_close_1 14 rfl rfl)
theorem dX8_close_39 : decode cX8_close 39 = .ok (.iconst 0, 1) := dk_3 (dk_at dksX8_close_1 15 rfl rfl)
theorem dX8_close_40 : decode cX8_close 40 = .ok (.iconst (-1), 1) := dk_2 (dk_at dksX8_close_1 16 rfl rfl)
theorem dX8_close_41 : decode cX8_close 41 = .ok (.invokestatic 120, 3) := dk_184 0 120 (dk_at dksX8_close_1 17 rfl rfl)
theorem dX8_close_44 : decode cX8_close 44 = .ok (.invokevirtual 94, 3) := dk_182 0 94 (dk_at dksX8_close_1 20 rfl rfl)
theorem dX8_close_47 : decode cX8_close 47 = .ok (.goto (-29), 3) := dk_167 255 227 (dk_at dksX8_close_2 0 rfl rfl)
theorem dX8_close_50 : decode cX8_close 50 = .ok (.aload_n 0, 1) := dk_42 (dk_at dksX8_close_2 3 rfl rfl)
theorem dX8_close_51 : decode cX8_close 51 = .ok (.invokevirtual 124, 3) := dk_182 0 124 (dk_at dksX8_close_2 4 rfl rfl)
theorem dX8_close_54 : decode cX8_close 54 = .ok (.ifCond .eq 69, 3) := dk_153 0 69 (dk_at dksX8_close_2 7 rfl rfl)
theorem dX8_close_57 : decode cX8_close 57 = .ok (.aload_n 1, 1) := dk_43 (dk_at dksX8_close_2 10 rfl rfl)
theorem dX8_close_58 : decode cX8_close 58 = .ok (.invokeinterface 108 1, 5) := by decide +kernel
theorem dX8_close_63 : decode cX8_close 63 = .ok (.astore_n 2, 1) := dk_77 (dk_at dksX8_close_2 16 rfl rfl)
theorem dX8_close_64 : decode cX8_close 64 = .ok (.aload_n 2, 1) := dk_44 (dk_at dksX8_close_2 17 rfl rfl)
theorem dX8_close_65 : decode cX8_close 65 = .ok (.invokeinterface 112 1, 5) := by decide +kernel
theorem dX8_close_70 : decode cX8_close 70 = .ok (.ifCond .eq 50, 3) := dk_153 0 50 (dk_at dksX8_close_3 0 rfl rfl)
theorem dX8_close_73 : decode cX8_close 73 = .ok (.aload_n 2, 1) := dk_44 (dk_at dksX8_close_3 3 rfl rfl)
theorem dX8_close_74 : decode cX8_close 74 = .ok (.invokeinterface 118 1, 5) := by decide +kernel
theorem dX8_close_79 : decode cX8_close 79 = .ok (.checkcast 21, 3) := dk_192 0 21 (dk_at dksX8_close_3 9 rfl rfl)
theorem dX8_close_82 : decode cX8_close 82 = .ok (.astore_n 3, 1) := dk_78 (dk_at dksX8_close_3 12 rfl rfl)
theorem dX8_close_83 : decode cX8_close 83 = .ok (.iconst 0, 1) := dk_3 (dk_at dksX8_close_3 13 rfl rfl)
theorem dX8_close_84 : decode cX8_close 84 = .ok (.istore 4, 2) := dk_54 4 (dk_at dksX8_close_3 14 rfl rfl)
theorem dX8_close_86 : decode cX8_close 86 = .ok (.iload 4, 2) := dk_21 4 (dk_at dksX8_close_3 16 rfl rfl)
theorem dX8_close_88 : decode cX8_close 88 = .ok (.aload_n 3, 1) := dk_45 (dk_at dksX8_close_3 18 rfl rfl)
theorem dX8_close_89 : decode cX8_close 89 = .ok (.getfield 46, 3) := dk_180 0 46 (dk_at dksX8_close_3 19 rfl rfl)
theorem dX8_close_92 : decode cX8_close 92 = .ok (.invokeinterface 50 1, 5) := by decide +kernel
theorem dX8_close_97 : decode cX8_close 97 = .ok (.if_icmp .ge 20, 3) := dk_162 0 20 (dk_at dksX8_close_4 5 rfl rfl)
theorem dX8_close_100 : decode cX8_close 100 = .ok (.aload_n 0, 1) := dk_42 (dk_at dksX8_close_4 8 rfl rfl)
theorem dX8_close_101 : decode cX8_close 101 = .ok (.aload_n 3, 1) := dk_45 (dk_at dksX8_close_4 9 rfl rfl)
theorem dX8_close_102 : decode cX8_close 102 = .ok (.iconst 0, 1) := dk_3 (dk_at dksX8_close_4 10 rfl rfl)
theorem dX8_close_103 : decode cX8_close 103 = .ok (.iload 4, 2) := dk_21 4 (dk_at dksX8_close_4 11 rfl rfl)
theorem dX8_close_105 : decode cX8_close 105 = .ok (.invokestatic 120, 3) := dk_184 0 120 (dk_at dksX8_close_4 13 rfl rfl)
theorem dX8_close_108 : decode cX8_close 108 = .ok (.invokevirtual 94, 3) := dk_182 0 94 (dk_at dksX8_close_4 16 rfl rfl)
theorem dX8_close_111 : decode cX8_close 111 = .ok (.iinc 4 1, 3) := dk_132 4 1 (dk_at dksX8_close_4 19 rfl rfl)
theorem dX8_close_114 : decode cX8_close 114 = .ok (.goto (-28), 3) := dk_167 255 228 (dk_at dksX8_close_5 0 rfl rfl)
theorem dX8_close_117 : decode cX8_close 117 = .ok (.goto (-53), 3) := dk_167 255 203 (dk_at dksX8_close_5 3 rfl rfl)
theorem dX8_close_120 : decode cX8_close 120 = .ok (.goto (-70), 3) := dk_167 255 186 (dk_at dksX8_close_5 6 rfl rfl)
theorem dX8_close_123 : decode cX8_close 123 = .ok (.return_, 1) := dk_177 (dk_at dksX8_close_5 9 rfl rfl)
abbrev cX8_unknown : ByteArray := prog_5_method_5_code
def yX8_unknown : MethodName := ⟨RX8, "unknown", "()[I"⟩
def dkwX8_unknown_0 : List UInt8 := [6, 188, 10, 75, 3, 60, 27, 6, 162, 0, 13, 42, 27, 2, 79, 132, 1, 1, 167, 255, 244, 42, 176]
abbrev dktX8_unknown_0 : List UInt8 := dkwX8_unknown_0 ++ []
theorem dksX8_unknown_0 : cX8_unknown.data.toList.drop 0 = dktX8_unknown_0 := by decide +kernel
theorem dX8_unknown_0 : decode cX8_unknown 0 = .ok (.iconst 3, 1) := dk_6 (dk_at dksX8_unknown_0 0 rfl rfl)
theorem dX8_unknown_1 : decode cX8_unknown 1 = .ok (.newarray .int, 2) := dk_188_10 (dk_at dksX8_unknown_0 1 rfl rfl)
theorem dX8_unknown_3 : decode cX8_unknown 3 = .ok (.astore_n 0, 1) := dk_75 (dk_at dksX8_unknown_0 3 rfl rfl)
theorem dX8_unknown_4 : decode cX8_unknown 4 = .ok (.iconst 0, 1) := dk_3 (dk_at dksX8_unknown_0 4 rfl rfl)
theorem dX8_unknown_5 : decode cX8_unknown 5 = .ok (.istore_n 1, 1) := dk_60 (dk_at dksX8_unknown_0 5 rfl rfl)
theorem dX8_unknown_6 : decode cX8_unknown 6 = .ok (.iload_n 1, 1) := dk_27 (dk_at dksX8_unknown_0 6 rfl rfl)
theorem dX8_unknown_7 : decode cX8_unknown 7 = .ok (.iconst 3, 1) := dk_6 (dk_at dksX8_unknown_0 7 rfl rfl)
theorem dX8_unknown_8 : decode cX8_unknown 8 = .ok (.if_icmp .ge 13, 3) := dk_162 0 13 (dk_at dksX8_unknown_0 8 rfl rfl)
theorem dX8_unknown_11 : decode cX8_unknown 11 = .ok (.aload_n 0, 1) := dk_42 (dk_at dksX8_unknown_0 11 rfl rfl)
theorem dX8_unknown_12 : decode cX8_unknown 12 = .ok (.iload_n 1, 1) := dk_27 (dk_at dksX8_unknown_0 12 rfl rfl)
theorem dX8_unknown_13 : decode cX8_unknown 13 = .ok (.iconst (-1), 1) := dk_2 (dk_at dksX8_unknown_0 13 rfl rfl)
theorem dX8_unknown_14 : decode cX8_unknown 14 = .ok (.iastore, 1) := dk_79 (dk_at dksX8_unknown_0 14 rfl rfl)
theorem dX8_unknown_15 : decode cX8_unknown 15 = .ok (.iinc 1 1, 3) := dk_132 1 1 (dk_at dksX8_unknown_0 15 rfl rfl)
theorem dX8_unknown_18 : decode cX8_unknown 18 = .ok (.goto (-12), 3) := dk_167 255 244 (dk_at dksX8_unknown_0 18 rfl rfl)
theorem dX8_unknown_21 : decode cX8_unknown 21 = .ok (.aload_n 0, 1) := dk_42 (dk_at dksX8_unknown_0 21 rfl rfl)
theorem dX8_unknown_22 : decode cX8_unknown 22 = .ok (.areturn, 1) := dk_176 (dk_at dksX8_unknown_0 22 rfl rfl)
abbrev cX8_join : ByteArray := prog_5_method_3_code
def yX8_join : MethodName := ⟨RX8, "join", "(LBrambleLogic$Rule;II[I)V"⟩
def dkwX8_join_6 : List UInt8 := [167, 255, 203, 177]
abbrev dktX8_join_6 : List UInt8 := dkwX8_join_6 ++ []
def dkwX8_join_5 : List UInt8 := [25, 8, 182, 0, 90, 153, 0, 14, 42, 43, 28, 4, 96, 29, 25, 8, 182, 0, 94, 132, 7, 1]
abbrev dktX8_join_5 : List UInt8 := dkwX8_join_5 ++ dktX8_join_6
def dkwX8_join_4 : List UInt8 := [25, 4, 182, 0, 79, 192, 0, 80, 58, 8, 25, 6, 21, 7, 182, 0, 85, 153, 0, 26, 25, 5, 21, 7]
abbrev dktX8_join_4 : List UInt8 := dkwX8_join_4 ++ dktX8_join_5
def dkwX8_join_3 : List UInt8 := [180, 0, 14, 180, 0, 75, 25, 5, 180, 0, 32, 50, 58, 6, 3, 54, 7, 21, 7, 16, 100, 162, 0, 52]
abbrev dktX8_join_3 : List UInt8 := dkwX8_join_3 ++ dktX8_join_4
def dkwX8_join_2 : List UInt8 := [185, 0, 68, 2, 0, 192, 0, 27, 58, 5, 28, 29, 160, 0, 10, 42, 180, 0, 72, 167, 0, 7, 42]
abbrev dktX8_join_2 : List UInt8 := dkwX8_join_2 ++ dktX8_join_3
def dkwX8_join_1 : List UInt8 := [180, 0, 14, 25, 5, 182, 0, 60, 153, 0, 10, 42, 43, 25, 5, 182, 0, 64, 177, 43, 180, 0, 46, 28]
abbrev dktX8_join_1 : List UInt8 := dkwX8_join_1 ++ dktX8_join_2
def dkwX8_join_0 : List UInt8 := [28, 43, 180, 0, 46, 185, 0, 50, 1, 0, 160, 0, 31, 25, 4, 184, 0, 56, 58, 5, 43, 42]
abbrev dktX8_join_0 : List UInt8 := dkwX8_join_0 ++ dktX8_join_1
theorem dksX8_join_0 : cX8_join.data.toList.drop 0 = dktX8_join_0 := by decide +kernel
theorem dksX8_join_1 : cX8_join.data.toList.drop 22 = dktX8_join_1 := dk_seg dksX8_join_0 22 rfl rfl
theorem dksX8_join_2 : cX8_join.data.toList.drop 46 = dktX8_join_2 := dk_seg dksX8_join_1 24 rfl rfl
theorem dksX8_join_3 : cX8_join.data.toList.drop 69 = dktX8_join_3 := dk_seg dksX8_join_2 23 rfl rfl
theorem dksX8_join_4 : cX8_join.data.toList.drop 93 = dktX8_join_4 := dk_seg dksX8_join_3 24 rfl rfl
theorem dksX8_join_5 : cX8_join.data.toList.drop 117 = dktX8_join_5 := dk_seg dksX8_join_4 24 rfl rfl
theorem dksX8_join_6 : cX8_join.data.toList.drop 139 = dktX8_join_6 := dk_seg dksX8_join_5 22 rfl rfl
theorem dX8_join_0 : decode cX8_join 0 = .ok (.iload_n 2, 1) := dk_28 (dk_at dksX8_join_0 0 rfl rfl)
theorem dX8_join_1 : decode cX8_join 1 = .ok (.aload_n 1, 1) := dk_43 (dk_at dksX8_join_0 1 rfl rfl)
theorem dX8_join_2 : decode cX8_join 2 = .ok (.getfield 46, 3) := dk_180 0 46 (dk_at dksX8_join_0 2 rfl rfl)
theorem dX8_join_5 : decode cX8_join 5 = .ok (.invokeinterface 50 1, 5) := by decide +kernel
theorem dX8_join_10 : decode cX8_join 10 = .ok (.if_icmp .ne 31, 3) := dk_160 0 31 (dk_at dksX8_join_0 10 rfl rfl)
theorem dX8_join_13 : decode cX8_join 13 = .ok (.aload 4, 2) := dk_25 4 (dk_at dksX8_join_0 13 rfl rfl)
theorem dX8_join_15 : decode cX8_join 15 = .ok (.invokestatic 56, 3) := dk_184 0 56 (dk_at dksX8_join_0 15 rfl rfl)
theorem dX8_join_18 : decode cX8_join 18 = .ok (.astore 5, 2) := dk_58 5 (dk_at dksX8_join_0 18 rfl rfl)
theorem dX8_join_20 : decode cX8_join 20 = .ok (.aload_n 1, 1) := dk_43 (dk_at dksX8_join_0 20 rfl rfl)
theorem dX8_join_21 : decode cX8_join 21 = .ok (.aload_n 0, 1) := dk_42 (dk_at dksX8_join_0 21 rfl rfl)
theorem dX8_join_22 : decode cX8_join 22 = .ok (.getfield 14, 3) := dk_180 0 14 (dk_at dksX8_join_1 0 rfl rfl)
theorem dX8_join_25 : decode cX8_join 25 = .ok (.aload 5, 2) := dk_25 5 (dk_at dksX8_join_1 3 rfl rfl)
theorem dX8_join_27 : decode cX8_join 27 = .ok (.invokevirtual 60, 3) := dk_182 0 60 (dk_at dksX8_join_1 5 rfl rfl)
theorem dX8_join_30 : decode cX8_join 30 = .ok (.ifCond .eq 10, 3) := dk_153 0 10 (dk_at dksX8_join_1 8 rfl rfl)
theorem dX8_join_33 : decode cX8_join 33 = .ok (.aload_n 0, 1) := dk_42 (dk_at dksX8_join_1 11 rfl rfl)
theorem dX8_join_34 : decode cX8_join 34 = .ok (.aload_n 1, 1) := dk_43 (dk_at dksX8_join_1 12 rfl rfl)
theorem dX8_join_35 : decode cX8_join 35 = .ok (.aload 5, 2) := dk_25 5 (dk_at dksX8_join_1 13 rfl rfl)
theorem dX8_join_37 : decode cX8_join 37 = .ok (.invokevirtual 64, 3) := dk_182 0 64 (dk_at dksX8_join_1 15 rfl rfl)
theorem dX8_join_40 : decode cX8_join 40 = .ok (.return_, 1) := dk_177 (dk_at dksX8_join_1 18 rfl rfl)
theorem dX8_join_41 : decode cX8_join 41 = .ok (.aload_n 1, 1) := dk_43 (dk_at dksX8_join_1 19 rfl rfl)
theorem dX8_join_42 : decode cX8_join 42 = .ok (.getfield 46, 3) := dk_180 0 46 (dk_at dksX8_join_1 20 rfl rfl)
theorem dX8_join_45 : decode cX8_join 45 = .ok (.iload_n 2, 1) := dk_28 (dk_at dksX8_join_1 23 rfl rfl)
theorem dX8_join_46 : decode cX8_join 46 = .ok (.invokeinterface 68 2, 5) := by decide +kernel
theorem dX8_join_51 : decode cX8_join 51 = .ok (.checkcast 27, 3) := dk_192 0 27 (dk_at dksX8_join_2 5 rfl rfl)
theorem dX8_join_54 : decode cX8_join 54 = .ok (.astore 5, 2) := dk_58 5 (dk_at dksX8_join_2 8 rfl rfl)
theorem dX8_join_56 : decode cX8_join 56 = .ok (.iload_n 2, 1) := dk_28 (dk_at dksX8_join_2 10 rfl rfl)
theorem dX8_join_57 : decode cX8_join 57 = .ok (.iload_n 3, 1) := dk_29 (dk_at dksX8_join_2 11 rfl rfl)
theorem dX8_join_58 : decode cX8_join 58 = .ok (.if_icmp .ne 10, 3) := dk_160 0 10 (dk_at dksX8_join_2 12 rfl rfl)
theorem dX8_join_61 : decode cX8_join 61 = .ok (.aload_n 0, 1) := dk_42 (dk_at dksX8_join_2 15 rfl rfl)
theorem dX8_join_62 : decode cX8_join 62 = .ok (.getfield 72, 3) := dk_180 0 72 (dk_at dksX8_join_2 16 rfl rfl)
theorem dX8_join_65 : decode cX8_join 65 = .ok (.goto 7, 3) := dk_167 0 7 (dk_at dksX8_join_2 19 rfl rfl)
theorem dX8_join_68 : decode cX8_join 68 = .ok (.aload_n 0, 1) := dk_42 (dk_at dksX8_join_2 22 rfl rfl)
theorem dX8_join_69 : decode cX8_join 69 = .ok (.getfield 14, 3) := dk_180 0 14 (dk_at dksX8_join_3 0 rfl rfl)
theorem dX8_join_72 : decode cX8_join 72 = .ok (.getfield 75, 3) := dk_180 0 75 (dk_at dksX8_join_3 3 rfl rfl)
theorem dX8_join_75 : decode cX8_join 75 = .ok (.aload 5, 2) := dk_25 5 (dk_at dksX8_join_3 6 rfl rfl)
theorem dX8_join_77 : decode cX8_join 77 = .ok (.getfield 32, 3) := dk_180 0 32 (dk_at dksX8_join_3 8 rfl rfl)
theorem dX8_join_80 : decode cX8_join 80 = .ok (.aaload, 1) := dk_50 (dk_at dksX8_join_3 11 rfl rfl)
theorem dX8_join_81 : decode cX8_join 81 = .ok (.astore 6, 2) := dk_58 6 (dk_at dksX8_join_3 12 rfl rfl)
theorem dX8_join_83 : decode cX8_join 83 = .ok (.iconst 0, 1) := dk_3 (dk_at dksX8_join_3 14 rfl rfl)
theorem dX8_join_84 : decode cX8_join 84 = .ok (.istore 7, 2) := dk_54 7 (dk_at dksX8_join_3 15 rfl rfl)
theorem dX8_join_86 : decode cX8_join 86 = .ok (.iload 7, 2) := dk_21 7 (dk_at dksX8_join_3 17 rfl rfl)
theorem dX8_join_88 : decode cX8_join 88 = .ok (.bipush 100, 2) := dk_16 100 (dk_at dksX8_join_3 19 rfl rfl)
theorem dX8_join_90 : decode cX8_join 90 = .ok (.if_icmp .ge 52, 3) := dk_162 0 52 (dk_at dksX8_join_3 21 rfl rfl)
theorem dX8_join_93 : decode cX8_join 93 = .ok (.aload 4, 2) := dk_25 4 (dk_at dksX8_join_4 0 rfl rfl)
theorem dX8_join_95 : decode cX8_join 95 = .ok (.invokevirtual 79, 3) := dk_182 0 79 (dk_at dksX8_join_4 2 rfl rfl)
theorem dX8_join_98 : decode cX8_join 98 = .ok (.checkcast 80, 3) := dk_192 0 80 (dk_at dksX8_join_4 5 rfl rfl)
theorem dX8_join_101 : decode cX8_join 101 = .ok (.astore 8, 2) := dk_58 8 (dk_at dksX8_join_4 8 rfl rfl)
theorem dX8_join_103 : decode cX8_join 103 = .ok (.aload 6, 2) := dk_25 6 (dk_at dksX8_join_4 10 rfl rfl)
theorem dX8_join_105 : decode cX8_join 105 = .ok (.iload 7, 2) := dk_21 7 (dk_at dksX8_join_4 12 rfl rfl)
theorem dX8_join_107 : decode cX8_join 107 = .ok (.invokevirtual 85, 3) := dk_182 0 85 (dk_at dksX8_join_4 14 rfl rfl)
theorem dX8_join_110 : decode cX8_join 110 = .ok (.ifCond .eq 26, 3) := dk_153 0 26 (dk_at dksX8_join_4 17 rfl rfl)
theorem dX8_join_113 : decode cX8_join 113 = .ok (.aload 5, 2) := dk_25 5 (dk_at dksX8_join_4 20 rfl rfl)
theorem dX8_join_115 : decode cX8_join 115 = .ok (.iload 7, 2) := dk_21 7 (dk_at dksX8_join_4 22 rfl rfl)
theorem dX8_join_117 : decode cX8_join 117 = .ok (.aload 8, 2) := dk_25 8 (dk_at dksX8_join_5 0 rfl rfl)
theorem dX8_join_119 : decode cX8_join 119 = .ok (.invokevirtual 90, 3) := dk_182 0 90 (dk_at dksX8_join_5 2 rfl rfl)
theorem dX8_join_122 : decode cX8_join 122 = .ok (.ifCond .eq 14, 3) := dk_153 0 14 (dk_at dksX8_join_5 5 rfl rfl)
theorem dX8_join_125 : decode cX8_join 125 = .ok (.aload_n 0, 1) := dk_42 (dk_at dksX8_join_5 8 rfl rfl)
theorem dX8_join_126 : decode cX8_join 126 = .ok (.aload_n 1, 1) := dk_43 (dk_at dksX8_join_5 9 rfl rfl)
theorem dX8_join_127 : decode cX8_join 127 = .ok (.iload_n 2, 1) := dk_28 (dk_at dksX8_join_5 10 rfl rfl)
theorem dX8_join_128 : decode cX8_join 128 = .ok (.iconst 1, 1) := dk_4 (dk_at dksX8_join_5 11 rfl rfl)
theorem dX8_join_129 : decode cX8_join 129 = .ok (.iadd, 1) := dk_96 (dk_at dksX8_join_5 12 rfl rfl)
theorem dX8_join_130 : decode cX8_join 130 = .ok (.iload_n 3, 1) := dk_29 (dk_at dksX8_join_5 13 rfl rfl)
theorem dX8_join_131 : decode cX8_join 131 = .ok (.aload 8, 2) := dk_25 8 (dk_at dksX8_join_5 14 rfl rfl)
theorem dX8_join_133 : decode cX8_join 133 = .ok (.invokevirtual 94, 3) := dk_182 0 94 (dk_at dksX8_join_5 16 rfl rfl)
theorem dX8_join_136 : decode cX8_join 136 = .ok (.iinc 7 1, 3) := dk_132 7 1 (dk_at dksX8_join_5 19 rfl rfl)
theorem dX8_join_139 : decode cX8_join 139 = .ok (.goto (-53), 3) := dk_167 255 203 (dk_at dksX8_join_6 0 rfl rfl)
theorem dX8_join_142 : decode cX8_join 142 = .ok (.return_, 1) := dk_177 (dk_at dksX8_join_6 3 rfl rfl)
abbrev cX8_known : ByteArray := prog_5_method_4_code
def yX8_known : MethodName := ⟨RX8, "known", "([I)[I"⟩
def dkwX8_known_1 : List UInt8 := [79, 132, 2, 1, 167, 255, 238, 43, 176]
abbrev dktX8_known_1 : List UInt8 := dkwX8_known_1 ++ []
def dkwX8_known_0 : List UInt8 := [42, 182, 0, 79, 192, 0, 80, 76, 3, 61, 28, 6, 162, 0, 19, 43, 28, 43, 28, 46, 3, 184, 0, 98]
abbrev dktX8_known_0 : List UInt8 := dkwX8_known_0 ++ dktX8_known_1
theorem dksX8_known_0 : cX8_known.data.toList.drop 0 = dktX8_known_0 := by decide +kernel
theorem dksX8_known_1 : cX8_known.data.toList.drop 24 = dktX8_known_1 := dk_seg dksX8_known_0 24 rfl rfl
theorem dX8_known_0 : decode cX8_known 0 = .ok (.aload_n 0, 1) := dk_42 (dk_at dksX8_known_0 0 rfl rfl)
theorem dX8_known_1 : decode cX8_known 1 = .ok (.invokevirtual 79, 3) := dk_182 0 79 (dk_at dksX8_known_0 1 rfl rfl)
theorem dX8_known_4 : decode cX8_known 4 = .ok (.checkcast 80, 3) := dk_192 0 80 (dk_at dksX8_known_0 4 rfl rfl)
theorem dX8_known_7 : decode cX8_known 7 = .ok (.astore_n 1, 1) := dk_76 (dk_at dksX8_known_0 7 rfl rfl)
theorem dX8_known_8 : decode cX8_known 8 = .ok (.iconst 0, 1) := dk_3 (dk_at dksX8_known_0 8 rfl rfl)
theorem dX8_known_9 : decode cX8_known 9 = .ok (.istore_n 2, 1) := dk_61 (dk_at dksX8_known_0 9 rfl rfl)
theorem dX8_known_10 : decode cX8_known 10 = .ok (.iload_n 2, 1) := dk_28 (dk_at dksX8_known_0 10 rfl rfl)
theorem dX8_known_11 : decode cX8_known 11 = .ok (.iconst 3, 1) := dk_6 (dk_at dksX8_known_0 11 rfl rfl)
theorem dX8_known_12 : decode cX8_known 12 = .ok (.if_icmp .ge 19, 3) := dk_162 0 19 (dk_at dksX8_known_0 12 rfl rfl)
theorem dX8_known_15 : decode cX8_known 15 = .ok (.aload_n 1, 1) := dk_43 (dk_at dksX8_known_0 15 rfl rfl)
theorem dX8_known_16 : decode cX8_known 16 = .ok (.iload_n 2, 1) := dk_28 (dk_at dksX8_known_0 16 rfl rfl)
theorem dX8_known_17 : decode cX8_known 17 = .ok (.aload_n 1, 1) := dk_43 (dk_at dksX8_known_0 17 rfl rfl)
theorem dX8_known_18 : decode cX8_known 18 = .ok (.iload_n 2, 1) := dk_28 (dk_at dksX8_known_0 18 rfl rfl)
theorem dX8_known_19 : decode cX8_known 19 = .ok (.iaload, 1) := dk_46 (dk_at dksX8_known_0 19 rfl rfl)
theorem dX8_known_20 : decode cX8_known 20 = .ok (.iconst 0, 1) := dk_3 (dk_at dksX8_known_0 20 rfl rfl)
theorem dX8_known_21 : decode cX8_known 21 = .ok (.invokestatic 98, 3) := dk_184 0 98 (dk_at dksX8_known_0 21 rfl rfl)
theorem dX8_known_24 : decode cX8_known 24 = .ok (.iastore, 1) := dk_79 (dk_at dksX8_known_1 0 rfl rfl)
theorem dX8_known_25 : decode cX8_known 25 = .ok (.iinc 2 1, 3) := dk_132 2 1 (dk_at dksX8_known_1 1 rfl rfl)
theorem dX8_known_28 : decode cX8_known 28 = .ok (.goto (-18), 3) := dk_167 255 238 (dk_at dksX8_known_1 4 rfl rfl)
theorem dX8_known_31 : decode cX8_known 31 = .ok (.aload_n 1, 1) := dk_43 (dk_at dksX8_known_1 7 rfl rfl)
theorem dX8_known_32 : decode cX8_known 32 = .ok (.areturn, 1) := dk_176 (dk_at dksX8_known_1 8 rfl rfl)
abbrev cX8_found : ByteArray := prog_5_method_2_code
def yX8_found : MethodName := ⟨RX8, "found", "(LBrambleLogic$Rule;[I)V"⟩
def dkwX8_found_1 : List UInt8 := [154, 0, 19, 42, 180, 0, 40, 43, 180, 0, 20, 180, 0, 32, 29, 182, 0, 43, 87, 177]
abbrev dktX8_found_1 : List UInt8 := dkwX8_found_1 ++ []
def dkwX8_found_0 : List UInt8 := [43, 180, 0, 20, 44, 182, 0, 26, 62, 42, 180, 0, 14, 43, 180, 0, 20, 180, 0, 32, 29, 182, 0, 36]
abbrev dktX8_found_0 : List UInt8 := dkwX8_found_0 ++ dktX8_found_1
theorem dksX8_found_0 : cX8_found.data.toList.drop 0 = dktX8_found_0 := by decide +kernel
theorem dksX8_found_1 : cX8_found.data.toList.drop 24 = dktX8_found_1 := dk_seg dksX8_found_0 24 rfl rfl
theorem dX8_found_0 : decode cX8_found 0 = .ok (.aload_n 1, 1) := dk_43 (dk_at dksX8_found_0 0 rfl rfl)
theorem dX8_found_1 : decode cX8_found 1 = .ok (.getfield 20, 3) := dk_180 0 20 (dk_at dksX8_found_0 1 rfl rfl)
theorem dX8_found_4 : decode cX8_found 4 = .ok (.aload_n 2, 1) := dk_44 (dk_at dksX8_found_0 4 rfl rfl)
theorem dX8_found_5 : decode cX8_found 5 = .ok (.invokevirtual 26, 3) := dk_182 0 26 (dk_at dksX8_found_0 5 rfl rfl)
theorem dX8_found_8 : decode cX8_found 8 = .ok (.istore_n 3, 1) := dk_62 (dk_at dksX8_found_0 8 rfl rfl)
theorem dX8_found_9 : decode cX8_found 9 = .ok (.aload_n 0, 1) := dk_42 (dk_at dksX8_found_0 9 rfl rfl)
theorem dX8_found_10 : decode cX8_found 10 = .ok (.getfield 14, 3) := dk_180 0 14 (dk_at dksX8_found_0 10 rfl rfl)
theorem dX8_found_13 : decode cX8_found 13 = .ok (.aload_n 1, 1) := dk_43 (dk_at dksX8_found_0 13 rfl rfl)
theorem dX8_found_14 : decode cX8_found 14 = .ok (.getfield 20, 3) := dk_180 0 20 (dk_at dksX8_found_0 14 rfl rfl)
theorem dX8_found_17 : decode cX8_found 17 = .ok (.getfield 32, 3) := dk_180 0 32 (dk_at dksX8_found_0 17 rfl rfl)
theorem dX8_found_20 : decode cX8_found 20 = .ok (.iload_n 3, 1) := dk_29 (dk_at dksX8_found_0 20 rfl rfl)
theorem dX8_found_21 : decode cX8_found 21 = .ok (.invokevirtual 36, 3) := dk_182 0 36 (dk_at dksX8_found_0 21 rfl rfl)
theorem dX8_found_24 : decode cX8_found 24 = .ok (.ifCond .ne 19, 3) := dk_154 0 19 (dk_at dksX8_found_1 0 rfl rfl)
theorem dX8_found_27 : decode cX8_found 27 = .ok (.aload_n 0, 1) := dk_42 (dk_at dksX8_found_1 3 rfl rfl)
theorem dX8_found_28 : decode cX8_found 28 = .ok (.getfield 40, 3) := dk_180 0 40 (dk_at dksX8_found_1 4 rfl rfl)
theorem dX8_found_31 : decode cX8_found 31 = .ok (.aload_n 1, 1) := dk_43 (dk_at dksX8_found_1 7 rfl rfl)
theorem dX8_found_32 : decode cX8_found 32 = .ok (.getfield 20, 3) := dk_180 0 20 (dk_at dksX8_found_1 8 rfl rfl)
theorem dX8_found_35 : decode cX8_found 35 = .ok (.getfield 32, 3) := dk_180 0 32 (dk_at dksX8_found_1 11 rfl rfl)
theorem dX8_found_38 : decode cX8_found 38 = .ok (.iload_n 3, 1) := dk_29 (dk_at dksX8_found_1 14 rfl rfl)
theorem dX8_found_39 : decode cX8_found 39 = .ok (.invokevirtual 43, 3) := dk_182 0 43 (dk_at dksX8_found_1 15 rfl rfl)
theorem dX8_found_42 : decode cX8_found 42 = .ok (.pop, 1) := dk_87 (dk_at dksX8_found_1 18 rfl rfl)
theorem dX8_found_43 : decode cX8_found 43 = .ok (.return_, 1) := dk_177 (dk_at dksX8_found_1 19 rfl rfl)
abbrev cX8_goOn : ByteArray := prog_5_method_6_code
def yX8_goOn : MethodName := ⟨RX8, "goOn", "()Z"⟩
def dkwX8_goOn_3 : List UInt8 := [181, 0, 40, 42, 180, 0, 72, 182, 0, 105, 158, 0, 7, 4, 167, 0, 4, 3, 172]
abbrev dktX8_goOn_3 : List UInt8 := dkwX8_goOn_3 ++ []
def dkwX8_goOn_2 : List UInt8 := [132, 1, 1, 167, 255, 211, 42, 42, 180, 0, 40, 181, 0, 72, 42, 187, 0, 9, 89, 183, 0, 104]
abbrev dktX8_goOn_2 : List UInt8 := dkwX8_goOn_2 ++ dktX8_goOn_3
def dkwX8_goOn_1 : List UInt8 := [182, 0, 36, 153, 0, 13, 42, 180, 0, 14, 27, 28, 182, 0, 43, 62, 132, 2, 1, 167, 255, 225]
abbrev dktX8_goOn_1 : List UInt8 := dkwX8_goOn_1 ++ dktX8_goOn_2
def dkwX8_goOn_0 : List UInt8 := [3, 60, 27, 16, 8, 162, 0, 45, 3, 61, 28, 16, 100, 162, 0, 31, 42, 180, 0, 40, 27, 28]
abbrev dktX8_goOn_0 : List UInt8 := dkwX8_goOn_0 ++ dktX8_goOn_1
theorem dksX8_goOn_0 : cX8_goOn.data.toList.drop 0 = dktX8_goOn_0 := by decide +kernel
theorem dksX8_goOn_1 : cX8_goOn.data.toList.drop 22 = dktX8_goOn_1 := dk_seg dksX8_goOn_0 22 rfl rfl
theorem dksX8_goOn_2 : cX8_goOn.data.toList.drop 44 = dktX8_goOn_2 := dk_seg dksX8_goOn_1 22 rfl rfl
theorem dksX8_goOn_3 : cX8_goOn.data.toList.drop 66 = dktX8_goOn_3 := dk_seg dksX8_goOn_2 22 rfl rfl
theorem dX8_goOn_0 : decode cX8_goOn 0 = .ok (.iconst 0, 1) := dk_3 (dk_at dksX8_goOn_0 0 rfl rfl)
theorem dX8_goOn_1 : decode cX8_goOn 1 = .ok (.istore_n 1, 1) := dk_60 (dk_at dksX8_goOn_0 1 rfl rfl)
theorem dX8_goOn_2 : decode cX8_goOn 2 = .ok (.iload_n 1, 1) := dk_27 (dk_at dksX8_goOn_0 2 rfl rfl)
theorem dX8_goOn_3 : decode cX8_goOn 3 = .ok (.bipush 8, 2) := dk_16 8 (dk_at dksX8_goOn_0 3 rfl rfl)
theorem dX8_goOn_5 : decode cX8_goOn 5 = .ok (.if_icmp .ge 45, 3) := dk_162 0 45 (dk_at dksX8_goOn_0 5 rfl rfl)
theorem dX8_goOn_8 : decode cX8_goOn 8 = .ok (.iconst 0, 1) := dk_3 (dk_at dksX8_goOn_0 8 rfl rfl)
theorem dX8_goOn_9 : decode cX8_goOn 9 = .ok (.istore_n 2, 1) := dk_61 (dk_at dksX8_goOn_0 9 rfl rfl)
theorem dX8_goOn_10 : decode cX8_goOn 10 = .ok (.iload_n 2, 1) := dk_28 (dk_at dksX8_goOn_0 10 rfl rfl)
theorem dX8_goOn_11 : decode cX8_goOn 11 = .ok (.bipush 100, 2) := dk_16 100 (dk_at dksX8_goOn_0 11 rfl rfl)
theorem dX8_goOn_13 : decode cX8_goOn 13 = .ok (.if_icmp .ge 31, 3) := dk_162 0 31 (dk_at dksX8_goOn_0 13 rfl rfl)
theorem dX8_goOn_16 : decode cX8_goOn 16 = .ok (.aload_n 0, 1) := dk_42 (dk_at dksX8_goOn_0 16 rfl rfl)
theorem dX8_goOn_17 : decode cX8_goOn 17 = .ok (.getfield 40, 3) := dk_180 0 40 (dk_at dksX8_goOn_0 17 rfl rfl)
theorem dX8_goOn_20 : decode cX8_goOn 20 = .ok (.iload_n 1, 1) := dk_27 (dk_at dksX8_goOn_0 20 rfl rfl)
theorem dX8_goOn_21 : decode cX8_goOn 21 = .ok (.iload_n 2, 1) := dk_28 (dk_at dksX8_goOn_0 21 rfl rfl)
theorem dX8_goOn_22 : decode cX8_goOn 22 = .ok (.invokevirtual 36, 3) := dk_182 0 36 (dk_at dksX8_goOn_1 0 rfl rfl)
theorem dX8_goOn_25 : decode cX8_goOn 25 = .ok (.ifCond .eq 13, 3) := dk_153 0 13 (dk_at dksX8_goOn_1 3 rfl rfl)
theorem dX8_goOn_28 : decode cX8_goOn 28 = .ok (.aload_n 0, 1) := dk_42 (dk_at dksX8_goOn_1 6 rfl rfl)
theorem dX8_goOn_29 : decode cX8_goOn 29 = .ok (.getfield 14, 3) := dk_180 0 14 (dk_at dksX8_goOn_1 7 rfl rfl)
theorem dX8_goOn_32 : decode cX8_goOn 32 = .ok (.iload_n 1, 1) := dk_27 (dk_at dksX8_goOn_1 10 rfl rfl)
theorem dX8_goOn_33 : decode cX8_goOn 33 = .ok (.iload_n 2, 1) := dk_28 (dk_at dksX8_goOn_1 11 rfl rfl)
theorem dX8_goOn_34 : decode cX8_goOn 34 = .ok (.invokevirtual 43, 3) := dk_182 0 43 (dk_at dksX8_goOn_1 12 rfl rfl)
theorem dX8_goOn_37 : decode cX8_goOn 37 = .ok (.istore_n 3, 1) := dk_62 (dk_at dksX8_goOn_1 15 rfl rfl)
theorem dX8_goOn_38 : decode cX8_goOn 38 = .ok (.iinc 2 1, 3) := dk_132 2 1 (dk_at dksX8_goOn_1 16 rfl rfl)
theorem dX8_goOn_41 : decode cX8_goOn 41 = .ok (.goto (-31), 3) := dk_167 255 225 (dk_at dksX8_goOn_1 19 rfl rfl)
theorem dX8_goOn_44 : decode cX8_goOn 44 = .ok (.iinc 1 1, 3) := dk_132 1 1 (dk_at dksX8_goOn_2 0 rfl rfl)
theorem dX8_goOn_47 : decode cX8_goOn 47 = .ok (.goto (-45), 3) := dk_167 255 211 (dk_at dksX8_goOn_2 3 rfl rfl)
theorem dX8_goOn_50 : decode cX8_goOn 50 = .ok (.aload_n 0, 1) := dk_42 (dk_at dksX8_goOn_2 6 rfl rfl)
theorem dX8_goOn_51 : decode cX8_goOn 51 = .ok (.aload_n 0, 1) := dk_42 (dk_at dksX8_goOn_2 7 rfl rfl)
theorem dX8_goOn_52 : decode cX8_goOn 52 = .ok (.getfield 40, 3) := dk_180 0 40 (dk_at dksX8_goOn_2 8 rfl rfl)
theorem dX8_goOn_55 : decode cX8_goOn 55 = .ok (.putfield 72, 3) := dk_181 0 72 (dk_at dksX8_goOn_2 11 rfl rfl)
theorem dX8_goOn_58 : decode cX8_goOn 58 = .ok (.aload_n 0, 1) := dk_42 (dk_at dksX8_goOn_2 14 rfl rfl)
theorem dX8_goOn_59 : decode cX8_goOn 59 = .ok (.new 9, 3) := dk_187 0 9 (dk_at dksX8_goOn_2 15 rfl rfl)
theorem dX8_goOn_62 : decode cX8_goOn 62 = .ok (.dup, 1) := dk_89 (dk_at dksX8_goOn_2 18 rfl rfl)
theorem dX8_goOn_63 : decode cX8_goOn 63 = .ok (.invokespecial 104, 3) := dk_183 0 104 (dk_at dksX8_goOn_2 19 rfl rfl)
theorem dX8_goOn_66 : decode cX8_goOn 66 = .ok (.putfield 40, 3) := dk_181 0 40 (dk_at dksX8_goOn_3 0 rfl rfl)
theorem dX8_goOn_69 : decode cX8_goOn 69 = .ok (.aload_n 0, 1) := dk_42 (dk_at dksX8_goOn_3 3 rfl rfl)
theorem dX8_goOn_70 : decode cX8_goOn 70 = .ok (.getfield 72, 3) := dk_180 0 72 (dk_at dksX8_goOn_3 4 rfl rfl)
theorem dX8_goOn_73 : decode cX8_goOn 73 = .ok (.invokevirtual 105, 3) := dk_182 0 105 (dk_at dksX8_goOn_3 7 rfl rfl)
theorem dX8_goOn_76 : decode cX8_goOn 76 = .ok (.ifCond .le 7, 3) := dk_158 0 7 (dk_at dksX8_goOn_3 10 rfl rfl)
theorem dX8_goOn_79 : decode cX8_goOn 79 = .ok (.iconst 1, 1) := dk_4 (dk_at dksX8_goOn_3 13 rfl rfl)
theorem dX8_goOn_80 : decode cX8_goOn 80 = .ok (.goto 4, 3) := dk_167 0 4 (dk_at dksX8_goOn_3 14 rfl rfl)
theorem dX8_goOn_83 : decode cX8_goOn 83 = .ok (.iconst 0, 1) := dk_3 (dk_at dksX8_goOn_3 17 rfl rfl)
theorem dX8_goOn_84 : decode cX8_goOn 84 = .ok (.ireturn, 1) := dk_172 (dk_at dksX8_goOn_3 18 rfl rfl)
theorem q142 : (Jvm.Cond.initialized "BrambleLogic$Changing") ∈ lw_all := lw_g (lw_at lw_m1 35 rfl) rfl
theorem q242 : (Jvm.Cond.fieldLinkNest "BrambleLogic$Changing" (75 : Nat) "BrambleLogic$Facts" "codes" "[LBrambleLogic$Codes;" "BrambleLogic") ∈ lw_tbl := lw_at lw_m1 135 rfl
theorem q616 : (Jvm.Cond.instantiable "BrambleLogic$Changing" (3 : Nat)) ∈ lw_all := lw_g (lw_at lw_m3 29 rfl) rfl
theorem q618 : (Jvm.Cond.instanceMethod ({ cls := "BrambleLogic$Changing", name := "<init>", desc := "(LBrambleLogic$Facts;)V" } : Jvm.MethodName)) ∈ lw_all := lw_g (lw_at lw_m3 31 rfl) rfl
theorem q619 : (Jvm.Cond.code ({ cls := "BrambleLogic$Changing", name := "<init>", desc := "(LBrambleLogic$Facts;)V" } : Jvm.MethodName) prog_5_method_1_code (2 : Nat) (Option.none : Option Jvm.ClassFile.FieldType)) ∈ lw_all := lw_g (lw_at lw_m3 32 rfl) rfl
theorem q620 : (Jvm.Cond.methodLink "BrambleLogic$Changing" (3 : Nat) ({ cls := "java/lang/Object", name := "<init>", desc := "()V" } : Jvm.MethodName)) ∈ lw_all := lw_g (lw_at lw_m3 33 rfl) rfl
theorem q621 : (Jvm.Cond.classLink "BrambleLogic$Changing" (9 : Nat) "BrambleLogic$Facts") ∈ lw_all := lw_g (lw_at lw_m3 34 rfl) rfl
theorem q622 : (Jvm.Cond.methodLink "BrambleLogic$Changing" (11 : Nat) ({ cls := "BrambleLogic$Facts", name := "<init>", desc := "(LBrambleLogic$Facts;)V" } : Jvm.MethodName)) ∈ lw_all := lw_g (lw_at lw_m3 35 rfl) rfl
theorem q635 : (Jvm.Cond.fieldLink "BrambleLogic$Changing" (14 : Nat) "BrambleLogic$Changing" "facts" "LBrambleLogic$Facts;") ∈ lw_all := lw_g (lw_at lw_m3 48 rfl) rfl
theorem q637 : (Jvm.Cond.fieldLink "BrambleLogic$Changing" (72 : Nat) "BrambleLogic$Changing" "latest" "LBrambleLogic$Facts;") ∈ lw_all := lw_g (lw_at lw_m3 50 rfl) rfl
theorem q638 : (Jvm.Cond.fieldLink "BrambleLogic$Changing" (40 : Nat) "BrambleLogic$Changing" "next" "LBrambleLogic$Facts;") ∈ lw_all := lw_g (lw_at lw_m3 51 rfl) rfl
theorem q639 : (Jvm.Cond.laysFinal "BrambleLogic$Changing" "BrambleLogic$Changing" "facts" "LBrambleLogic$Facts;") ∈ lw_all := lw_g (lw_at lw_m3 52 rfl) rfl
theorem q640 : (Jvm.Cond.soleField "BrambleLogic$Changing" "facts") ∈ lw_all := lw_g (lw_at lw_m3 53 rfl) rfl
theorem q641 : (Jvm.Cond.lays "BrambleLogic$Changing" "BrambleLogic$Changing" "latest" "LBrambleLogic$Facts;") ∈ lw_all := lw_g (lw_at lw_m3 54 rfl) rfl
theorem q642 : (Jvm.Cond.soleField "BrambleLogic$Changing" "latest") ∈ lw_all := lw_g (lw_at lw_m3 55 rfl) rfl
theorem q643 : (Jvm.Cond.lays "BrambleLogic$Changing" "BrambleLogic$Changing" "next" "LBrambleLogic$Facts;") ∈ lw_all := lw_g (lw_at lw_m3 56 rfl) rfl
theorem q644 : (Jvm.Cond.soleField "BrambleLogic$Changing" "next") ∈ lw_all := lw_g (lw_at lw_m3 57 rfl) rfl
theorem q645 : (Jvm.Cond.superclass "BrambleLogic$Changing" "java/lang/Object") ∈ lw_all := lw_g (lw_at lw_m3 58 rfl) rfl
theorem q696 : (Jvm.Cond.selects "BrambleLogic$Changing" ({ cls := "java/lang/Object", name := "getClass", desc := "()Ljava/lang/Class;" } : Jvm.MethodName) ({ cls := "java/lang/Object", name := "getClass", desc := "()Ljava/lang/Class;" } : Jvm.MethodName)) ∈ lw_all := lw_g (lw_at lw_m3 109 rfl) rfl
theorem q746 : (Jvm.Cond.instanceMethod ({ cls := "BrambleLogic$Changing", name := "close", desc := "(Ljava/util/List;)V" } : Jvm.MethodName)) ∈ lw_all := lw_g (lw_at lw_m3 159 rfl) rfl
theorem q747 : (Jvm.Cond.selects "BrambleLogic$Changing" ({ cls := "BrambleLogic$Changing", name := "close", desc := "(Ljava/util/List;)V" } : Jvm.MethodName) ({ cls := "BrambleLogic$Changing", name := "close", desc := "(Ljava/util/List;)V" } : Jvm.MethodName)) ∈ lw_all := lw_g (lw_at lw_m3 160 rfl) rfl
theorem q748 : (Jvm.Cond.code ({ cls := "BrambleLogic$Changing", name := "close", desc := "(Ljava/util/List;)V" } : Jvm.MethodName) prog_5_method_7_code (5 : Nat) (Option.none : Option Jvm.ClassFile.FieldType)) ∈ lw_all := lw_g (lw_at lw_m3 161 rfl) rfl
theorem q749 : (Jvm.Cond.methodLink "BrambleLogic$Changing" (104 : Nat) ({ cls := "BrambleLogic$Facts", name := "<init>", desc := "()V" } : Jvm.MethodName)) ∈ lw_all := lw_g (lw_at lw_m3 162 rfl) rfl
theorem q750 : (Jvm.Cond.interfaceEntry "BrambleLogic$Changing" (108 : Nat)) ∈ lw_tbl := lw_at lw_m3 163 rfl
theorem q751 : (Jvm.Cond.methodLink "BrambleLogic$Changing" (108 : Nat) ({ cls := "java/util/List", name := "iterator", desc := "()Ljava/util/Iterator;" } : Jvm.MethodName)) ∈ lw_all := lw_g (lw_at lw_m3 164 rfl) rfl
theorem q752 : (Jvm.Cond.interfaceEntry "BrambleLogic$Changing" (112 : Nat)) ∈ lw_tbl := lw_at lw_m3 165 rfl
theorem q753 : (Jvm.Cond.methodLink "BrambleLogic$Changing" (112 : Nat) ({ cls := "java/util/Iterator", name := "hasNext", desc := "()Z" } : Jvm.MethodName)) ∈ lw_all := lw_g (lw_at lw_m3 166 rfl) rfl
theorem q754 : (Jvm.Cond.interfaceEntry "BrambleLogic$Changing" (118 : Nat)) ∈ lw_tbl := lw_at lw_m3 167 rfl
theorem q755 : (Jvm.Cond.methodLink "BrambleLogic$Changing" (118 : Nat) ({ cls := "java/util/Iterator", name := "next", desc := "()Ljava/lang/Object;" } : Jvm.MethodName)) ∈ lw_all := lw_g (lw_at lw_m3 168 rfl) rfl
theorem q756 : (Jvm.Cond.classLink "BrambleLogic$Changing" (21 : Nat) "BrambleLogic$Rule") ∈ lw_all := lw_g (lw_at lw_m3 169 rfl) rfl
theorem q757 : (Jvm.Cond.methodLink "BrambleLogic$Changing" (120 : Nat) ({ cls := "BrambleLogic$Changing", name := "unknown", desc := "()[I" } : Jvm.MethodName)) ∈ lw_all := lw_g (lw_at lw_m3 170 rfl) rfl
theorem q758 : (Jvm.Cond.static ({ cls := "BrambleLogic$Changing", name := "unknown", desc := "()[I" } : Jvm.MethodName)) ∈ lw_all := lw_g (lw_at lw_m3 171 rfl) rfl
theorem q759 : (Jvm.Cond.code ({ cls := "BrambleLogic$Changing", name := "unknown", desc := "()[I" } : Jvm.MethodName) prog_5_method_5_code (2 : Nat) (Option.some (Jvm.ClassFile.FieldType.array Jvm.ClassFile.FieldType.int))) ∈ lw_all := lw_g (lw_at lw_m3 172 rfl) rfl
theorem q760 : (Jvm.Cond.methodLink "BrambleLogic$Changing" (94 : Nat) ({ cls := "BrambleLogic$Changing", name := "join", desc := "(LBrambleLogic$Rule;II[I)V" } : Jvm.MethodName)) ∈ lw_all := lw_g (lw_at lw_m3 173 rfl) rfl
theorem q761 : (Jvm.Cond.privateMethod ({ cls := "BrambleLogic$Changing", name := "join", desc := "(LBrambleLogic$Rule;II[I)V" } : Jvm.MethodName)) ∈ lw_tbl := lw_at lw_m3 174 rfl
theorem q762 : (Jvm.Cond.instanceMethod ({ cls := "BrambleLogic$Changing", name := "join", desc := "(LBrambleLogic$Rule;II[I)V" } : Jvm.MethodName)) ∈ lw_all := lw_g (lw_at lw_m3 175 rfl) rfl
theorem q763 : (Jvm.Cond.code ({ cls := "BrambleLogic$Changing", name := "join", desc := "(LBrambleLogic$Rule;II[I)V" } : Jvm.MethodName) prog_5_method_3_code (9 : Nat) (Option.none : Option Jvm.ClassFile.FieldType)) ∈ lw_all := lw_g (lw_at lw_m3 176 rfl) rfl
theorem q764 : (Jvm.Cond.interfaceEntry "BrambleLogic$Changing" (50 : Nat)) ∈ lw_tbl := lw_at lw_m3 177 rfl
theorem q765 : (Jvm.Cond.methodLink "BrambleLogic$Changing" (50 : Nat) ({ cls := "java/util/List", name := "size", desc := "()I" } : Jvm.MethodName)) ∈ lw_all := lw_g (lw_at lw_m3 178 rfl) rfl
theorem q773 : (Jvm.Cond.methodLink "BrambleLogic$Changing" (56 : Nat) ({ cls := "BrambleLogic$Changing", name := "known", desc := "([I)[I" } : Jvm.MethodName)) ∈ lw_all := lw_g (lw_at lw_m3 186 rfl) rfl
theorem q774 : (Jvm.Cond.static ({ cls := "BrambleLogic$Changing", name := "known", desc := "([I)[I" } : Jvm.MethodName)) ∈ lw_all := lw_g (lw_at lw_m3 187 rfl) rfl
theorem q775 : (Jvm.Cond.code ({ cls := "BrambleLogic$Changing", name := "known", desc := "([I)[I" } : Jvm.MethodName) prog_5_method_4_code (3 : Nat) (Option.some (Jvm.ClassFile.FieldType.array Jvm.ClassFile.FieldType.int))) ∈ lw_all := lw_g (lw_at lw_m3 188 rfl) rfl
theorem q776 : (Jvm.Cond.methodLink "BrambleLogic$Changing" (79 : Nat) ({ cls := "[I", name := "clone", desc := "()Ljava/lang/Object;" } : Jvm.MethodName)) ∈ lw_all := lw_g (lw_at lw_m3 189 rfl) rfl
theorem q777 : (Jvm.Cond.classLink "BrambleLogic$Changing" (80 : Nat) "[I") ∈ lw_all := lw_g (lw_at lw_m3 190 rfl) rfl
theorem q778 : (Jvm.Cond.methodLink "BrambleLogic$Changing" (98 : Nat) ({ cls := "java/lang/Math", name := "max", desc := "(II)I" } : Jvm.MethodName)) ∈ lw_all := lw_g (lw_at lw_m3 191 rfl) rfl
theorem q779 : (Jvm.Cond.methodLink "BrambleLogic$Changing" (60 : Nat) ({ cls := "BrambleLogic$Rule", name := "holds", desc := "(LBrambleLogic$Facts;[I)Z" } : Jvm.MethodName)) ∈ lw_all := lw_g (lw_at lw_m3 192 rfl) rfl
theorem q827 : (Jvm.Cond.methodLink "BrambleLogic$Changing" (64 : Nat) ({ cls := "BrambleLogic$Changing", name := "found", desc := "(LBrambleLogic$Rule;[I)V" } : Jvm.MethodName)) ∈ lw_all := lw_g (lw_at lw_m4 0 rfl) rfl
theorem q828 : (Jvm.Cond.privateMethod ({ cls := "BrambleLogic$Changing", name := "found", desc := "(LBrambleLogic$Rule;[I)V" } : Jvm.MethodName)) ∈ lw_tbl := lw_at lw_m4 1 rfl
theorem q829 : (Jvm.Cond.instanceMethod ({ cls := "BrambleLogic$Changing", name := "found", desc := "(LBrambleLogic$Rule;[I)V" } : Jvm.MethodName)) ∈ lw_all := lw_g (lw_at lw_m4 2 rfl) rfl
theorem q830 : (Jvm.Cond.code ({ cls := "BrambleLogic$Changing", name := "found", desc := "(LBrambleLogic$Rule;[I)V" } : Jvm.MethodName) prog_5_method_2_code (4 : Nat) (Option.none : Option Jvm.ClassFile.FieldType)) ∈ lw_all := lw_g (lw_at lw_m4 3 rfl) rfl
theorem q831 : (Jvm.Cond.methodLink "BrambleLogic$Changing" (26 : Nat) ({ cls := "BrambleLogic$Atom", name := "code", desc := "([I)I" } : Jvm.MethodName)) ∈ lw_all := lw_g (lw_at lw_m4 4 rfl) rfl
theorem q832 : (Jvm.Cond.methodLink "BrambleLogic$Changing" (36 : Nat) ({ cls := "BrambleLogic$Facts", name := "has", desc := "(II)Z" } : Jvm.MethodName)) ∈ lw_all := lw_g (lw_at lw_m4 5 rfl) rfl
theorem q833 : (Jvm.Cond.methodLink "BrambleLogic$Changing" (43 : Nat) ({ cls := "BrambleLogic$Facts", name := "add", desc := "(II)Z" } : Jvm.MethodName)) ∈ lw_all := lw_g (lw_at lw_m4 6 rfl) rfl
theorem q842 : (Jvm.Cond.interfaceEntry "BrambleLogic$Changing" (68 : Nat)) ∈ lw_tbl := lw_at lw_m4 15 rfl
theorem q843 : (Jvm.Cond.methodLink "BrambleLogic$Changing" (68 : Nat) ({ cls := "java/util/List", name := "get", desc := "(I)Ljava/lang/Object;" } : Jvm.MethodName)) ∈ lw_all := lw_g (lw_at lw_m4 16 rfl) rfl
theorem q861 : (Jvm.Cond.classLink "BrambleLogic$Changing" (27 : Nat) "BrambleLogic$Atom") ∈ lw_all := lw_g (lw_at lw_m4 34 rfl) rfl
theorem q862 : (Jvm.Cond.methodLink "BrambleLogic$Changing" (85 : Nat) ({ cls := "BrambleLogic$Codes", name := "has", desc := "(I)Z" } : Jvm.MethodName)) ∈ lw_all := lw_g (lw_at lw_m4 35 rfl) rfl
theorem q863 : (Jvm.Cond.methodLink "BrambleLogic$Changing" (90 : Nat) ({ cls := "BrambleLogic$Atom", name := "match", desc := "(I[I)Z" } : Jvm.MethodName)) ∈ lw_all := lw_g (lw_at lw_m4 36 rfl) rfl
theorem q870 : (Jvm.Cond.methodLink "BrambleLogic$Changing" (124 : Nat) ({ cls := "BrambleLogic$Changing", name := "goOn", desc := "()Z" } : Jvm.MethodName)) ∈ lw_all := lw_g (lw_at lw_m4 43 rfl) rfl
theorem q871 : (Jvm.Cond.privateMethod ({ cls := "BrambleLogic$Changing", name := "goOn", desc := "()Z" } : Jvm.MethodName)) ∈ lw_tbl := lw_at lw_m4 44 rfl
theorem q872 : (Jvm.Cond.instanceMethod ({ cls := "BrambleLogic$Changing", name := "goOn", desc := "()Z" } : Jvm.MethodName)) ∈ lw_all := lw_g (lw_at lw_m4 45 rfl) rfl
theorem q873 : (Jvm.Cond.code ({ cls := "BrambleLogic$Changing", name := "goOn", desc := "()Z" } : Jvm.MethodName) prog_5_method_6_code (4 : Nat) (Option.some Jvm.ClassFile.FieldType.boolean)) ∈ lw_all := lw_g (lw_at lw_m4 46 rfl) rfl
theorem q874 : (Jvm.Cond.methodLink "BrambleLogic$Changing" (105 : Nat) ({ cls := "BrambleLogic$Facts", name := "count", desc := "()I" } : Jvm.MethodName)) ∈ lw_all := lw_g (lw_at lw_m4 47 rfl) rfl
theorem q2362 : (Jvm.Cond.fieldLinkNest "BrambleLogic$Changing" (32 : Nat) "BrambleLogic$Atom" "predicate" "I" "BrambleLogic") ∈ lw_tbl := lw_at lw_m10 95 rfl
theorem q2494 : (Jvm.Cond.fieldLinkNest "BrambleLogic$Changing" (20 : Nat) "BrambleLogic$Rule" "head" "LBrambleLogic$Atom;" "BrambleLogic") ∈ lw_tbl := lw_at lw_m10 227 rfl
theorem q2509 : (Jvm.Cond.fieldLinkNest "BrambleLogic$Changing" (46 : Nat) "BrambleLogic$Rule" "premises" "Ljava/util/List;" "BrambleLogic") ∈ lw_tbl := lw_at lw_m11 2 rfl
theorem q3381 : (Jvm.Cond.castable "BrambleLogic$Changing" "java/lang/Object") ∈ lw_tbl := lw_at lw_m14 154 rfl
theorem in_X8 : ∀ w ∈ wsX80, w ∈ lw_all := lw_in wsX80 [639, 641, 643] (by decide +kernel) (by decide +kernel)
/-! BrambleLogic$Atom -/
set_option maxRecDepth 100000
def RX9 : String := "BrambleLogic$Atom"
def TX9 : u_T := fun k => match k with
  | 0 => ("BrambleLogic$Atom", "predicate", "I", true)
  | 1 => ("BrambleLogic$Atom", "first", "I", true)
  | _ => ("BrambleLogic$Atom", "second", "I", true)
def tyX9 : Nat → FieldType := fun k => match k with
  | 0 => .int
  | 1 => .int
  | _ => .int
abbrev wsX90 : List Cond := u_ws RX9 TX9 3
theorem nmX9 : ∀ a, a < 3 → ∀ b, b < 3 → a ≠ b → (TX9 a).2.1 ≠ (TX9 b).2.1 := by decide +kernel
theorem tyX9_ok : ∀ k, k < 3 → parseFieldDescriptor (TX9 k).2.2.1 = some (tyX9 k) := by decide +kernel
abbrev cX9_code : ByteArray := prog_3_method_2_code
def yX9_code : MethodName := ⟨RX9, "code", "([I)I"⟩
def dkwX9_code_1 : List UInt8 := [180, 0, 18, 43, 184, 0, 21, 167, 0, 4, 2, 184, 0, 29, 172]
abbrev dktX9_code_1 : List UInt8 := dkwX9_code_1 ++ []
def dkwX9_code_0 : List UInt8 := [42, 180, 0, 9, 42, 180, 0, 15, 43, 184, 0, 21, 42, 180, 0, 9, 184, 0, 25, 153, 0, 14, 42]
abbrev dktX9_code_0 : List UInt8 := dkwX9_code_0 ++ dktX9_code_1
theorem dksX9_code_0 : cX9_code.data.toList.drop 0 = dktX9_code_0 := by decide +kernel
theorem dksX9_code_1 : cX9_code.data.toList.drop 23 = dktX9_code_1 := dk_seg dksX9_code_0 23 rfl rfl
theorem dX9_code_0 : decode cX9_code 0 = .ok (.aload_n 0, 1) := dk_42 (dk_at dksX9_code_0 0 rfl rfl)
theorem dX9_code_1 : decode cX9_code 1 = .ok (.getfield 9, 3) := dk_180 0 9 (dk_at dksX9_code_0 1 rfl rfl)
theorem dX9_code_4 : decode cX9_code 4 = .ok (.aload_n 0, 1) := dk_42 (dk_at dksX9_code_0 4 rfl rfl)
theorem dX9_code_5 : decode cX9_code 5 = .ok (.getfield 15, 3) := dk_180 0 15 (dk_at dksX9_code_0 5 rfl rfl)
theorem dX9_code_8 : decode cX9_code 8 = .ok (.aload_n 1, 1) := dk_43 (dk_at dksX9_code_0 8 rfl rfl)
theorem dX9_code_9 : decode cX9_code 9 = .ok (.invokestatic 21, 3) := dk_184 0 21 (dk_at dksX9_code_0 9 rfl rfl)
theorem dX9_code_12 : decode cX9_code 12 = .ok (.aload_n 0, 1) := dk_42 (dk_at dksX9_code_0 12 rfl rfl)
theorem dX9_code_13 : decode cX9_code 13 = .ok (.getfield 9, 3) := dk_180 0 9 (dk_at dksX9_code_0 13 rfl rfl)
theorem dX9_code_16 : decode cX9_code 16 = .ok (.invokestatic 25, 3) := dk_184 0 25 (dk_at dksX9_code_0 16 rfl rfl)
theorem dX9_code_19 : decode cX9_code 19 = .ok (.ifCond .eq 14, 3) := dk_153 0 14 (dk_at dksX9_code_0 19 rfl rfl)
theorem dX9_code_22 : decode cX9_code 22 = .ok (.aload_n 0, 1) := dk_42 (dk_at dksX9_code_0 22 rfl rfl)
theorem dX9_code_23 : decode cX9_code 23 = .ok (.getfield 18, 3) := dk_180 0 18 (dk_at dksX9_code_1 0 rfl rfl)
theorem dX9_code_26 : decode cX9_code 26 = .ok (.aload_n 1, 1) := dk_43 (dk_at dksX9_code_1 3 rfl rfl)
theorem dX9_code_27 : decode cX9_code 27 = .ok (.invokestatic 21, 3) := dk_184 0 21 (dk_at dksX9_code_1 4 rfl rfl)
theorem dX9_code_30 : decode cX9_code 30 = .ok (.goto 4, 3) := dk_167 0 4 (dk_at dksX9_code_1 7 rfl rfl)
theorem dX9_code_33 : decode cX9_code 33 = .ok (.iconst (-1), 1) := dk_2 (dk_at dksX9_code_1 10 rfl rfl)
theorem dX9_code_34 : decode cX9_code 34 = .ok (.invokestatic 29, 3) := dk_184 0 29 (dk_at dksX9_code_1 11 rfl rfl)
theorem dX9_code_37 : decode cX9_code 37 = .ok (.ireturn, 1) := dk_172 (dk_at dksX9_code_1 14 rfl rfl)
abbrev cX9_match : ByteArray := prog_3_method_5_code
def yX9_match : MethodName := ⟨RX9, "match", "(I[I)Z"⟩
def dkwX9_match_2 : List UInt8 := [153, 0, 7, 4, 167, 0, 4, 3, 172]
abbrev dktX9_match_2 : List UInt8 := dkwX9_match_2 ++ []
def dkwX9_match_1 : List UInt8 := [27, 16, 10, 108, 44, 184, 0, 37, 153, 0, 22, 42, 180, 0, 18, 27, 16, 10, 112, 44, 184, 0, 37]
abbrev dktX9_match_1 : List UInt8 := dkwX9_match_1 ++ dktX9_match_2
def dkwX9_match_0 : List UInt8 := [42, 180, 0, 9, 184, 0, 25, 154, 0, 13, 42, 180, 0, 15, 27, 44, 184, 0, 37, 172, 42, 180, 0, 15]
abbrev dktX9_match_0 : List UInt8 := dkwX9_match_0 ++ dktX9_match_1
theorem dksX9_match_0 : cX9_match.data.toList.drop 0 = dktX9_match_0 := by decide +kernel
theorem dksX9_match_1 : cX9_match.data.toList.drop 24 = dktX9_match_1 := dk_seg dksX9_match_0 24 rfl rfl
theorem dksX9_match_2 : cX9_match.data.toList.drop 47 = dktX9_match_2 := dk_seg dksX9_match_1 23 rfl rfl
theorem dX9_match_0 : decode cX9_match 0 = .ok (.aload_n 0, 1) := dk_42 (dk_at dksX9_match_0 0 rfl rfl)
theorem dX9_match_1 : decode cX9_match 1 = .ok (.getfield 9, 3) := dk_180 0 9 (dk_at dksX9_match_0 1 rfl rfl)
theorem dX9_match_4 : decode cX9_match 4 = .ok (.invokestatic 25, 3) := dk_184 0 25 (dk_at dksX9_match_0 4 rfl rfl)
theorem dX9_match_7 : decode cX9_match 7 = .ok (.ifCond .ne 13, 3) := dk_154 0 13 (dk_at dksX9_match_0 7 rfl rfl)
theorem dX9_match_10 : decode cX9_match 10 = .ok (.aload_n 0, 1) := dk_42 (dk_at dksX9_match_0 10 rfl rfl)
theorem dX9_match_11 : decode cX9_match 11 = .ok (.getfield 15, 3) := dk_180 0 15 (dk_at dksX9_match_0 11 rfl rfl)
theorem dX9_match_14 : decode cX9_match 14 = .ok (.iload_n 1, 1) := dk_27 (dk_at dksX9_match_0 14 rfl rfl)
theorem dX9_match_15 : decode cX9_match 15 = .ok (.aload_n 2, 1) := dk_44 (dk_at dksX9_match_0 15 rfl rfl)
theorem dX9_match_16 : decode cX9_match 16 = .ok (.invokestatic 37, 3) := dk_184 0 37 (dk_at dksX9_match_0 16 rfl rfl)
theorem dX9_match_19 : decode cX9_match 19 = .ok (.ireturn, 1) := dk_172 (dk_at dksX9_match_0 19 rfl rfl)
theorem dX9_match_20 : decode cX9_match 20 = .ok (.aload_n 0, 1) := dk_42 (dk_at dksX9_match_0 20 rfl rfl)
theorem dX9_match_21 : decode cX9_match 21 = .ok (.getfield 15, 3) := dk_180 0 15 (dk_at dksX9_match_0 21 rfl rfl)
theorem dX9_match_24 : decode cX9_match 24 = .ok (.iload_n 1, 1) := dk_27 (dk_at dksX9_match_1 0 rfl rfl)
theorem dX9_match_25 : decode cX9_match 25 = .ok (.bipush 10, 2) := dk_16 10 (dk_at dksX9_match_1 1 rfl rfl)
theorem dX9_match_27 : decode cX9_match 27 = .ok (.idiv, 1) := dk_108 (dk_at dksX9_match_1 3 rfl rfl)
theorem dX9_match_28 : decode cX9_match 28 = .ok (.aload_n 2, 1) := dk_44 (dk_at dksX9_match_1 4 rfl rfl)
theorem dX9_match_29 : decode cX9_match 29 = .ok (.invokestatic 37, 3) := dk_184 0 37 (dk_at dksX9_match_1 5 rfl rfl)
theorem dX9_match_32 : decode cX9_match 32 = .ok (.ifCond .eq 22, 3) := dk_153 0 22 (dk_at dksX9_match_1 8 rfl rfl)
theorem dX9_match_35 : decode cX9_match 35 = .ok (.aload_n 0, 1) := dk_42 (dk_at dksX9_match_1 11 rfl rfl)
theorem dX9_match_36 : decode cX9_match 36 = .ok (.getfield 18, 3) := dk_180 0 18 (dk_at dksX9_match_1 12 rfl rfl)
theorem dX9_match_39 : decode cX9_match 39 = .ok (.iload_n 1, 1) := dk_27 (dk_at dksX9_match_1 15 rfl rfl)
theorem dX9_match_40 : decode cX9_match 40 = .ok (.bipush 10, 2) := dk_16 10 (dk_at dksX9_match_1 16 rfl rfl)
theorem dX9_match_42 : decode cX9_match 42 = .ok (.irem, 1) := dk_112 (dk_at dksX9_match_1 18 rfl rfl)
theorem dX9_match_43 : decode cX9_match 43 = .ok (.aload_n 2, 1) := dk_44 (dk_at dksX9_match_1 19 rfl rfl)
theorem dX9_match_44 : decode cX9_match 44 = .ok (.invokestatic 37, 3) := dk_184 0 37 (dk_at dksX9_match_1 20 rfl rfl)
theorem dX9_match_47 : decode cX9_match 47 = .ok (.ifCond .eq 7, 3) := dk_153 0 7 (dk_at dksX9_match_2 0 rfl rfl)
theorem dX9_match_50 : decode cX9_match 50 = .ok (.iconst 1, 1) := dk_4 (dk_at dksX9_match_2 3 rfl rfl)
theorem dX9_match_51 : decode cX9_match 51 = .ok (.goto 4, 3) := dk_167 0 4 (dk_at dksX9_match_2 4 rfl rfl)
theorem dX9_match_54 : decode cX9_match 54 = .ok (.iconst 0, 1) := dk_3 (dk_at dksX9_match_2 7 rfl rfl)
theorem dX9_match_55 : decode cX9_match 55 = .ok (.ireturn, 1) := dk_172 (dk_at dksX9_match_2 8 rfl rfl)
abbrev cX9_bind : ByteArray := prog_3_method_4_code
def yX9_bind : MethodName := ⟨RX9, "bind", "(II[I)Z"⟩
def dkwX9_bind_1 : List UInt8 := [27, 160, 0, 7, 4, 167, 0, 4, 3, 172]
abbrev dktX9_bind_1 : List UInt8 := dkwX9_bind_1 ++ []
def dkwX9_bind_0 : List UInt8 := [26, 44, 184, 0, 21, 62, 29, 2, 160, 0, 10, 44, 26, 16, 10, 100, 27, 79, 29, 2, 159, 0, 8, 29]
abbrev dktX9_bind_0 : List UInt8 := dkwX9_bind_0 ++ dktX9_bind_1
theorem dksX9_bind_0 : cX9_bind.data.toList.drop 0 = dktX9_bind_0 := by decide +kernel
theorem dksX9_bind_1 : cX9_bind.data.toList.drop 24 = dktX9_bind_1 := dk_seg dksX9_bind_0 24 rfl rfl
theorem dX9_bind_0 : decode cX9_bind 0 = .ok (.iload_n 0, 1) := dk_26 (dk_at dksX9_bind_0 0 rfl rfl)
theorem dX9_bind_1 : decode cX9_bind 1 = .ok (.aload_n 2, 1) := dk_44 (dk_at dksX9_bind_0 1 rfl rfl)
theorem dX9_bind_2 : decode cX9_bind 2 = .ok (.invokestatic 21, 3) := dk_184 0 21 (dk_at dksX9_bind_0 2 rfl rfl)
theorem dX9_bind_5 : decode cX9_bind 5 = .ok (.istore_n 3, 1) := dk_62 (dk_at dksX9_bind_0 5 rfl rfl)
theorem dX9_bind_6 : decode cX9_bind 6 = .ok (.iload_n 3, 1) := dk_29 (dk_at dksX9_bind_0 6 rfl rfl)
theorem dX9_bind_7 : decode cX9_bind 7 = .ok (.iconst (-1), 1) := dk_2 (dk_at dksX9_bind_0 7 rfl rfl)
theorem dX9_bind_8 : decode cX9_bind 8 = .ok (.if_icmp .ne 10, 3) := dk_160 0 10 (dk_at dksX9_bind_0 8 rfl rfl)
theorem dX9_bind_11 : decode cX9_bind 11 = .ok (.aload_n 2, 1) := dk_44 (dk_at dksX9_bind_0 11 rfl rfl)
theorem dX9_bind_12 : decode cX9_bind 12 = .ok (.iload_n 0, 1) := dk_26 (dk_at dksX9_bind_0 12 rfl rfl)
theorem dX9_bind_13 : decode cX9_bind 13 = .ok (.bipush 10, 2) := dk_16 10 (dk_at dksX9_bind_0 13 rfl rfl)
theorem dX9_bind_15 : decode cX9_bind 15 = .ok (.isub, 1) := dk_100 (dk_at dksX9_bind_0 15 rfl rfl)
theorem dX9_bind_16 : decode cX9_bind 16 = .ok (.iload_n 1, 1) := dk_27 (dk_at dksX9_bind_0 16 rfl rfl)
theorem dX9_bind_17 : decode cX9_bind 17 = .ok (.iastore, 1) := dk_79 (dk_at dksX9_bind_0 17 rfl rfl)
theorem dX9_bind_18 : decode cX9_bind 18 = .ok (.iload_n 3, 1) := dk_29 (dk_at dksX9_bind_0 18 rfl rfl)
theorem dX9_bind_19 : decode cX9_bind 19 = .ok (.iconst (-1), 1) := dk_2 (dk_at dksX9_bind_0 19 rfl rfl)
theorem dX9_bind_20 : decode cX9_bind 20 = .ok (.if_icmp .eq 8, 3) := dk_159 0 8 (dk_at dksX9_bind_0 20 rfl rfl)
theorem dX9_bind_23 : decode cX9_bind 23 = .ok (.iload_n 3, 1) := dk_29 (dk_at dksX9_bind_0 23 rfl rfl)
theorem dX9_bind_24 : decode cX9_bind 24 = .ok (.iload_n 1, 1) := dk_27 (dk_at dksX9_bind_1 0 rfl rfl)
theorem dX9_bind_25 : decode cX9_bind 25 = .ok (.if_icmp .ne 7, 3) := dk_160 0 7 (dk_at dksX9_bind_1 1 rfl rfl)
theorem dX9_bind_28 : decode cX9_bind 28 = .ok (.iconst 1, 1) := dk_4 (dk_at dksX9_bind_1 4 rfl rfl)
theorem dX9_bind_29 : decode cX9_bind 29 = .ok (.goto 4, 3) := dk_167 0 4 (dk_at dksX9_bind_1 5 rfl rfl)
theorem dX9_bind_32 : decode cX9_bind 32 = .ok (.iconst 0, 1) := dk_3 (dk_at dksX9_bind_1 8 rfl rfl)
theorem dX9_bind_33 : decode cX9_bind 33 = .ok (.ireturn, 1) := dk_172 (dk_at dksX9_bind_1 9 rfl rfl)
abbrev cX9_firstKnown : ByteArray := prog_3_method_6_code
def yX9_firstKnown : MethodName := ⟨RX9, "firstKnown", "([I)I"⟩
def dkwX9_firstKnown_0 : List UInt8 := [42, 180, 0, 15, 43, 184, 0, 21, 172]
abbrev dktX9_firstKnown_0 : List UInt8 := dkwX9_firstKnown_0 ++ []
theorem dksX9_firstKnown_0 : cX9_firstKnown.data.toList.drop 0 = dktX9_firstKnown_0 := by decide +kernel
theorem dX9_firstKnown_0 : decode cX9_firstKnown 0 = .ok (.aload_n 0, 1) := dk_42 (dk_at dksX9_firstKnown_0 0 rfl rfl)
theorem dX9_firstKnown_1 : decode cX9_firstKnown 1 = .ok (.getfield 15, 3) := dk_180 0 15 (dk_at dksX9_firstKnown_0 1 rfl rfl)
theorem dX9_firstKnown_4 : decode cX9_firstKnown 4 = .ok (.aload_n 1, 1) := dk_43 (dk_at dksX9_firstKnown_0 4 rfl rfl)
theorem dX9_firstKnown_5 : decode cX9_firstKnown 5 = .ok (.invokestatic 21, 3) := dk_184 0 21 (dk_at dksX9_firstKnown_0 5 rfl rfl)
theorem dX9_firstKnown_8 : decode cX9_firstKnown 8 = .ok (.ireturn, 1) := dk_172 (dk_at dksX9_firstKnown_0 8 rfl rfl)
abbrev cX9_secondKnown : ByteArray := prog_3_method_7_code
def yX9_secondKnown : MethodName := ⟨RX9, "secondKnown", "([I)I"⟩
def dkwX9_secondKnown_0 : List UInt8 := [42, 180, 0, 9, 184, 0, 25, 153, 0, 14, 42, 180, 0, 18, 43, 184, 0, 21, 167, 0, 4, 2, 172]
abbrev dktX9_secondKnown_0 : List UInt8 := dkwX9_secondKnown_0 ++ []
theorem dksX9_secondKnown_0 : cX9_secondKnown.data.toList.drop 0 = dktX9_secondKnown_0 := by decide +kernel
theorem dX9_secondKnown_0 : decode cX9_secondKnown 0 = .ok (.aload_n 0, 1) := dk_42 (dk_at dksX9_secondKnown_0 0 rfl rfl)
theorem dX9_secondKnown_1 : decode cX9_secondKnown 1 = .ok (.getfield 9, 3) := dk_180 0 9 (dk_at dksX9_secondKnown_0 1 rfl rfl)
theorem dX9_secondKnown_4 : decode cX9_secondKnown 4 = .ok (.invokestatic 25, 3) := dk_184 0 25 (dk_at dksX9_secondKnown_0 4 rfl rfl)
theorem dX9_secondKnown_7 : decode cX9_secondKnown 7 = .ok (.ifCond .eq 14, 3) := dk_153 0 14 (dk_at dksX9_secondKnown_0 7 rfl rfl)
theorem dX9_secondKnown_10 : decode cX9_secondKnown 10 = .ok (.aload_n 0, 1) := dk_42 (dk_at dksX9_secondKnown_0 10 rfl rfl)
theorem dX9_secondKnown_11 : decode cX9_secondKnown 11 = .ok (.getfield 18, 3) := dk_180 0 18 (dk_at dksX9_secondKnown_0 11 rfl rfl)
theorem dX9_secondKnown_14 : decode cX9_secondKnown 14 = .ok (.aload_n 1, 1) := dk_43 (dk_at dksX9_secondKnown_0 14 rfl rfl)
theorem dX9_secondKnown_15 : decode cX9_secondKnown 15 = .ok (.invokestatic 21, 3) := dk_184 0 21 (dk_at dksX9_secondKnown_0 15 rfl rfl)
theorem dX9_secondKnown_18 : decode cX9_secondKnown 18 = .ok (.goto 4, 3) := dk_167 0 4 (dk_at dksX9_secondKnown_0 18 rfl rfl)
theorem dX9_secondKnown_21 : decode cX9_secondKnown 21 = .ok (.iconst (-1), 1) := dk_2 (dk_at dksX9_secondKnown_0 21 rfl rfl)
theorem dX9_secondKnown_22 : decode cX9_secondKnown 22 = .ok (.ireturn, 1) := dk_172 (dk_at dksX9_secondKnown_0 22 rfl rfl)
abbrev cX9_init : ByteArray := prog_3_method_1_code
def yX9_init : MethodName := ⟨RX9, "<init>", "(III)V"⟩
def dkwX9_init_0 : List UInt8 := [42, 183, 0, 3, 42, 27, 181, 0, 9, 42, 28, 181, 0, 15, 42, 29, 181, 0, 18, 177]
abbrev dktX9_init_0 : List UInt8 := dkwX9_init_0 ++ []
theorem dksX9_init_0 : cX9_init.data.toList.drop 0 = dktX9_init_0 := by decide +kernel
theorem dX9_init_0 : decode cX9_init 0 = .ok (.aload_n 0, 1) := dk_42 (dk_at dksX9_init_0 0 rfl rfl)
theorem dX9_init_1 : decode cX9_init 1 = .ok (.invokespecial 3, 3) := dk_183 0 3 (dk_at dksX9_init_0 1 rfl rfl)
theorem dX9_init_4 : decode cX9_init 4 = .ok (.aload_n 0, 1) := dk_42 (dk_at dksX9_init_0 4 rfl rfl)
theorem dX9_init_5 : decode cX9_init 5 = .ok (.iload_n 1, 1) := dk_27 (dk_at dksX9_init_0 5 rfl rfl)
theorem dX9_init_6 : decode cX9_init 6 = .ok (.putfield 9, 3) := dk_181 0 9 (dk_at dksX9_init_0 6 rfl rfl)
theorem dX9_init_9 : decode cX9_init 9 = .ok (.aload_n 0, 1) := dk_42 (dk_at dksX9_init_0 9 rfl rfl)
theorem dX9_init_10 : decode cX9_init 10 = .ok (.iload_n 2, 1) := dk_28 (dk_at dksX9_init_0 10 rfl rfl)
theorem dX9_init_11 : decode cX9_init 11 = .ok (.putfield 15, 3) := dk_181 0 15 (dk_at dksX9_init_0 11 rfl rfl)
theorem dX9_init_14 : decode cX9_init 14 = .ok (.aload_n 0, 1) := dk_42 (dk_at dksX9_init_0 14 rfl rfl)
theorem dX9_init_15 : decode cX9_init 15 = .ok (.iload_n 3, 1) := dk_29 (dk_at dksX9_init_0 15 rfl rfl)
theorem dX9_init_16 : decode cX9_init 16 = .ok (.putfield 18, 3) := dk_181 0 18 (dk_at dksX9_init_0 16 rfl rfl)
theorem dX9_init_19 : decode cX9_init 19 = .ok (.return_, 1) := dk_177 (dk_at dksX9_init_0 19 rfl rfl)
abbrev cX9_mask : ByteArray := prog_3_method_3_code
def yX9_mask : MethodName := ⟨RX9, "mask", "()I"⟩
def dkwX9_mask_1 : List UInt8 := [167, 0, 4, 3, 128, 172]
abbrev dktX9_mask_1 : List UInt8 := dkwX9_mask_1 ++ []
def dkwX9_mask_0 : List UInt8 := [42, 180, 0, 15, 184, 0, 33, 42, 180, 0, 9, 184, 0, 25, 153, 0, 13, 42, 180, 0, 18, 184, 0, 33]
abbrev dktX9_mask_0 : List UInt8 := dkwX9_mask_0 ++ dktX9_mask_1
theorem dksX9_mask_0 : cX9_mask.data.toList.drop 0 = dktX9_mask_0 := by decide +kernel
theorem dksX9_mask_1 : cX9_mask.data.toList.drop 24 = dktX9_mask_1 := dk_seg dksX9_mask_0 24 rfl rfl
theorem dX9_mask_0 : decode cX9_mask 0 = .ok (.aload_n 0, 1) := dk_42 (dk_at dksX9_mask_0 0 rfl rfl)
theorem dX9_mask_1 : decode cX9_mask 1 = .ok (.getfield 15, 3) := dk_180 0 15 (dk_at dksX9_mask_0 1 rfl rfl)
theorem dX9_mask_4 : decode cX9_mask 4 = .ok (.invokestatic 33, 3) := dk_184 0 33 (dk_at dksX9_mask_0 4 rfl rfl)
theorem dX9_mask_7 : decode cX9_mask 7 = .ok (.aload_n 0, 1) := dk_42 (dk_at dksX9_mask_0 7 rfl rfl)
theorem dX9_mask_8 : decode cX9_mask 8 = .ok (.getfield 9, 3) := dk_180 0 9 (dk_at dksX9_mask_0 8 rfl rfl)
theorem dX9_mask_11 : decode cX9_mask 11 = .ok (.invokestatic 25, 3) := dk_184 0 25 (dk_at dksX9_mask_0 11 rfl rfl)
theorem dX9_mask_14 : decode cX9_mask 14 = .ok (.ifCond .eq 13, 3) := dk_153 0 13 (dk_at dksX9_mask_0 14 rfl rfl)
theorem dX9_mask_17 : decode cX9_mask 17 = .ok (.aload_n 0, 1) := dk_42 (dk_at dksX9_mask_0 17 rfl rfl)
theorem dX9_mask_18 : decode cX9_mask 18 = .ok (.getfield 18, 3) := dk_180 0 18 (dk_at dksX9_mask_0 18 rfl rfl)
theorem dX9_mask_21 : decode cX9_mask 21 = .ok (.invokestatic 33, 3) := dk_184 0 33 (dk_at dksX9_mask_0 21 rfl rfl)
theorem dX9_mask_24 : decode cX9_mask 24 = .ok (.goto 4, 3) := dk_167 0 4 (dk_at dksX9_mask_1 0 rfl rfl)
theorem dX9_mask_27 : decode cX9_mask 27 = .ok (.iconst 0, 1) := dk_3 (dk_at dksX9_mask_1 3 rfl rfl)
theorem dX9_mask_28 : decode cX9_mask 28 = .ok (.ior, 1) := dk_128 (dk_at dksX9_mask_1 4 rfl rfl)
theorem dX9_mask_29 : decode cX9_mask 29 = .ok (.ireturn, 1) := dk_172 (dk_at dksX9_mask_1 5 rfl rfl)
theorem q143 : (Jvm.Cond.initialized "BrambleLogic$Atom") ∈ lw_all := lw_g (lw_at lw_m1 36 rfl) rfl
theorem q694 : (Jvm.Cond.selects "BrambleLogic$Atom" ({ cls := "java/lang/Object", name := "getClass", desc := "()Ljava/lang/Class;" } : Jvm.MethodName) ({ cls := "java/lang/Object", name := "getClass", desc := "()Ljava/lang/Class;" } : Jvm.MethodName)) ∈ lw_all := lw_g (lw_at lw_m3 107 rfl) rfl
theorem q800 : (Jvm.Cond.instanceMethod ({ cls := "BrambleLogic$Atom", name := "code", desc := "([I)I" } : Jvm.MethodName)) ∈ lw_all := lw_g (lw_at lw_m3 213 rfl) rfl
theorem q801 : (Jvm.Cond.selects "BrambleLogic$Atom" ({ cls := "BrambleLogic$Atom", name := "code", desc := "([I)I" } : Jvm.MethodName) ({ cls := "BrambleLogic$Atom", name := "code", desc := "([I)I" } : Jvm.MethodName)) ∈ lw_all := lw_g (lw_at lw_m3 214 rfl) rfl
theorem q802 : (Jvm.Cond.code ({ cls := "BrambleLogic$Atom", name := "code", desc := "([I)I" } : Jvm.MethodName) prog_3_method_2_code (2 : Nat) (Option.some Jvm.ClassFile.FieldType.int)) ∈ lw_all := lw_g (lw_at lw_m3 215 rfl) rfl
theorem q803 : (Jvm.Cond.methodLinkNest "BrambleLogic$Atom" (21 : Nat) ({ cls := "BrambleLogic", name := "valueOf", desc := "(I[I)I" } : Jvm.MethodName) "BrambleLogic") ∈ lw_tbl := lw_at lw_m3 216 rfl
theorem q806 : (Jvm.Cond.methodLinkNest "BrambleLogic$Atom" (25 : Nat) ({ cls := "BrambleLogic", name := "isPair", desc := "(I)Z" } : Jvm.MethodName) "BrambleLogic") ∈ lw_tbl := lw_at lw_m3 219 rfl
theorem q809 : (Jvm.Cond.methodLinkNest "BrambleLogic$Atom" (29 : Nat) ({ cls := "BrambleLogic", name := "codeOf", desc := "(III)I" } : Jvm.MethodName) "BrambleLogic") ∈ lw_tbl := lw_at lw_m3 222 rfl
theorem q864 : (Jvm.Cond.instanceMethod ({ cls := "BrambleLogic$Atom", name := "match", desc := "(I[I)Z" } : Jvm.MethodName)) ∈ lw_all := lw_g (lw_at lw_m4 37 rfl) rfl
theorem q865 : (Jvm.Cond.selects "BrambleLogic$Atom" ({ cls := "BrambleLogic$Atom", name := "match", desc := "(I[I)Z" } : Jvm.MethodName) ({ cls := "BrambleLogic$Atom", name := "match", desc := "(I[I)Z" } : Jvm.MethodName)) ∈ lw_all := lw_g (lw_at lw_m4 38 rfl) rfl
theorem q866 : (Jvm.Cond.code ({ cls := "BrambleLogic$Atom", name := "match", desc := "(I[I)Z" } : Jvm.MethodName) prog_3_method_5_code (3 : Nat) (Option.some Jvm.ClassFile.FieldType.boolean)) ∈ lw_all := lw_g (lw_at lw_m4 39 rfl) rfl
theorem q867 : (Jvm.Cond.methodLink "BrambleLogic$Atom" (37 : Nat) ({ cls := "BrambleLogic$Atom", name := "bind", desc := "(II[I)Z" } : Jvm.MethodName)) ∈ lw_all := lw_g (lw_at lw_m4 40 rfl) rfl
theorem q868 : (Jvm.Cond.static ({ cls := "BrambleLogic$Atom", name := "bind", desc := "(II[I)Z" } : Jvm.MethodName)) ∈ lw_all := lw_g (lw_at lw_m4 41 rfl) rfl
theorem q869 : (Jvm.Cond.code ({ cls := "BrambleLogic$Atom", name := "bind", desc := "(II[I)Z" } : Jvm.MethodName) prog_3_method_4_code (4 : Nat) (Option.some Jvm.ClassFile.FieldType.boolean)) ∈ lw_all := lw_g (lw_at lw_m4 42 rfl) rfl
theorem q1187 : (Jvm.Cond.instanceMethod ({ cls := "BrambleLogic$Atom", name := "firstKnown", desc := "([I)I" } : Jvm.MethodName)) ∈ lw_all := lw_g (lw_at lw_m5 120 rfl) rfl
theorem q1188 : (Jvm.Cond.selects "BrambleLogic$Atom" ({ cls := "BrambleLogic$Atom", name := "firstKnown", desc := "([I)I" } : Jvm.MethodName) ({ cls := "BrambleLogic$Atom", name := "firstKnown", desc := "([I)I" } : Jvm.MethodName)) ∈ lw_all := lw_g (lw_at lw_m5 121 rfl) rfl
theorem q1189 : (Jvm.Cond.code ({ cls := "BrambleLogic$Atom", name := "firstKnown", desc := "([I)I" } : Jvm.MethodName) prog_3_method_6_code (2 : Nat) (Option.some Jvm.ClassFile.FieldType.int)) ∈ lw_all := lw_g (lw_at lw_m5 122 rfl) rfl
theorem q1191 : (Jvm.Cond.instanceMethod ({ cls := "BrambleLogic$Atom", name := "secondKnown", desc := "([I)I" } : Jvm.MethodName)) ∈ lw_all := lw_g (lw_at lw_m5 124 rfl) rfl
theorem q1192 : (Jvm.Cond.selects "BrambleLogic$Atom" ({ cls := "BrambleLogic$Atom", name := "secondKnown", desc := "([I)I" } : Jvm.MethodName) ({ cls := "BrambleLogic$Atom", name := "secondKnown", desc := "([I)I" } : Jvm.MethodName)) ∈ lw_all := lw_g (lw_at lw_m5 125 rfl) rfl
theorem q1193 : (Jvm.Cond.code ({ cls := "BrambleLogic$Atom", name := "secondKnown", desc := "([I)I" } : Jvm.MethodName) prog_3_method_7_code (2 : Nat) (Option.some Jvm.ClassFile.FieldType.int)) ∈ lw_all := lw_g (lw_at lw_m5 126 rfl) rfl
theorem q2353 : (Jvm.Cond.instantiable "BrambleLogic$Atom" (3 : Nat)) ∈ lw_all := lw_g (lw_at lw_m10 86 rfl) rfl
theorem q2355 : (Jvm.Cond.instanceMethod ({ cls := "BrambleLogic$Atom", name := "<init>", desc := "(III)V" } : Jvm.MethodName)) ∈ lw_all := lw_g (lw_at lw_m10 88 rfl) rfl
theorem q2356 : (Jvm.Cond.code ({ cls := "BrambleLogic$Atom", name := "<init>", desc := "(III)V" } : Jvm.MethodName) prog_3_method_1_code (4 : Nat) (Option.none : Option Jvm.ClassFile.FieldType)) ∈ lw_all := lw_g (lw_at lw_m10 89 rfl) rfl
theorem q2357 : (Jvm.Cond.methodLink "BrambleLogic$Atom" (3 : Nat) ({ cls := "java/lang/Object", name := "<init>", desc := "()V" } : Jvm.MethodName)) ∈ lw_all := lw_g (lw_at lw_m10 90 rfl) rfl
theorem q2358 : (Jvm.Cond.fieldLink "BrambleLogic$Atom" (9 : Nat) "BrambleLogic$Atom" "predicate" "I") ∈ lw_all := lw_g (lw_at lw_m10 91 rfl) rfl
theorem q2369 : (Jvm.Cond.fieldLink "BrambleLogic$Atom" (15 : Nat) "BrambleLogic$Atom" "first" "I") ∈ lw_all := lw_g (lw_at lw_m10 102 rfl) rfl
theorem q2371 : (Jvm.Cond.fieldLink "BrambleLogic$Atom" (18 : Nat) "BrambleLogic$Atom" "second" "I") ∈ lw_all := lw_g (lw_at lw_m10 104 rfl) rfl
theorem q2373 : (Jvm.Cond.laysFinal "BrambleLogic$Atom" "BrambleLogic$Atom" "predicate" "I") ∈ lw_all := lw_g (lw_at lw_m10 106 rfl) rfl
theorem q2374 : (Jvm.Cond.soleField "BrambleLogic$Atom" "predicate") ∈ lw_all := lw_g (lw_at lw_m10 107 rfl) rfl
theorem q2375 : (Jvm.Cond.laysFinal "BrambleLogic$Atom" "BrambleLogic$Atom" "first" "I") ∈ lw_all := lw_g (lw_at lw_m10 108 rfl) rfl
theorem q2376 : (Jvm.Cond.soleField "BrambleLogic$Atom" "first") ∈ lw_all := lw_g (lw_at lw_m10 109 rfl) rfl
theorem q2377 : (Jvm.Cond.laysFinal "BrambleLogic$Atom" "BrambleLogic$Atom" "second" "I") ∈ lw_all := lw_g (lw_at lw_m10 110 rfl) rfl
theorem q2378 : (Jvm.Cond.soleField "BrambleLogic$Atom" "second") ∈ lw_all := lw_g (lw_at lw_m10 111 rfl) rfl
theorem q2379 : (Jvm.Cond.superclass "BrambleLogic$Atom" "java/lang/Object") ∈ lw_all := lw_g (lw_at lw_m10 112 rfl) rfl
theorem q2452 : (Jvm.Cond.instanceMethod ({ cls := "BrambleLogic$Atom", name := "mask", desc := "()I" } : Jvm.MethodName)) ∈ lw_all := lw_g (lw_at lw_m10 185 rfl) rfl
theorem q2453 : (Jvm.Cond.selects "BrambleLogic$Atom" ({ cls := "BrambleLogic$Atom", name := "mask", desc := "()I" } : Jvm.MethodName) ({ cls := "BrambleLogic$Atom", name := "mask", desc := "()I" } : Jvm.MethodName)) ∈ lw_all := lw_g (lw_at lw_m10 186 rfl) rfl
theorem q2454 : (Jvm.Cond.code ({ cls := "BrambleLogic$Atom", name := "mask", desc := "()I" } : Jvm.MethodName) prog_3_method_3_code (1 : Nat) (Option.some Jvm.ClassFile.FieldType.int)) ∈ lw_all := lw_g (lw_at lw_m10 187 rfl) rfl
theorem q2455 : (Jvm.Cond.methodLinkNest "BrambleLogic$Atom" (33 : Nat) ({ cls := "BrambleLogic", name := "maskOf", desc := "(I)I" } : Jvm.MethodName) "BrambleLogic") ∈ lw_tbl := lw_at lw_m10 188 rfl
theorem q3399 : (Jvm.Cond.castable "BrambleLogic$Atom" "java/lang/Object") ∈ lw_tbl := lw_at lw_m14 172 rfl
theorem in_X9 : ∀ w ∈ wsX90, w ∈ lw_all := lw_in wsX90 [2373, 2375, 2377] (by decide +kernel) (by decide +kernel)
/-! BrambleLogic$Steps -/
set_option maxRecDepth 100000
def RX10 : String := "BrambleLogic$Steps"
abbrev cX10_init : ByteArray := prog_24_method_1_code
def yX10_init : MethodName := ⟨RX10, "<init>", "()V"⟩
theorem dX10_init_0 : decode cX10_init 0 = .ok (.aload_n 0, 1) := by decide +kernel
theorem dX10_init_1 : decode cX10_init 1 = .ok (.invokespecial 3, 3) := by decide +kernel
theorem dX10_init_4 : decode cX10_init 4 = .ok (.return_, 1) := by decide +kernel
abbrev cX10_take : ByteArray := prog_24_method_2_code
def yX10_take : MethodName := ⟨RX10, "take", "(LBrambleLogic$Rule;LBrambleLogic$Facts;)V"⟩
def dkwX10_take_4 : List UInt8 := [177]
abbrev dktX10_take_4 : List UInt8 := dkwX10_take_4 ++ []
def dkwX10_take_3 : List UInt8 := [79, 167, 255, 223, 45, 4, 92, 46, 4, 96, 79, 167, 255, 198, 45, 3, 92, 46, 4, 96, 79, 167, 255, 173]
abbrev dktX10_take_3 : List UInt8 := dkwX10_take_3 ++ dktX10_take_4
def dkwX10_take_2 : List UInt8 := [162, 0, 28, 43, 44, 45, 182, 0, 15, 153, 0, 9, 42, 43, 45, 182, 0, 19, 45, 5, 92, 46, 4, 96]
abbrev dktX10_take_2 : List UInt8 := dkwX10_take_2 ++ dktX10_take_3
def dkwX10_take_1 : List UInt8 := [4, 46, 43, 4, 182, 0, 9, 162, 0, 53, 45, 5, 3, 79, 45, 5, 46, 43, 5, 182, 0, 9]
abbrev dktX10_take_1 : List UInt8 := dkwX10_take_1 ++ dktX10_take_2
def dkwX10_take_0 : List UInt8 := [6, 188, 10, 78, 45, 3, 3, 79, 45, 3, 46, 43, 3, 182, 0, 9, 162, 0, 78, 45, 4, 3, 79, 45]
abbrev dktX10_take_0 : List UInt8 := dkwX10_take_0 ++ dktX10_take_1
theorem dksX10_take_0 : cX10_take.data.toList.drop 0 = dktX10_take_0 := by decide +kernel
theorem dksX10_take_1 : cX10_take.data.toList.drop 24 = dktX10_take_1 := dk_seg dksX10_take_0 24 rfl rfl
theorem dksX10_take_2 : cX10_take.data.toList.drop 46 = dktX10_take_2 := dk_seg dksX10_take_1 22 rfl rfl
theorem dksX10_take_3 : cX10_take.data.toList.drop 70 = dktX10_take_3 := dk_seg dksX10_take_2 24 rfl rfl
theorem dksX10_take_4 : cX10_take.data.toList.drop 94 = dktX10_take_4 := dk_seg dksX10_take_3 24 rfl rfl
theorem dX10_take_0 : decode cX10_take 0 = .ok (.iconst 3, 1) := dk_6 (dk_at dksX10_take_0 0 rfl rfl)
theorem dX10_take_1 : decode cX10_take 1 = .ok (.newarray .int, 2) := dk_188_10 (dk_at dksX10_take_0 1 rfl rfl)
theorem dX10_take_3 : decode cX10_take 3 = .ok (.astore_n 3, 1) := dk_78 (dk_at dksX10_take_0 3 rfl rfl)
theorem dX10_take_4 : decode cX10_take 4 = .ok (.aload_n 3, 1) := dk_45 (dk_at dksX10_take_0 4 rfl rfl)
theorem dX10_take_5 : decode cX10_take 5 = .ok (.iconst 0, 1) := dk_3 (dk_at dksX10_take_0 5 rfl rfl)
theorem dX10_take_6 : decode cX10_take 6 = .ok (.iconst 0, 1) := dk_3 (dk_at dksX10_take_0 6 rfl rfl)
theorem dX10_take_7 : decode cX10_take 7 = .ok (.iastore, 1) := dk_79 (dk_at dksX10_take_0 7 rfl rfl)
theorem dX10_take_8 : decode cX10_take 8 = .ok (.aload_n 3, 1) := dk_45 (dk_at dksX10_take_0 8 rfl rfl)
theorem dX10_take_9 : decode cX10_take 9 = .ok (.iconst 0, 1) := dk_3 (dk_at dksX10_take_0 9 rfl rfl)
theorem dX10_take_10 : decode cX10_take 10 = .ok (.iaload, 1) := dk_46 (dk_at dksX10_take_0 10 rfl rfl)
theorem dX10_take_11 : decode cX10_take 11 = .ok (.aload_n 1, 1) := dk_43 (dk_at dksX10_take_0 11 rfl rfl)
theorem dX10_take_12 : decode cX10_take 12 = .ok (.iconst 0, 1) := dk_3 (dk_at dksX10_take_0 12 rfl rfl)
theorem dX10_take_13 : decode cX10_take 13 = .ok (.invokevirtual 9, 3) := dk_182 0 9 (dk_at dksX10_take_0 13 rfl rfl)
theorem dX10_take_16 : decode cX10_take 16 = .ok (.if_icmp .ge 78, 3) := dk_162 0 78 (dk_at dksX10_take_0 16 rfl rfl)
theorem dX10_take_19 : decode cX10_take 19 = .ok (.aload_n 3, 1) := dk_45 (dk_at dksX10_take_0 19 rfl rfl)
theorem dX10_take_20 : decode cX10_take 20 = .ok (.iconst 1, 1) := dk_4 (dk_at dksX10_take_0 20 rfl rfl)
theorem dX10_take_21 : decode cX10_take 21 = .ok (.iconst 0, 1) := dk_3 (dk_at dksX10_take_0 21 rfl rfl)
theorem dX10_take_22 : decode cX10_take 22 = .ok (.iastore, 1) := dk_79 (dk_at dksX10_take_0 22 rfl rfl)
theorem dX10_take_23 : decode cX10_take 23 = .ok (.aload_n 3, 1) := dk_45 (dk_at dksX10_take_0 23 rfl rfl)
theorem dX10_take_24 : decode cX10_take 24 = .ok (.iconst 1, 1) := dk_4 (dk_at dksX10_take_1 0 rfl rfl)
theorem dX10_take_25 : decode cX10_take 25 = .ok (.iaload, 1) := dk_46 (dk_at dksX10_take_1 1 rfl rfl)
theorem dX10_take_26 : decode cX10_take 26 = .ok (.aload_n 1, 1) := dk_43 (dk_at dksX10_take_1 2 rfl rfl)
theorem dX10_take_27 : decode cX10_take 27 = .ok (.iconst 1, 1) := dk_4 (dk_at dksX10_take_1 3 rfl rfl)
theorem dX10_take_28 : decode cX10_take 28 = .ok (.invokevirtual 9, 3) := dk_182 0 9 (dk_at dksX10_take_1 4 rfl rfl)
theorem dX10_take_31 : decode cX10_take 31 = .ok (.if_icmp .ge 53, 3) := dk_162 0 53 (dk_at dksX10_take_1 7 rfl rfl)
theorem dX10_take_34 : decode cX10_take 34 = .ok (.aload_n 3, 1) := dk_45 (dk_at dksX10_take_1 10 rfl rfl)
theorem dX10_take_35 : decode cX10_take 35 = .ok (.iconst 2, 1) := dk_5 (dk_at dksX10_take_1 11 rfl rfl)
theorem dX10_take_36 : decode cX10_take 36 = .ok (.iconst 0, 1) := dk_3 (dk_at dksX10_take_1 12 rfl rfl)
theorem dX10_take_37 : decode cX10_take 37 = .ok (.iastore, 1) := dk_79 (dk_at dksX10_take_1 13 rfl rfl)
theorem dX10_take_38 : decode cX10_take 38 = .ok (.aload_n 3, 1) := dk_45 (dk_at dksX10_take_1 14 rfl rfl)
theorem dX10_take_39 : decode cX10_take 39 = .ok (.iconst 2, 1) := dk_5 (dk_at dksX10_take_1 15 rfl rfl)
theorem dX10_take_40 : decode cX10_take 40 = .ok (.iaload, 1) := dk_46 (dk_at dksX10_take_1 16 rfl rfl)
theorem dX10_take_41 : decode cX10_take 41 = .ok (.aload_n 1, 1) := dk_43 (dk_at dksX10_take_1 17 rfl rfl)
theorem dX10_take_42 : decode cX10_take 42 = .ok (.iconst 2, 1) := dk_5 (dk_at dksX10_take_1 18 rfl rfl)
theorem dX10_take_43 : decode cX10_take 43 = .ok (.invokevirtual 9, 3) := dk_182 0 9 (dk_at dksX10_take_1 19 rfl rfl)
theorem dX10_take_46 : decode cX10_take 46 = .ok (.if_icmp .ge 28, 3) := dk_162 0 28 (dk_at dksX10_take_2 0 rfl rfl)
theorem dX10_take_49 : decode cX10_take 49 = .ok (.aload_n 1, 1) := dk_43 (dk_at dksX10_take_2 3 rfl rfl)
theorem dX10_take_50 : decode cX10_take 50 = .ok (.aload_n 2, 1) := dk_44 (dk_at dksX10_take_2 4 rfl rfl)
theorem dX10_take_51 : decode cX10_take 51 = .ok (.aload_n 3, 1) := dk_45 (dk_at dksX10_take_2 5 rfl rfl)
theorem dX10_take_52 : decode cX10_take 52 = .ok (.invokevirtual 15, 3) := dk_182 0 15 (dk_at dksX10_take_2 6 rfl rfl)
theorem dX10_take_55 : decode cX10_take 55 = .ok (.ifCond .eq 9, 3) := dk_153 0 9 (dk_at dksX10_take_2 9 rfl rfl)
theorem dX10_take_58 : decode cX10_take 58 = .ok (.aload_n 0, 1) := dk_42 (dk_at dksX10_take_2 12 rfl rfl)
theorem dX10_take_59 : decode cX10_take 59 = .ok (.aload_n 1, 1) := dk_43 (dk_at dksX10_take_2 13 rfl rfl)
theorem dX10_take_60 : decode cX10_take 60 = .ok (.aload_n 3, 1) := dk_45 (dk_at dksX10_take_2 14 rfl rfl)
theorem dX10_take_61 : decode cX10_take 61 = .ok (.invokevirtual 19, 3) := dk_182 0 19 (dk_at dksX10_take_2 15 rfl rfl)
theorem dX10_take_64 : decode cX10_take 64 = .ok (.aload_n 3, 1) := dk_45 (dk_at dksX10_take_2 18 rfl rfl)
theorem dX10_take_65 : decode cX10_take 65 = .ok (.iconst 2, 1) := dk_5 (dk_at dksX10_take_2 19 rfl rfl)
theorem dX10_take_66 : decode cX10_take 66 = .ok (.dup2, 1) := dk_92 (dk_at dksX10_take_2 20 rfl rfl)
theorem dX10_take_67 : decode cX10_take 67 = .ok (.iaload, 1) := dk_46 (dk_at dksX10_take_2 21 rfl rfl)
theorem dX10_take_68 : decode cX10_take 68 = .ok (.iconst 1, 1) := dk_4 (dk_at dksX10_take_2 22 rfl rfl)
theorem dX10_take_69 : decode cX10_take 69 = .ok (.iadd, 1) := dk_96 (dk_at dksX10_take_2 23 rfl rfl)
theorem dX10_take_70 : decode cX10_take 70 = .ok (.iastore, 1) := dk_79 (dk_at dksX10_take_3 0 rfl rfl)
theorem dX10_take_71 : decode cX10_take 71 = .ok (.goto (-33), 3) := dk_167 255 223 (dk_at dksX10_take_3 1 rfl rfl)
theorem dX10_take_74 : decode cX10_take 74 = .ok (.aload_n 3, 1) := dk_45 (dk_at dksX10_take_3 4 rfl rfl)
theorem dX10_take_75 : decode cX10_take 75 = .ok (.iconst 1, 1) := dk_4 (dk_at dksX10_take_3 5 rfl rfl)
theorem dX10_take_76 : decode cX10_take 76 = .ok (.dup2, 1) := dk_92 (dk_at dksX10_take_3 6 rfl rfl)
theorem dX10_take_77 : decode cX10_take 77 = .ok (.iaload, 1) := dk_46 (dk_at dksX10_take_3 7 rfl rfl)
theorem dX10_take_78 : decode cX10_take 78 = .ok (.iconst 1, 1) := dk_4 (dk_at dksX10_take_3 8 rfl rfl)
theorem dX10_take_79 : decode cX10_take 79 = .ok (.iadd, 1) := dk_96 (dk_at dksX10_take_3 9 rfl rfl)
theorem dX10_take_80 : decode cX10_take 80 = .ok (.iastore, 1) := dk_79 (dk_at dksX10_take_3 10 rfl rfl)
theorem dX10_take_81 : decode cX10_take 81 = .ok (.goto (-58), 3) := dk_167 255 198 (dk_at dksX10_take_3 11 rfl rfl)
theorem dX10_take_84 : decode cX10_take 84 = .ok (.aload_n 3, 1) := dk_45 (dk_at dksX10_take_3 14 rfl rfl)
theorem dX10_take_85 : decode cX10_take 85 = .ok (.iconst 0, 1) := dk_3 (dk_at dksX10_take_3 15 rfl rfl)
theorem dX10_take_86 : decode cX10_take 86 = .ok (.dup2, 1) := dk_92 (dk_at dksX10_take_3 16 rfl rfl)
theorem dX10_take_87 : decode cX10_take 87 = .ok (.iaload, 1) := dk_46 (dk_at dksX10_take_3 17 rfl rfl)
theorem dX10_take_88 : decode cX10_take 88 = .ok (.iconst 1, 1) := dk_4 (dk_at dksX10_take_3 18 rfl rfl)
theorem dX10_take_89 : decode cX10_take 89 = .ok (.iadd, 1) := dk_96 (dk_at dksX10_take_3 19 rfl rfl)
theorem dX10_take_90 : decode cX10_take 90 = .ok (.iastore, 1) := dk_79 (dk_at dksX10_take_3 20 rfl rfl)
theorem dX10_take_91 : decode cX10_take 91 = .ok (.goto (-83), 3) := dk_167 255 173 (dk_at dksX10_take_3 21 rfl rfl)
theorem dX10_take_94 : decode cX10_take 94 = .ok (.return_, 1) := dk_177 (dk_at dksX10_take_4 0 rfl rfl)
theorem q146 : (Jvm.Cond.initialized "BrambleLogic$Steps") ∈ lw_all := lw_g (lw_at lw_m1 39 rfl) rfl
theorem q907 : (Jvm.Cond.instanceMethod ({ cls := "BrambleLogic$Steps", name := "<init>", desc := "()V" } : Jvm.MethodName)) ∈ lw_all := lw_g (lw_at lw_m4 80 rfl) rfl
theorem q908 : (Jvm.Cond.code ({ cls := "BrambleLogic$Steps", name := "<init>", desc := "()V" } : Jvm.MethodName) prog_24_method_1_code (1 : Nat) (Option.none : Option Jvm.ClassFile.FieldType)) ∈ lw_all := lw_g (lw_at lw_m4 81 rfl) rfl
theorem q909 : (Jvm.Cond.methodLink "BrambleLogic$Steps" (3 : Nat) ({ cls := "java/lang/Object", name := "<init>", desc := "()V" } : Jvm.MethodName)) ∈ lw_all := lw_g (lw_at lw_m4 82 rfl) rfl
theorem q933 : (Jvm.Cond.declares ({ cls := "BrambleLogic$Steps", name := "take", desc := "(LBrambleLogic$Rule;LBrambleLogic$Facts;)V" } : Jvm.MethodName)) ∈ lw_tbl := lw_at lw_m4 106 rfl
theorem q935 : (Jvm.Cond.instanceMethod ({ cls := "BrambleLogic$Steps", name := "take", desc := "(LBrambleLogic$Rule;LBrambleLogic$Facts;)V" } : Jvm.MethodName)) ∈ lw_all := lw_g (lw_at lw_m4 108 rfl) rfl
theorem q936 : (Jvm.Cond.code ({ cls := "BrambleLogic$Steps", name := "take", desc := "(LBrambleLogic$Rule;LBrambleLogic$Facts;)V" } : Jvm.MethodName) prog_24_method_2_code (4 : Nat) (Option.none : Option Jvm.ClassFile.FieldType)) ∈ lw_all := lw_g (lw_at lw_m4 109 rfl) rfl
theorem q937 : (Jvm.Cond.methodLink "BrambleLogic$Steps" (9 : Nat) ({ cls := "BrambleLogic$Rule", name := "range", desc := "(I)I" } : Jvm.MethodName)) ∈ lw_all := lw_g (lw_at lw_m4 110 rfl) rfl
theorem q941 : (Jvm.Cond.methodLink "BrambleLogic$Steps" (15 : Nat) ({ cls := "BrambleLogic$Rule", name := "holds", desc := "(LBrambleLogic$Facts;[I)Z" } : Jvm.MethodName)) ∈ lw_all := lw_g (lw_at lw_m4 114 rfl) rfl
theorem q942 : (Jvm.Cond.methodLink "BrambleLogic$Steps" (19 : Nat) ({ cls := "BrambleLogic$Steps", name := "meet", desc := "(LBrambleLogic$Rule;[I)V" } : Jvm.MethodName)) ∈ lw_all := lw_g (lw_at lw_m4 115 rfl) rfl
theorem q943 : (Jvm.Cond.declares ({ cls := "BrambleLogic$Steps", name := "meet", desc := "(LBrambleLogic$Rule;[I)V" } : Jvm.MethodName)) ∈ lw_tbl := lw_at lw_m4 116 rfl
theorem q944 : (Jvm.Cond.sameMethod "BrambleLogic$Steps" "BrambleLogic$Steps" "meet" "(LBrambleLogic$Rule;[I)V") ∈ lw_all := lw_g (lw_at lw_m4 117 rfl) rfl
theorem q3343 : (Jvm.Cond.sameMethod "BrambleLogic$Steps" "BrambleLogic$Steps" "take" "(LBrambleLogic$Rule;LBrambleLogic$Facts;)V") ∈ lw_all := lw_g (lw_at lw_m14 116 rfl) rfl
/-! BrambleLogic$Trying -/
set_option maxRecDepth 100000
def RX11 : String := "BrambleLogic$Trying"
def TX11 : u_T := fun k => match k with
  | 0 => ("BrambleLogic$Trying", "facts", "LBrambleLogic$Facts;", true)
  | _ => ("BrambleLogic$Trying", "isNew", "Z", false)
def tyX11 : Nat → FieldType := fun k => match k with
  | 0 => .object "BrambleLogic$Facts"
  | _ => .boolean
abbrev wsX110 : List Cond := u_ws RX11 TX11 2
theorem nmX11 : ∀ a, a < 2 → ∀ b, b < 2 → a ≠ b → (TX11 a).2.1 ≠ (TX11 b).2.1 := by decide +kernel
theorem tyX11_ok : ∀ k, k < 2 → parseFieldDescriptor (TX11 k).2.2.1 = some (tyX11 k) := by decide +kernel
abbrev cX11_init : ByteArray := prog_26_method_1_code
def yX11_init : MethodName := ⟨RX11, "<init>", "(LBrambleLogic$Facts;)V"⟩
def dkwX11_init_0 : List UInt8 := [42, 183, 0, 1, 42, 187, 0, 7, 89, 43, 183, 0, 9, 181, 0, 12, 177]
abbrev dktX11_init_0 : List UInt8 := dkwX11_init_0 ++ []
theorem dksX11_init_0 : cX11_init.data.toList.drop 0 = dktX11_init_0 := by decide +kernel
theorem dX11_init_0 : decode cX11_init 0 = .ok (.aload_n 0, 1) := dk_42 (dk_at dksX11_init_0 0 rfl rfl)
theorem dX11_init_1 : decode cX11_init 1 = .ok (.invokespecial 1, 3) := dk_183 0 1 (dk_at dksX11_init_0 1 rfl rfl)
theorem dX11_init_4 : decode cX11_init 4 = .ok (.aload_n 0, 1) := dk_42 (dk_at dksX11_init_0 4 rfl rfl)
theorem dX11_init_5 : decode cX11_init 5 = .ok (.new 7, 3) := dk_187 0 7 (dk_at dksX11_init_0 5 rfl rfl)
theorem dX11_init_8 : decode cX11_init 8 = .ok (.dup, 1) := dk_89 (dk_at dksX11_init_0 8 rfl rfl)
theorem dX11_init_9 : decode cX11_init 9 = .ok (.aload_n 1, 1) := dk_43 (dk_at dksX11_init_0 9 rfl rfl)
theorem dX11_init_10 : decode cX11_init 10 = .ok (.invokespecial 9, 3) := dk_183 0 9 (dk_at dksX11_init_0 10 rfl rfl)
theorem dX11_init_13 : decode cX11_init 13 = .ok (.putfield 12, 3) := dk_181 0 12 (dk_at dksX11_init_0 13 rfl rfl)
theorem dX11_init_16 : decode cX11_init 16 = .ok (.return_, 1) := dk_177 (dk_at dksX11_init_0 16 rfl rfl)
abbrev cX11_close : ByteArray := prog_26_method_3_code
def yX11_close : MethodName := ⟨RX11, "close", "(Ljava/util/List;)V"⟩
def dkwX11_close_2 : List UInt8 := [180, 0, 12, 182, 0, 58, 167, 255, 228, 167, 255, 206, 177]
abbrev dktX11_close_2 : List UInt8 := dkwX11_close_2 ++ []
def dkwX11_close_1 : List UInt8 := [44, 185, 0, 48, 1, 0, 153, 0, 25, 44, 185, 0, 54, 1, 0, 192, 0, 23, 78, 42, 45, 42]
abbrev dktX11_close_1 : List UInt8 := dkwX11_close_1 ++ dktX11_close_2
def dkwX11_close_0 : List UInt8 := [42, 4, 181, 0, 18, 42, 180, 0, 18, 153, 0, 49, 42, 3, 181, 0, 18, 43, 185, 0, 42, 1, 0, 77]
abbrev dktX11_close_0 : List UInt8 := dkwX11_close_0 ++ dktX11_close_1
theorem dksX11_close_0 : cX11_close.data.toList.drop 0 = dktX11_close_0 := by decide +kernel
theorem dksX11_close_1 : cX11_close.data.toList.drop 24 = dktX11_close_1 := dk_seg dksX11_close_0 24 rfl rfl
theorem dksX11_close_2 : cX11_close.data.toList.drop 46 = dktX11_close_2 := dk_seg dksX11_close_1 22 rfl rfl
theorem dX11_close_0 : decode cX11_close 0 = .ok (.aload_n 0, 1) := dk_42 (dk_at dksX11_close_0 0 rfl rfl)
theorem dX11_close_1 : decode cX11_close 1 = .ok (.iconst 1, 1) := dk_4 (dk_at dksX11_close_0 1 rfl rfl)
theorem dX11_close_2 : decode cX11_close 2 = .ok (.putfield 18, 3) := dk_181 0 18 (dk_at dksX11_close_0 2 rfl rfl)
theorem dX11_close_5 : decode cX11_close 5 = .ok (.aload_n 0, 1) := dk_42 (dk_at dksX11_close_0 5 rfl rfl)
theorem dX11_close_6 : decode cX11_close 6 = .ok (.getfield 18, 3) := dk_180 0 18 (dk_at dksX11_close_0 6 rfl rfl)
theorem dX11_close_9 : decode cX11_close 9 = .ok (.ifCond .eq 49, 3) := dk_153 0 49 (dk_at dksX11_close_0 9 rfl rfl)
theorem dX11_close_12 : decode cX11_close 12 = .ok (.aload_n 0, 1) := dk_42 (dk_at dksX11_close_0 12 rfl rfl)
theorem dX11_close_13 : decode cX11_close 13 = .ok (.iconst 0, 1) := dk_3 (dk_at dksX11_close_0 13 rfl rfl)
theorem dX11_close_14 : decode cX11_close 14 = .ok (.putfield 18, 3) := dk_181 0 18 (dk_at dksX11_close_0 14 rfl rfl)
theorem dX11_close_17 : decode cX11_close 17 = .ok (.aload_n 1, 1) := dk_43 (dk_at dksX11_close_0 17 rfl rfl)
theorem dX11_close_18 : decode cX11_close 18 = .ok (.invokeinterface 42 1, 5) := by decide +kernel
theorem dX11_close_23 : decode cX11_close 23 = .ok (.astore_n 2, 1) := dk_77 (dk_at dksX11_close_0 23 rfl rfl)
theorem dX11_close_24 : decode cX11_close 24 = .ok (.aload_n 2, 1) := dk_44 (dk_at dksX11_close_1 0 rfl rfl)
theorem dX11_close_25 : decode cX11_close 25 = .ok (.invokeinterface 48 1, 5) := by decide +kernel
theorem dX11_close_30 : decode cX11_close 30 = .ok (.ifCond .eq 25, 3) := dk_153 0 25 (dk_at dksX11_close_1 6 rfl rfl)
theorem dX11_close_33 : decode cX11_close 33 = .ok (.aload_n 2, 1) := dk_44 (dk_at dksX11_close_1 9 rfl rfl)
theorem dX11_close_34 : decode cX11_close 34 = .ok (.invokeinterface 54 1, 5) := by decide +kernel
theorem dX11_close_39 : decode cX11_close 39 = .ok (.checkcast 23, 3) := dk_192 0 23 (dk_at dksX11_close_1 15 rfl rfl)
theorem dX11_close_42 : decode cX11_close 42 = .ok (.astore_n 3, 1) := dk_78 (dk_at dksX11_close_1 18 rfl rfl)
theorem dX11_close_43 : decode cX11_close 43 = .ok (.aload_n 0, 1) := dk_42 (dk_at dksX11_close_1 19 rfl rfl)
theorem dX11_close_44 : decode cX11_close 44 = .ok (.aload_n 3, 1) := dk_45 (dk_at dksX11_close_1 20 rfl rfl)
theorem dX11_close_45 : decode cX11_close 45 = .ok (.aload_n 0, 1) := dk_42 (dk_at dksX11_close_1 21 rfl rfl)
theorem dX11_close_46 : decode cX11_close 46 = .ok (.getfield 12, 3) := dk_180 0 12 (dk_at dksX11_close_2 0 rfl rfl)
theorem dX11_close_49 : decode cX11_close 49 = .ok (.invokevirtual 58, 3) := dk_182 0 58 (dk_at dksX11_close_2 3 rfl rfl)
theorem dX11_close_52 : decode cX11_close 52 = .ok (.goto (-28), 3) := dk_167 255 228 (dk_at dksX11_close_2 6 rfl rfl)
theorem dX11_close_55 : decode cX11_close 55 = .ok (.goto (-50), 3) := dk_167 255 206 (dk_at dksX11_close_2 9 rfl rfl)
theorem dX11_close_58 : decode cX11_close 58 = .ok (.return_, 1) := dk_177 (dk_at dksX11_close_2 12 rfl rfl)
abbrev cX11_meet : ByteArray := prog_26_method_2_code
def yX11_meet : MethodName := ⟨RX11, "meet", "(LBrambleLogic$Rule;[I)V"⟩
def dkwX11_meet_1 : List UInt8 := [182, 0, 38, 128, 181, 0, 18, 177]
abbrev dktX11_meet_1 : List UInt8 := dkwX11_meet_1 ++ []
def dkwX11_meet_0 : List UInt8 := [42, 89, 180, 0, 18, 42, 180, 0, 12, 43, 180, 0, 22, 180, 0, 28, 43, 180, 0, 22, 44, 182, 0, 34]
abbrev dktX11_meet_0 : List UInt8 := dkwX11_meet_0 ++ dktX11_meet_1
theorem dksX11_meet_0 : cX11_meet.data.toList.drop 0 = dktX11_meet_0 := by decide +kernel
theorem dksX11_meet_1 : cX11_meet.data.toList.drop 24 = dktX11_meet_1 := dk_seg dksX11_meet_0 24 rfl rfl
theorem dX11_meet_0 : decode cX11_meet 0 = .ok (.aload_n 0, 1) := dk_42 (dk_at dksX11_meet_0 0 rfl rfl)
theorem dX11_meet_1 : decode cX11_meet 1 = .ok (.dup, 1) := dk_89 (dk_at dksX11_meet_0 1 rfl rfl)
theorem dX11_meet_2 : decode cX11_meet 2 = .ok (.getfield 18, 3) := dk_180 0 18 (dk_at dksX11_meet_0 2 rfl rfl)
theorem dX11_meet_5 : decode cX11_meet 5 = .ok (.aload_n 0, 1) := dk_42 (dk_at dksX11_meet_0 5 rfl rfl)
theorem dX11_meet_6 : decode cX11_meet 6 = .ok (.getfield 12, 3) := dk_180 0 12 (dk_at dksX11_meet_0 6 rfl rfl)
theorem dX11_meet_9 : decode cX11_meet 9 = .ok (.aload_n 1, 1) := dk_43 (dk_at dksX11_meet_0 9 rfl rfl)
theorem dX11_meet_10 : decode cX11_meet 10 = .ok (.getfield 22, 3) := dk_180 0 22 (dk_at dksX11_meet_0 10 rfl rfl)
theorem dX11_meet_13 : decode cX11_meet 13 = .ok (.getfield 28, 3) := dk_180 0 28 (dk_at dksX11_meet_0 13 rfl rfl)
theorem dX11_meet_16 : decode cX11_meet 16 = .ok (.aload_n 1, 1) := dk_43 (dk_at dksX11_meet_0 16 rfl rfl)
theorem dX11_meet_17 : decode cX11_meet 17 = .ok (.getfield 22, 3) := dk_180 0 22 (dk_at dksX11_meet_0 17 rfl rfl)
theorem dX11_meet_20 : decode cX11_meet 20 = .ok (.aload_n 2, 1) := dk_44 (dk_at dksX11_meet_0 20 rfl rfl)
theorem dX11_meet_21 : decode cX11_meet 21 = .ok (.invokevirtual 34, 3) := dk_182 0 34 (dk_at dksX11_meet_0 21 rfl rfl)
theorem dX11_meet_24 : decode cX11_meet 24 = .ok (.invokevirtual 38, 3) := dk_182 0 38 (dk_at dksX11_meet_1 0 rfl rfl)
theorem dX11_meet_27 : decode cX11_meet 27 = .ok (.ior, 1) := dk_128 (dk_at dksX11_meet_1 3 rfl rfl)
theorem dX11_meet_28 : decode cX11_meet 28 = .ok (.putfield 18, 3) := dk_181 0 18 (dk_at dksX11_meet_1 4 rfl rfl)
theorem dX11_meet_31 : decode cX11_meet 31 = .ok (.return_, 1) := dk_177 (dk_at dksX11_meet_1 7 rfl rfl)
theorem q147 : (Jvm.Cond.initialized "BrambleLogic$Trying") ∈ lw_all := lw_g (lw_at lw_m1 40 rfl) rfl
theorem q715 : (Jvm.Cond.selects "BrambleLogic$Trying" ({ cls := "java/lang/Object", name := "getClass", desc := "()Ljava/lang/Class;" } : Jvm.MethodName) ({ cls := "java/lang/Object", name := "getClass", desc := "()Ljava/lang/Class;" } : Jvm.MethodName)) ∈ lw_all := lw_g (lw_at lw_m3 128 rfl) rfl
theorem q902 : (Jvm.Cond.instantiable "BrambleLogic$Trying" (2 : Nat)) ∈ lw_all := lw_g (lw_at lw_m4 75 rfl) rfl
theorem q904 : (Jvm.Cond.instanceMethod ({ cls := "BrambleLogic$Trying", name := "<init>", desc := "(LBrambleLogic$Facts;)V" } : Jvm.MethodName)) ∈ lw_all := lw_g (lw_at lw_m4 77 rfl) rfl
theorem q905 : (Jvm.Cond.code ({ cls := "BrambleLogic$Trying", name := "<init>", desc := "(LBrambleLogic$Facts;)V" } : Jvm.MethodName) prog_26_method_1_code (2 : Nat) (Option.none : Option Jvm.ClassFile.FieldType)) ∈ lw_all := lw_g (lw_at lw_m4 78 rfl) rfl
theorem q906 : (Jvm.Cond.methodLinkNest "BrambleLogic$Trying" (1 : Nat) ({ cls := "BrambleLogic$Steps", name := "<init>", desc := "()V" } : Jvm.MethodName) "BrambleLogic") ∈ lw_tbl := lw_at lw_m4 79 rfl
theorem q910 : (Jvm.Cond.classLink "BrambleLogic$Trying" (7 : Nat) "BrambleLogic$Facts") ∈ lw_all := lw_g (lw_at lw_m4 83 rfl) rfl
theorem q911 : (Jvm.Cond.methodLink "BrambleLogic$Trying" (9 : Nat) ({ cls := "BrambleLogic$Facts", name := "<init>", desc := "(LBrambleLogic$Facts;)V" } : Jvm.MethodName)) ∈ lw_all := lw_g (lw_at lw_m4 84 rfl) rfl
theorem q912 : (Jvm.Cond.fieldLink "BrambleLogic$Trying" (12 : Nat) "BrambleLogic$Trying" "facts" "LBrambleLogic$Facts;") ∈ lw_all := lw_g (lw_at lw_m4 85 rfl) rfl
theorem q914 : (Jvm.Cond.fieldLink "BrambleLogic$Trying" (18 : Nat) "BrambleLogic$Trying" "isNew" "Z") ∈ lw_all := lw_g (lw_at lw_m4 87 rfl) rfl
theorem q915 : (Jvm.Cond.laysFinal "BrambleLogic$Trying" "BrambleLogic$Trying" "facts" "LBrambleLogic$Facts;") ∈ lw_all := lw_g (lw_at lw_m4 88 rfl) rfl
theorem q916 : (Jvm.Cond.soleField "BrambleLogic$Trying" "facts") ∈ lw_all := lw_g (lw_at lw_m4 89 rfl) rfl
theorem q917 : (Jvm.Cond.lays "BrambleLogic$Trying" "BrambleLogic$Trying" "isNew" "Z") ∈ lw_all := lw_g (lw_at lw_m4 90 rfl) rfl
theorem q918 : (Jvm.Cond.soleField "BrambleLogic$Trying" "isNew") ∈ lw_all := lw_g (lw_at lw_m4 91 rfl) rfl
theorem q919 : (Jvm.Cond.superclass "BrambleLogic$Trying" "BrambleLogic$Steps") ∈ lw_all := lw_g (lw_at lw_m4 92 rfl) rfl
theorem q921 : (Jvm.Cond.instanceMethod ({ cls := "BrambleLogic$Trying", name := "close", desc := "(Ljava/util/List;)V" } : Jvm.MethodName)) ∈ lw_all := lw_g (lw_at lw_m4 94 rfl) rfl
theorem q922 : (Jvm.Cond.selects "BrambleLogic$Trying" ({ cls := "BrambleLogic$Trying", name := "close", desc := "(Ljava/util/List;)V" } : Jvm.MethodName) ({ cls := "BrambleLogic$Trying", name := "close", desc := "(Ljava/util/List;)V" } : Jvm.MethodName)) ∈ lw_all := lw_g (lw_at lw_m4 95 rfl) rfl
theorem q923 : (Jvm.Cond.code ({ cls := "BrambleLogic$Trying", name := "close", desc := "(Ljava/util/List;)V" } : Jvm.MethodName) prog_26_method_3_code (4 : Nat) (Option.none : Option Jvm.ClassFile.FieldType)) ∈ lw_all := lw_g (lw_at lw_m4 96 rfl) rfl
theorem q924 : (Jvm.Cond.interfaceEntry "BrambleLogic$Trying" (42 : Nat)) ∈ lw_tbl := lw_at lw_m4 97 rfl
theorem q925 : (Jvm.Cond.methodLink "BrambleLogic$Trying" (42 : Nat) ({ cls := "java/util/List", name := "iterator", desc := "()Ljava/util/Iterator;" } : Jvm.MethodName)) ∈ lw_all := lw_g (lw_at lw_m4 98 rfl) rfl
theorem q926 : (Jvm.Cond.interfaceEntry "BrambleLogic$Trying" (48 : Nat)) ∈ lw_tbl := lw_at lw_m4 99 rfl
theorem q927 : (Jvm.Cond.methodLink "BrambleLogic$Trying" (48 : Nat) ({ cls := "java/util/Iterator", name := "hasNext", desc := "()Z" } : Jvm.MethodName)) ∈ lw_all := lw_g (lw_at lw_m4 100 rfl) rfl
theorem q928 : (Jvm.Cond.interfaceEntry "BrambleLogic$Trying" (54 : Nat)) ∈ lw_tbl := lw_at lw_m4 101 rfl
theorem q929 : (Jvm.Cond.methodLink "BrambleLogic$Trying" (54 : Nat) ({ cls := "java/util/Iterator", name := "next", desc := "()Ljava/lang/Object;" } : Jvm.MethodName)) ∈ lw_all := lw_g (lw_at lw_m4 102 rfl) rfl
theorem q930 : (Jvm.Cond.classLink "BrambleLogic$Trying" (23 : Nat) "BrambleLogic$Rule") ∈ lw_all := lw_g (lw_at lw_m4 103 rfl) rfl
theorem q931 : (Jvm.Cond.methodLink "BrambleLogic$Trying" (58 : Nat) ({ cls := "BrambleLogic$Trying", name := "take", desc := "(LBrambleLogic$Rule;LBrambleLogic$Facts;)V" } : Jvm.MethodName)) ∈ lw_all := lw_g (lw_at lw_m4 104 rfl) rfl
theorem q932 : (Jvm.Cond.sameMethod "BrambleLogic$Trying" "BrambleLogic$Steps" "take" "(LBrambleLogic$Rule;LBrambleLogic$Facts;)V") ∈ lw_all := lw_g (lw_at lw_m4 105 rfl) rfl
theorem q934 : (Jvm.Cond.selects "BrambleLogic$Trying" ({ cls := "BrambleLogic$Trying", name := "take", desc := "(LBrambleLogic$Rule;LBrambleLogic$Facts;)V" } : Jvm.MethodName) ({ cls := "BrambleLogic$Steps", name := "take", desc := "(LBrambleLogic$Rule;LBrambleLogic$Facts;)V" } : Jvm.MethodName)) ∈ lw_all := lw_g (lw_at lw_m4 107 rfl) rfl
theorem q977 : (Jvm.Cond.selects "BrambleLogic$Trying" ({ cls := "BrambleLogic$Steps", name := "meet", desc := "(LBrambleLogic$Rule;[I)V" } : Jvm.MethodName) ({ cls := "BrambleLogic$Trying", name := "meet", desc := "(LBrambleLogic$Rule;[I)V" } : Jvm.MethodName)) ∈ lw_all := lw_g (lw_at lw_m4 150 rfl) rfl
theorem q978 : (Jvm.Cond.instanceMethod ({ cls := "BrambleLogic$Trying", name := "meet", desc := "(LBrambleLogic$Rule;[I)V" } : Jvm.MethodName)) ∈ lw_all := lw_g (lw_at lw_m4 151 rfl) rfl
theorem q979 : (Jvm.Cond.code ({ cls := "BrambleLogic$Trying", name := "meet", desc := "(LBrambleLogic$Rule;[I)V" } : Jvm.MethodName) prog_26_method_2_code (3 : Nat) (Option.none : Option Jvm.ClassFile.FieldType)) ∈ lw_all := lw_g (lw_at lw_m4 152 rfl) rfl
theorem q980 : (Jvm.Cond.methodLink "BrambleLogic$Trying" (34 : Nat) ({ cls := "BrambleLogic$Atom", name := "code", desc := "([I)I" } : Jvm.MethodName)) ∈ lw_all := lw_g (lw_at lw_m4 153 rfl) rfl
theorem q981 : (Jvm.Cond.methodLink "BrambleLogic$Trying" (38 : Nat) ({ cls := "BrambleLogic$Facts", name := "add", desc := "(II)Z" } : Jvm.MethodName)) ∈ lw_all := lw_g (lw_at lw_m4 154 rfl) rfl
theorem q2361 : (Jvm.Cond.fieldLinkNest "BrambleLogic$Trying" (28 : Nat) "BrambleLogic$Atom" "predicate" "I" "BrambleLogic") ∈ lw_tbl := lw_at lw_m10 94 rfl
theorem q2498 : (Jvm.Cond.fieldLinkNest "BrambleLogic$Trying" (22 : Nat) "BrambleLogic$Rule" "head" "LBrambleLogic$Atom;" "BrambleLogic") ∈ lw_tbl := lw_at lw_m10 231 rfl
theorem q3348 : (Jvm.Cond.selects "BrambleLogic$Trying" ({ cls := "BrambleLogic$Steps", name := "take", desc := "(LBrambleLogic$Rule;LBrambleLogic$Facts;)V" } : Jvm.MethodName) ({ cls := "BrambleLogic$Steps", name := "take", desc := "(LBrambleLogic$Rule;LBrambleLogic$Facts;)V" } : Jvm.MethodName)) ∈ lw_all := lw_g (lw_at lw_m14 121 rfl) rfl
theorem q3384 : (Jvm.Cond.castable "BrambleLogic$Trying" "java/lang/Object") ∈ lw_tbl := lw_at lw_m14 157 rfl
theorem in_X11 : ∀ w ∈ wsX110, w ∈ lw_all := lw_in wsX110 [915, 917] (by decide +kernel) (by decide +kernel)
/-! BrambleLogic$Heights -/
set_option maxRecDepth 100000
def RX12 : String := "BrambleLogic$Heights"
def TX12 : u_T := fun k => match k with
  | 0 => ("BrambleLogic$Heights", "logic", "LBrambleLogic$Logic;", true)
  | _ => ("BrambleLogic$Heights", "heights", "[[I", true)
def tyX12 : Nat → FieldType := fun k => match k with
  | 0 => .object "BrambleLogic$Logic"
  | _ => .array (.array .int)
abbrev wsX120 : List Cond := u_ws RX12 TX12 2
theorem nmX12 : ∀ a, a < 2 → ∀ b, b < 2 → a ≠ b → (TX12 a).2.1 ≠ (TX12 b).2.1 := by decide +kernel
theorem tyX12_ok : ∀ k, k < 2 → parseFieldDescriptor (TX12 k).2.2.1 = some (tyX12 k) := by decide +kernel
abbrev cX12_heightBy : ByteArray := prog_12_method_2_code
def yX12_heightBy : MethodName := ⟨RX12, "heightBy", "(LBrambleLogic$Rule;[I)I"⟩
def dkwX12_heightBy_2 : List UInt8 := [25, 5, 44, 182, 0, 60, 46, 184, 0, 64, 62, 167, 255, 212, 29, 4, 96, 172]
abbrev dktX12_heightBy_2 : List UInt8 := dkwX12_heightBy_2 ++ []
def dkwX12_heightBy_1 : List UInt8 := [25, 4, 185, 0, 50, 1, 0, 192, 0, 54, 58, 5, 29, 42, 180, 0, 11, 25, 5, 180, 0, 56, 50]
abbrev dktX12_heightBy_1 : List UInt8 := dkwX12_heightBy_1 ++ dktX12_heightBy_2
def dkwX12_heightBy_0 : List UInt8 := [3, 62, 43, 180, 0, 32, 185, 0, 38, 1, 0, 58, 4, 25, 4, 185, 0, 44, 1, 0, 153, 0, 40]
abbrev dktX12_heightBy_0 : List UInt8 := dkwX12_heightBy_0 ++ dktX12_heightBy_1
theorem dksX12_heightBy_0 : cX12_heightBy.data.toList.drop 0 = dktX12_heightBy_0 := by decide +kernel
theorem dksX12_heightBy_1 : cX12_heightBy.data.toList.drop 23 = dktX12_heightBy_1 := dk_seg dksX12_heightBy_0 23 rfl rfl
theorem dksX12_heightBy_2 : cX12_heightBy.data.toList.drop 46 = dktX12_heightBy_2 := dk_seg dksX12_heightBy_1 23 rfl rfl
theorem dX12_heightBy_0 : decode cX12_heightBy 0 = .ok (.iconst 0, 1) := dk_3 (dk_at dksX12_heightBy_0 0 rfl rfl)
theorem dX12_heightBy_1 : decode cX12_heightBy 1 = .ok (.istore_n 3, 1) := dk_62 (dk_at dksX12_heightBy_0 1 rfl rfl)
theorem dX12_heightBy_2 : decode cX12_heightBy 2 = .ok (.aload_n 1, 1) := dk_43 (dk_at dksX12_heightBy_0 2 rfl rfl)
theorem dX12_heightBy_3 : decode cX12_heightBy 3 = .ok (.getfield 32, 3) := dk_180 0 32 (dk_at dksX12_heightBy_0 3 rfl rfl)
theorem dX12_heightBy_6 : decode cX12_heightBy 6 = .ok (.invokeinterface 38 1, 5) := by decide +kernel
theorem dX12_heightBy_11 : decode cX12_heightBy 11 = .ok (.astore 4, 2) := dk_58 4 (dk_at dksX12_heightBy_0 11 rfl rfl)
theorem dX12_heightBy_13 : decode cX12_heightBy 13 = .ok (.aload 4, 2) := dk_25 4 (dk_at dksX12_heightBy_0 13 rfl rfl)
theorem dX12_heightBy_15 : decode cX12_heightBy 15 = .ok (.invokeinterface 44 1, 5) := by decide +kernel
theorem dX12_heightBy_20 : decode cX12_heightBy 20 = .ok (.ifCond .eq 40, 3) := dk_153 0 40 (dk_at dksX12_heightBy_0 20 rfl rfl)
theorem dX12_heightBy_23 : decode cX12_heightBy 23 = .ok (.aload 4, 2) := dk_25 4 (dk_at dksX12_heightBy_1 0 rfl rfl)
theorem dX12_heightBy_25 : decode cX12_heightBy 25 = .ok (.invokeinterface 50 1, 5) := by decide +kernel
theorem dX12_heightBy_30 : decode cX12_heightBy 30 = .ok (.checkcast 54, 3) := dk_192 0 54 (dk_at dksX12_heightBy_1 7 rfl rfl)
theorem dX12_heightBy_33 : decode cX12_heightBy 33 = .ok (.astore 5, 2) := dk_58 5 (dk_at dksX12_heightBy_1 10 rfl rfl)
theorem dX12_heightBy_35 : decode cX12_heightBy 35 = .ok (.iload_n 3, 1) := dk_29 (dk_at dksX12_heightBy_1 12 rfl rfl)
theorem dX12_heightBy_36 : decode cX12_heightBy 36 = .ok (.aload_n 0, 1) := dk_42 (dk_at dksX12_heightBy_1 13 rfl rfl)
theorem dX12_heightBy_37 : decode cX12_heightBy 37 = .ok (.getfield 11, 3) := dk_180 0 11 (dk_at dksX12_heightBy_1 14 rfl rfl)
theorem dX12_heightBy_40 : decode cX12_heightBy 40 = .ok (.aload 5, 2) := dk_25 5 (dk_at dksX12_heightBy_1 17 rfl rfl)
theorem dX12_heightBy_42 : decode cX12_heightBy 42 = .ok (.getfield 56, 3) := dk_180 0 56 (dk_at dksX12_heightBy_1 19 rfl rfl)
theorem dX12_heightBy_45 : decode cX12_heightBy 45 = .ok (.aaload, 1) := dk_50 (dk_at dksX12_heightBy_1 22 rfl rfl)
theorem dX12_heightBy_46 : decode cX12_heightBy 46 = .ok (.aload 5, 2) := dk_25 5 (dk_at dksX12_heightBy_2 0 rfl rfl)
theorem dX12_heightBy_48 : decode cX12_heightBy 48 = .ok (.aload_n 2, 1) := dk_44 (dk_at dksX12_heightBy_2 2 rfl rfl)
theorem dX12_heightBy_49 : decode cX12_heightBy 49 = .ok (.invokevirtual 60, 3) := dk_182 0 60 (dk_at dksX12_heightBy_2 3 rfl rfl)
theorem dX12_heightBy_52 : decode cX12_heightBy 52 = .ok (.iaload, 1) := dk_46 (dk_at dksX12_heightBy_2 6 rfl rfl)
theorem dX12_heightBy_53 : decode cX12_heightBy 53 = .ok (.invokestatic 64, 3) := dk_184 0 64 (dk_at dksX12_heightBy_2 7 rfl rfl)
theorem dX12_heightBy_56 : decode cX12_heightBy 56 = .ok (.istore_n 3, 1) := dk_62 (dk_at dksX12_heightBy_2 10 rfl rfl)
theorem dX12_heightBy_57 : decode cX12_heightBy 57 = .ok (.goto (-44), 3) := dk_167 255 212 (dk_at dksX12_heightBy_2 11 rfl rfl)
theorem dX12_heightBy_60 : decode cX12_heightBy 60 = .ok (.iload_n 3, 1) := dk_29 (dk_at dksX12_heightBy_2 14 rfl rfl)
theorem dX12_heightBy_61 : decode cX12_heightBy 61 = .ok (.iconst 1, 1) := dk_4 (dk_at dksX12_heightBy_2 15 rfl rfl)
theorem dX12_heightBy_62 : decode cX12_heightBy 62 = .ok (.iadd, 1) := dk_96 (dk_at dksX12_heightBy_2 16 rfl rfl)
theorem dX12_heightBy_63 : decode cX12_heightBy 63 = .ok (.ireturn, 1) := dk_172 (dk_at dksX12_heightBy_2 17 rfl rfl)
abbrev cX12_init : ByteArray := prog_12_method_1_code
def yX12_init : MethodName := ⟨RX12, "<init>", "(LBrambleLogic$Logic;)V"⟩
def dkwX12_init_3 : List UInt8 := [132, 2, 1, 167, 255, 206, 177]
abbrev dktX12_init_3 : List UInt8 := dkwX12_init_3 ++ []
def dkwX12_init_2 : List UInt8 := [28, 29, 182, 0, 26, 153, 0, 7, 3, 167, 0, 6, 17, 3, 232, 79, 132, 3, 1, 167, 255, 220]
abbrev dktX12_init_2 : List UInt8 := dkwX12_init_2 ++ dktX12_init_3
def dkwX12_init_1 : List UInt8 := [16, 8, 162, 0, 50, 3, 62, 29, 16, 100, 162, 0, 36, 42, 180, 0, 11, 28, 50, 29, 43, 180, 0, 20]
abbrev dktX12_init_1 : List UInt8 := dkwX12_init_1 ++ dktX12_init_2
def dkwX12_init_0 : List UInt8 := [42, 183, 0, 3, 42, 16, 8, 16, 100, 197, 0, 9, 2, 181, 0, 11, 42, 43, 181, 0, 16, 3, 61, 28]
abbrev dktX12_init_0 : List UInt8 := dkwX12_init_0 ++ dktX12_init_1
theorem dksX12_init_0 : cX12_init.data.toList.drop 0 = dktX12_init_0 := by decide +kernel
theorem dksX12_init_1 : cX12_init.data.toList.drop 24 = dktX12_init_1 := dk_seg dksX12_init_0 24 rfl rfl
theorem dksX12_init_2 : cX12_init.data.toList.drop 48 = dktX12_init_2 := dk_seg dksX12_init_1 24 rfl rfl
theorem dksX12_init_3 : cX12_init.data.toList.drop 70 = dktX12_init_3 := dk_seg dksX12_init_2 22 rfl rfl
theorem dX12_init_0 : decode cX12_init 0 = .ok (.aload_n 0, 1) := dk_42 (dk_at dksX12_init_0 0 rfl rfl)
theorem dX12_init_1 : decode cX12_init 1 = .ok (.invokespecial 3, 3) := dk_183 0 3 (dk_at dksX12_init_0 1 rfl rfl)
theorem dX12_init_4 : decode cX12_init 4 = .ok (.aload_n 0, 1) := dk_42 (dk_at dksX12_init_0 4 rfl rfl)
theorem dX12_init_5 : decode cX12_init 5 = .ok (.bipush 8, 2) := dk_16 8 (dk_at dksX12_init_0 5 rfl rfl)
theorem dX12_init_7 : decode cX12_init 7 = .ok (.bipush 100, 2) := dk_16 100 (dk_at dksX12_init_0 7 rfl rfl)
theorem dX12_init_9 : decode cX12_init 9 = .ok (.multianewarray 9 2, 4) := by decide +kernel
theorem dX12_init_13 : decode cX12_init 13 = .ok (.putfield 11, 3) := dk_181 0 11 (dk_at dksX12_init_0 13 rfl rfl)
theorem dX12_init_16 : decode cX12_init 16 = .ok (.aload_n 0, 1) := dk_42 (dk_at dksX12_init_0 16 rfl rfl)
theorem dX12_init_17 : decode cX12_init 17 = .ok (.aload_n 1, 1) := dk_43 (dk_at dksX12_init_0 17 rfl rfl)
theorem dX12_init_18 : decode cX12_init 18 = .ok (.putfield 16, 3) := dk_181 0 16 (dk_at dksX12_init_0 18 rfl rfl)
theorem dX12_init_21 : decode cX12_init 21 = .ok (.iconst 0, 1) := dk_3 (dk_at dksX12_init_0 21 rfl rfl)
theorem dX12_init_22 : decode cX12_init 22 = .ok (.istore_n 2, 1) := dk_61 (dk_at dksX12_init_0 22 rfl rfl)
theorem dX12_init_23 : decode cX12_init 23 = .ok (.iload_n 2, 1) := dk_28 (dk_at dksX12_init_0 23 rfl rfl)
theorem dX12_init_24 : decode cX12_init 24 = .ok (.bipush 8, 2) := dk_16 8 (dk_at dksX12_init_1 0 rfl rfl)
theorem dX12_init_26 : decode cX12_init 26 = .ok (.if_icmp .ge 50, 3) := dk_162 0 50 (dk_at dksX12_init_1 2 rfl rfl)
theorem dX12_init_29 : decode cX12_init 29 = .ok (.iconst 0, 1) := dk_3 (dk_at dksX12_init_1 5 rfl rfl)
theorem dX12_init_30 : decode cX12_init 30 = .ok (.istore_n 3, 1) := dk_62 (dk_at dksX12_init_1 6 rfl rfl)
theorem dX12_init_31 : decode cX12_init 31 = .ok (.iload_n 3, 1) := dk_29 (dk_at dksX12_init_1 7 rfl rfl)
theorem dX12_init_32 : decode cX12_init 32 = .ok (.bipush 100, 2) := dk_16 100 (dk_at dksX12_init_1 8 rfl rfl)
theorem dX12_init_34 : decode cX12_init 34 = .ok (.if_icmp .ge 36, 3) := dk_162 0 36 (dk_at dksX12_init_1 10 rfl rfl)
theorem dX12_init_37 : decode cX12_init 37 = .ok (.aload_n 0, 1) := dk_42 (dk_at dksX12_init_1 13 rfl rfl)
theorem dX12_init_38 : decode cX12_init 38 = .ok (.getfield 11, 3) := dk_180 0 11 (dk_at dksX12_init_1 14 rfl rfl)
theorem dX12_init_41 : decode cX12_init 41 = .ok (.iload_n 2, 1) := dk_28 (dk_at dksX12_init_1 17 rfl rfl)
theorem dX12_init_42 : decode cX12_init 42 = .ok (.aaload, 1) := dk_50 (dk_at dksX12_init_1 18 rfl rfl)
theorem dX12_init_43 : decode cX12_init 43 = .ok (.iload_n 3, 1) := dk_29 (dk_at dksX12_init_1 19 rfl rfl)
theorem dX12_init_44 : decode cX12_init 44 = .ok (.aload_n 1, 1) := dk_43 (dk_at dksX12_init_1 20 rfl rfl)
theorem dX12_init_45 : decode cX12_init 45 = .ok (.getfield 20, 3) := dk_180 0 20 (dk_at dksX12_init_1 21 rfl rfl)
theorem dX12_init_48 : decode cX12_init 48 = .ok (.iload_n 2, 1) := dk_28 (dk_at dksX12_init_2 0 rfl rfl)
theorem dX12_init_49 : decode cX12_init 49 = .ok (.iload_n 3, 1) := dk_29 (dk_at dksX12_init_2 1 rfl rfl)
theorem dX12_init_50 : decode cX12_init 50 = .ok (.invokevirtual 26, 3) := dk_182 0 26 (dk_at dksX12_init_2 2 rfl rfl)
theorem dX12_init_53 : decode cX12_init 53 = .ok (.ifCond .eq 7, 3) := dk_153 0 7 (dk_at dksX12_init_2 5 rfl rfl)
theorem dX12_init_56 : decode cX12_init 56 = .ok (.iconst 0, 1) := dk_3 (dk_at dksX12_init_2 8 rfl rfl)
theorem dX12_init_57 : decode cX12_init 57 = .ok (.goto 6, 3) := dk_167 0 6 (dk_at dksX12_init_2 9 rfl rfl)
theorem dX12_init_60 : decode cX12_init 60 = .ok (.sipush 1000, 3) := dk_17 3 232 (dk_at dksX12_init_2 12 rfl rfl)
theorem dX12_init_63 : decode cX12_init 63 = .ok (.iastore, 1) := dk_79 (dk_at dksX12_init_2 15 rfl rfl)
theorem dX12_init_64 : decode cX12_init 64 = .ok (.iinc 3 1, 3) := dk_132 3 1 (dk_at dksX12_init_2 16 rfl rfl)
theorem dX12_init_67 : decode cX12_init 67 = .ok (.goto (-36), 3) := dk_167 255 220 (dk_at dksX12_init_2 19 rfl rfl)
theorem dX12_init_70 : decode cX12_init 70 = .ok (.iinc 2 1, 3) := dk_132 2 1 (dk_at dksX12_init_3 0 rfl rfl)
theorem dX12_init_73 : decode cX12_init 73 = .ok (.goto (-50), 3) := dk_167 255 206 (dk_at dksX12_init_3 3 rfl rfl)
theorem dX12_init_76 : decode cX12_init 76 = .ok (.return_, 1) := dk_177 (dk_at dksX12_init_3 6 rfl rfl)
abbrev cX12_inRounds : ByteArray := prog_12_method_4_code
def yX12_inRounds : MethodName := ⟨RX12, "inRounds", "()LBrambleLogic$Heights;"⟩
def dkwX12_inRounds_1 : List UInt8 := [182, 0, 92, 167, 255, 231, 42, 176]
abbrev dktX12_inRounds_1 : List UInt8 := dkwX12_inRounds_1 ++ []
def dkwX12_inRounds_0 : List UInt8 := [2, 60, 42, 182, 0, 83, 27, 159, 0, 23, 42, 182, 0, 83, 60, 42, 187, 0, 87, 89, 42, 183, 0, 89]
abbrev dktX12_inRounds_0 : List UInt8 := dkwX12_inRounds_0 ++ dktX12_inRounds_1
theorem dksX12_inRounds_0 : cX12_inRounds.data.toList.drop 0 = dktX12_inRounds_0 := by decide +kernel
theorem dksX12_inRounds_1 : cX12_inRounds.data.toList.drop 24 = dktX12_inRounds_1 := dk_seg dksX12_inRounds_0 24 rfl rfl
theorem dX12_inRounds_0 : decode cX12_inRounds 0 = .ok (.iconst (-1), 1) := dk_2 (dk_at dksX12_inRounds_0 0 rfl rfl)
theorem dX12_inRounds_1 : decode cX12_inRounds 1 = .ok (.istore_n 1, 1) := dk_60 (dk_at dksX12_inRounds_0 1 rfl rfl)
theorem dX12_inRounds_2 : decode cX12_inRounds 2 = .ok (.aload_n 0, 1) := dk_42 (dk_at dksX12_inRounds_0 2 rfl rfl)
theorem dX12_inRounds_3 : decode cX12_inRounds 3 = .ok (.invokevirtual 83, 3) := dk_182 0 83 (dk_at dksX12_inRounds_0 3 rfl rfl)
theorem dX12_inRounds_6 : decode cX12_inRounds 6 = .ok (.iload_n 1, 1) := dk_27 (dk_at dksX12_inRounds_0 6 rfl rfl)
theorem dX12_inRounds_7 : decode cX12_inRounds 7 = .ok (.if_icmp .eq 23, 3) := dk_159 0 23 (dk_at dksX12_inRounds_0 7 rfl rfl)
theorem dX12_inRounds_10 : decode cX12_inRounds 10 = .ok (.aload_n 0, 1) := dk_42 (dk_at dksX12_inRounds_0 10 rfl rfl)
theorem dX12_inRounds_11 : decode cX12_inRounds 11 = .ok (.invokevirtual 83, 3) := dk_182 0 83 (dk_at dksX12_inRounds_0 11 rfl rfl)
theorem dX12_inRounds_14 : decode cX12_inRounds 14 = .ok (.istore_n 1, 1) := dk_60 (dk_at dksX12_inRounds_0 14 rfl rfl)
theorem dX12_inRounds_15 : decode cX12_inRounds 15 = .ok (.aload_n 0, 1) := dk_42 (dk_at dksX12_inRounds_0 15 rfl rfl)
theorem dX12_inRounds_16 : decode cX12_inRounds 16 = .ok (.new 87, 3) := dk_187 0 87 (dk_at dksX12_inRounds_0 16 rfl rfl)
theorem dX12_inRounds_19 : decode cX12_inRounds 19 = .ok (.dup, 1) := dk_89 (dk_at dksX12_inRounds_0 19 rfl rfl)
theorem dX12_inRounds_20 : decode cX12_inRounds 20 = .ok (.aload_n 0, 1) := dk_42 (dk_at dksX12_inRounds_0 20 rfl rfl)
theorem dX12_inRounds_21 : decode cX12_inRounds 21 = .ok (.invokespecial 89, 3) := dk_183 0 89 (dk_at dksX12_inRounds_0 21 rfl rfl)
theorem dX12_inRounds_24 : decode cX12_inRounds 24 = .ok (.invokevirtual 92, 3) := dk_182 0 92 (dk_at dksX12_inRounds_1 0 rfl rfl)
theorem dX12_inRounds_27 : decode cX12_inRounds 27 = .ok (.goto (-25), 3) := dk_167 255 231 (dk_at dksX12_inRounds_1 3 rfl rfl)
theorem dX12_inRounds_30 : decode cX12_inRounds 30 = .ok (.aload_n 0, 1) := dk_42 (dk_at dksX12_inRounds_1 6 rfl rfl)
theorem dX12_inRounds_31 : decode cX12_inRounds 31 = .ok (.areturn, 1) := dk_176 (dk_at dksX12_inRounds_1 7 rfl rfl)
abbrev cX12_sum : ByteArray := prog_12_method_6_code
def yX12_sum : MethodName := ⟨RX12, "sum", "()I"⟩
def dkwX12_sum_2 : List UInt8 := [21, 8, 46, 54, 9, 27, 21, 9, 96, 60, 132, 8, 1, 167, 255, 234, 132, 4, 1, 167, 255, 204, 27, 172]
abbrev dktX12_sum_2 : List UInt8 := dkwX12_sum_2 ++ []
def dkwX12_sum_1 : List UInt8 := [58, 5, 25, 5, 58, 6, 25, 6, 190, 54, 7, 3, 54, 8, 21, 8, 21, 7, 162, 0, 21, 25, 6]
abbrev dktX12_sum_1 : List UInt8 := dkwX12_sum_1 ++ dktX12_sum_2
def dkwX12_sum_0 : List UInt8 := [3, 60, 42, 180, 0, 11, 77, 44, 190, 62, 3, 54, 4, 21, 4, 29, 162, 0, 52, 44, 21, 4, 50]
abbrev dktX12_sum_0 : List UInt8 := dkwX12_sum_0 ++ dktX12_sum_1
theorem dksX12_sum_0 : cX12_sum.data.toList.drop 0 = dktX12_sum_0 := by decide +kernel
theorem dksX12_sum_1 : cX12_sum.data.toList.drop 23 = dktX12_sum_1 := dk_seg dksX12_sum_0 23 rfl rfl
theorem dksX12_sum_2 : cX12_sum.data.toList.drop 46 = dktX12_sum_2 := dk_seg dksX12_sum_1 23 rfl rfl
theorem dX12_sum_0 : decode cX12_sum 0 = .ok (.iconst 0, 1) := dk_3 (dk_at dksX12_sum_0 0 rfl rfl)
theorem dX12_sum_1 : decode cX12_sum 1 = .ok (.istore_n 1, 1) := dk_60 (dk_at dksX12_sum_0 1 rfl rfl)
theorem dX12_sum_2 : decode cX12_sum 2 = .ok (.aload_n 0, 1) := dk_42 (dk_at dksX12_sum_0 2 rfl rfl)
theorem dX12_sum_3 : decode cX12_sum 3 = .ok (.getfield 11, 3) := dk_180 0 11 (dk_at dksX12_sum_0 3 rfl rfl)
theorem dX12_sum_6 : decode cX12_sum 6 = .ok (.astore_n 2, 1) := dk_77 (dk_at dksX12_sum_0 6 rfl rfl)
theorem dX12_sum_7 : decode cX12_sum 7 = .ok (.aload_n 2, 1) := dk_44 (dk_at dksX12_sum_0 7 rfl rfl)
theorem dX12_sum_8 : decode cX12_sum 8 = .ok (.arraylength, 1) := dk_190 (dk_at dksX12_sum_0 8 rfl rfl)
theorem dX12_sum_9 : decode cX12_sum 9 = .ok (.istore_n 3, 1) := dk_62 (dk_at dksX12_sum_0 9 rfl rfl)
theorem dX12_sum_10 : decode cX12_sum 10 = .ok (.iconst 0, 1) := dk_3 (dk_at dksX12_sum_0 10 rfl rfl)
theorem dX12_sum_11 : decode cX12_sum 11 = .ok (.istore 4, 2) := dk_54 4 (dk_at dksX12_sum_0 11 rfl rfl)
theorem dX12_sum_13 : decode cX12_sum 13 = .ok (.iload 4, 2) := dk_21 4 (dk_at dksX12_sum_0 13 rfl rfl)
theorem dX12_sum_15 : decode cX12_sum 15 = .ok (.iload_n 3, 1) := dk_29 (dk_at dksX12_sum_0 15 rfl rfl)
theorem dX12_sum_16 : decode cX12_sum 16 = .ok (.if_icmp .ge 52, 3) := dk_162 0 52 (dk_at dksX12_sum_0 16 rfl rfl)
theorem dX12_sum_19 : decode cX12_sum 19 = .ok (.aload_n 2, 1) := dk_44 (dk_at dksX12_sum_0 19 rfl rfl)
theorem dX12_sum_20 : decode cX12_sum 20 = .ok (.iload 4, 2) := dk_21 4 (dk_at dksX12_sum_0 20 rfl rfl)
theorem dX12_sum_22 : decode cX12_sum 22 = .ok (.aaload, 1) := dk_50 (dk_at dksX12_sum_0 22 rfl rfl)
theorem dX12_sum_23 : decode cX12_sum 23 = .ok (.astore 5, 2) := dk_58 5 (dk_at dksX12_sum_1 0 rfl rfl)
theorem dX12_sum_25 : decode cX12_sum 25 = .ok (.aload 5, 2) := dk_25 5 (dk_at dksX12_sum_1 2 rfl rfl)
theorem dX12_sum_27 : decode cX12_sum 27 = .ok (.astore 6, 2) := dk_58 6 (dk_at dksX12_sum_1 4 rfl rfl)
theorem dX12_sum_29 : decode cX12_sum 29 = .ok (.aload 6, 2) := dk_25 6 (dk_at dksX12_sum_1 6 rfl rfl)
theorem dX12_sum_31 : decode cX12_sum 31 = .ok (.arraylength, 1) := dk_190 (dk_at dksX12_sum_1 8 rfl rfl)
theorem dX12_sum_32 : decode cX12_sum 32 = .ok (.istore 7, 2) := dk_54 7 (dk_at dksX12_sum_1 9 rfl rfl)
theorem dX12_sum_34 : decode cX12_sum 34 = .ok (.iconst 0, 1) := dk_3 (dk_at dksX12_sum_1 11 rfl rfl)
theorem dX12_sum_35 : decode cX12_sum 35 = .ok (.istore 8, 2) := dk_54 8 (dk_at dksX12_sum_1 12 rfl rfl)
theorem dX12_sum_37 : decode cX12_sum 37 = .ok (.iload 8, 2) := dk_21 8 (dk_at dksX12_sum_1 14 rfl rfl)
theorem dX12_sum_39 : decode cX12_sum 39 = .ok (.iload 7, 2) := dk_21 7 (dk_at dksX12_sum_1 16 rfl rfl)
theorem dX12_sum_41 : decode cX12_sum 41 = .ok (.if_icmp .ge 21, 3) := dk_162 0 21 (dk_at dksX12_sum_1 18 rfl rfl)
theorem dX12_sum_44 : decode cX12_sum 44 = .ok (.aload 6, 2) := dk_25 6 (dk_at dksX12_sum_1 21 rfl rfl)
theorem dX12_sum_46 : decode cX12_sum 46 = .ok (.iload 8, 2) := dk_21 8 (dk_at dksX12_sum_2 0 rfl rfl)
theorem dX12_sum_48 : decode cX12_sum 48 = .ok (.iaload, 1) := dk_46 (dk_at dksX12_sum_2 2 rfl rfl)
theorem dX12_sum_49 : decode cX12_sum 49 = .ok (.istore 9, 2) := dk_54 9 (dk_at dksX12_sum_2 3 rfl rfl)
theorem dX12_sum_51 : decode cX12_sum 51 = .ok (.iload_n 1, 1) := dk_27 (dk_at dksX12_sum_2 5 rfl rfl)
theorem dX12_sum_52 : decode cX12_sum 52 = .ok (.iload 9, 2) := dk_21 9 (dk_at dksX12_sum_2 6 rfl rfl)
theorem dX12_sum_54 : decode cX12_sum 54 = .ok (.iadd, 1) := dk_96 (dk_at dksX12_sum_2 8 rfl rfl)
theorem dX12_sum_55 : decode cX12_sum 55 = .ok (.istore_n 1, 1) := dk_60 (dk_at dksX12_sum_2 9 rfl rfl)
theorem dX12_sum_56 : decode cX12_sum 56 = .ok (.iinc 8 1, 3) := dk_132 8 1 (dk_at dksX12_sum_2 10 rfl rfl)
theorem dX12_sum_59 : decode cX12_sum 59 = .ok (.goto (-22), 3) := dk_167 255 234 (dk_at dksX12_sum_2 13 rfl rfl)
theorem dX12_sum_62 : decode cX12_sum 62 = .ok (.iinc 4 1, 3) := dk_132 4 1 (dk_at dksX12_sum_2 16 rfl rfl)
theorem dX12_sum_65 : decode cX12_sum 65 = .ok (.goto (-52), 3) := dk_167 255 204 (dk_at dksX12_sum_2 19 rfl rfl)
theorem dX12_sum_68 : decode cX12_sum 68 = .ok (.iload_n 1, 1) := dk_27 (dk_at dksX12_sum_2 22 rfl rfl)
theorem dX12_sum_69 : decode cX12_sum 69 = .ok (.ireturn, 1) := dk_172 (dk_at dksX12_sum_2 23 rfl rfl)
abbrev cX12_takeAll : ByteArray := prog_12_method_3_code
def yX12_takeAll : MethodName := ⟨RX12, "takeAll", "(LBrambleLogic$Steps;)V"⟩
def dkwX12_takeAll_2 : List UInt8 := [177]
abbrev dktX12_takeAll_2 : List UInt8 := dkwX12_takeAll_2 ++ []
def dkwX12_takeAll_1 : List UInt8 := [185, 0, 50, 1, 0, 192, 0, 33, 78, 43, 45, 42, 180, 0, 16, 182, 0, 73, 182, 0, 77, 167, 255, 225]
abbrev dktX12_takeAll_1 : List UInt8 := dkwX12_takeAll_1 ++ dktX12_takeAll_2
def dkwX12_takeAll_0 : List UInt8 := [42, 180, 0, 16, 180, 0, 70, 185, 0, 38, 1, 0, 77, 44, 185, 0, 44, 1, 0, 153, 0, 28, 44]
abbrev dktX12_takeAll_0 : List UInt8 := dkwX12_takeAll_0 ++ dktX12_takeAll_1
theorem dksX12_takeAll_0 : cX12_takeAll.data.toList.drop 0 = dktX12_takeAll_0 := by decide +kernel
theorem dksX12_takeAll_1 : cX12_takeAll.data.toList.drop 23 = dktX12_takeAll_1 := dk_seg dksX12_takeAll_0 23 rfl rfl
theorem dksX12_takeAll_2 : cX12_takeAll.data.toList.drop 47 = dktX12_takeAll_2 := dk_seg dksX12_takeAll_1 24 rfl rfl
theorem dX12_takeAll_0 : decode cX12_takeAll 0 = .ok (.aload_n 0, 1) := dk_42 (dk_at dksX12_takeAll_0 0 rfl rfl)
theorem dX12_takeAll_1 : decode cX12_takeAll 1 = .ok (.getfield 16, 3) := dk_180 0 16 (dk_at dksX12_takeAll_0 1 rfl rfl)
theorem dX12_takeAll_4 : decode cX12_takeAll 4 = .ok (.getfield 70, 3) := dk_180 0 70 (dk_at dksX12_takeAll_0 4 rfl rfl)
theorem dX12_takeAll_7 : decode cX12_takeAll 7 = .ok (.invokeinterface 38 1, 5) := by decide +kernel
theorem dX12_takeAll_12 : decode cX12_takeAll 12 = .ok (.astore_n 2, 1) := dk_77 (dk_at dksX12_takeAll_0 12 rfl rfl)
theorem dX12_takeAll_13 : decode cX12_takeAll 13 = .ok (.aload_n 2, 1) := dk_44 (dk_at dksX12_takeAll_0 13 rfl rfl)
theorem dX12_takeAll_14 : decode cX12_takeAll 14 = .ok (.invokeinterface 44 1, 5) := by decide +kernel
theorem dX12_takeAll_19 : decode cX12_takeAll 19 = .ok (.ifCond .eq 28, 3) := dk_153 0 28 (dk_at dksX12_takeAll_0 19 rfl rfl)
theorem dX12_takeAll_22 : decode cX12_takeAll 22 = .ok (.aload_n 2, 1) := dk_44 (dk_at dksX12_takeAll_0 22 rfl rfl)
theorem dX12_takeAll_23 : decode cX12_takeAll 23 = .ok (.invokeinterface 50 1, 5) := by decide +kernel
theorem dX12_takeAll_28 : decode cX12_takeAll 28 = .ok (.checkcast 33, 3) := dk_192 0 33 (dk_at dksX12_takeAll_1 5 rfl rfl)
theorem dX12_takeAll_31 : decode cX12_takeAll 31 = .ok (.astore_n 3, 1) := dk_78 (dk_at dksX12_takeAll_1 8 rfl rfl)
theorem dX12_takeAll_32 : decode cX12_takeAll 32 = .ok (.aload_n 1, 1) := dk_43 (dk_at dksX12_takeAll_1 9 rfl rfl)
theorem dX12_takeAll_33 : decode cX12_takeAll 33 = .ok (.aload_n 3, 1) := dk_45 (dk_at dksX12_takeAll_1 10 rfl rfl)
theorem dX12_takeAll_34 : decode cX12_takeAll 34 = .ok (.aload_n 0, 1) := dk_42 (dk_at dksX12_takeAll_1 11 rfl rfl)
theorem dX12_takeAll_35 : decode cX12_takeAll 35 = .ok (.getfield 16, 3) := dk_180 0 16 (dk_at dksX12_takeAll_1 12 rfl rfl)
theorem dX12_takeAll_38 : decode cX12_takeAll 38 = .ok (.invokevirtual 73, 3) := dk_182 0 73 (dk_at dksX12_takeAll_1 15 rfl rfl)
theorem dX12_takeAll_41 : decode cX12_takeAll 41 = .ok (.invokevirtual 77, 3) := dk_182 0 77 (dk_at dksX12_takeAll_1 18 rfl rfl)
theorem dX12_takeAll_44 : decode cX12_takeAll 44 = .ok (.goto (-31), 3) := dk_167 255 225 (dk_at dksX12_takeAll_1 21 rfl rfl)
theorem dX12_takeAll_47 : decode cX12_takeAll 47 = .ok (.return_, 1) := dk_177 (dk_at dksX12_takeAll_2 0 rfl rfl)
abbrev cX12_byLevels : ByteArray := prog_12_method_5_code
def yX12_byLevels : MethodName := ⟨RX12, "byLevels", "()LBrambleLogic$Heights;"⟩
def dkwX12_byLevels_1 : List UInt8 := [132, 1, 1, 167, 255, 231, 42, 176]
abbrev dktX12_byLevels_1 : List UInt8 := dkwX12_byLevels_1 ++ []
def dkwX12_byLevels_0 : List UInt8 := [4, 60, 42, 182, 0, 96, 153, 0, 24, 27, 61, 42, 187, 0, 99, 89, 42, 28, 183, 0, 101, 182, 0, 92]
abbrev dktX12_byLevels_0 : List UInt8 := dkwX12_byLevels_0 ++ dktX12_byLevels_1
theorem dksX12_byLevels_0 : cX12_byLevels.data.toList.drop 0 = dktX12_byLevels_0 := by decide +kernel
theorem dksX12_byLevels_1 : cX12_byLevels.data.toList.drop 24 = dktX12_byLevels_1 := dk_seg dksX12_byLevels_0 24 rfl rfl
theorem dX12_byLevels_0 : decode cX12_byLevels 0 = .ok (.iconst 1, 1) := dk_4 (dk_at dksX12_byLevels_0 0 rfl rfl)
theorem dX12_byLevels_1 : decode cX12_byLevels 1 = .ok (.istore_n 1, 1) := dk_60 (dk_at dksX12_byLevels_0 1 rfl rfl)
theorem dX12_byLevels_2 : decode cX12_byLevels 2 = .ok (.aload_n 0, 1) := dk_42 (dk_at dksX12_byLevels_0 2 rfl rfl)
theorem dX12_byLevels_3 : decode cX12_byLevels 3 = .ok (.invokevirtual 96, 3) := dk_182 0 96 (dk_at dksX12_byLevels_0 3 rfl rfl)
theorem dX12_byLevels_6 : decode cX12_byLevels 6 = .ok (.ifCond .eq 24, 3) := dk_153 0 24 (dk_at dksX12_byLevels_0 6 rfl rfl)
theorem dX12_byLevels_9 : decode cX12_byLevels 9 = .ok (.iload_n 1, 1) := dk_27 (dk_at dksX12_byLevels_0 9 rfl rfl)
theorem dX12_byLevels_10 : decode cX12_byLevels 10 = .ok (.istore_n 2, 1) := dk_61 (dk_at dksX12_byLevels_0 10 rfl rfl)
theorem dX12_byLevels_11 : decode cX12_byLevels 11 = .ok (.aload_n 0, 1) := dk_42 (dk_at dksX12_byLevels_0 11 rfl rfl)
theorem dX12_byLevels_12 : decode cX12_byLevels 12 = .ok (.new 99, 3) := dk_187 0 99 (dk_at dksX12_byLevels_0 12 rfl rfl)
theorem dX12_byLevels_15 : decode cX12_byLevels 15 = .ok (.dup, 1) := dk_89 (dk_at dksX12_byLevels_0 15 rfl rfl)
theorem dX12_byLevels_16 : decode cX12_byLevels 16 = .ok (.aload_n 0, 1) := dk_42 (dk_at dksX12_byLevels_0 16 rfl rfl)
theorem dX12_byLevels_17 : decode cX12_byLevels 17 = .ok (.iload_n 2, 1) := dk_28 (dk_at dksX12_byLevels_0 17 rfl rfl)
theorem dX12_byLevels_18 : decode cX12_byLevels 18 = .ok (.invokespecial 101, 3) := dk_183 0 101 (dk_at dksX12_byLevels_0 18 rfl rfl)
theorem dX12_byLevels_21 : decode cX12_byLevels 21 = .ok (.invokevirtual 92, 3) := dk_182 0 92 (dk_at dksX12_byLevels_0 21 rfl rfl)
theorem dX12_byLevels_24 : decode cX12_byLevels 24 = .ok (.iinc 1 1, 3) := dk_132 1 1 (dk_at dksX12_byLevels_1 0 rfl rfl)
theorem dX12_byLevels_27 : decode cX12_byLevels 27 = .ok (.goto (-25), 3) := dk_167 255 231 (dk_at dksX12_byLevels_1 3 rfl rfl)
theorem dX12_byLevels_30 : decode cX12_byLevels 30 = .ok (.aload_n 0, 1) := dk_42 (dk_at dksX12_byLevels_1 6 rfl rfl)
theorem dX12_byLevels_31 : decode cX12_byLevels 31 = .ok (.areturn, 1) := dk_176 (dk_at dksX12_byLevels_1 7 rfl rfl)
abbrev cX12_hasOpen : ByteArray := prog_12_method_7_code
def yX12_hasOpen : MethodName := ⟨RX12, "hasOpen", "()Z"⟩
def dkwX12_hasOpen_2 : List UInt8 := [160, 0, 7, 4, 167, 0, 4, 3, 128, 60, 132, 3, 1, 167, 255, 210, 132, 2, 1, 167, 255, 196, 27, 172]
abbrev dktX12_hasOpen_2 : List UInt8 := dkwX12_hasOpen_2 ++ []
def dkwX12_hasOpen_1 : List UInt8 := [182, 0, 73, 28, 29, 182, 0, 26, 153, 0, 21, 42, 180, 0, 11, 28, 50, 29, 46, 17, 3, 232]
abbrev dktX12_hasOpen_1 : List UInt8 := dkwX12_hasOpen_1 ++ dktX12_hasOpen_2
def dkwX12_hasOpen_0 : List UInt8 := [3, 60, 3, 61, 28, 16, 8, 162, 0, 60, 3, 62, 29, 16, 100, 162, 0, 46, 27, 42, 180, 0, 16]
abbrev dktX12_hasOpen_0 : List UInt8 := dkwX12_hasOpen_0 ++ dktX12_hasOpen_1
theorem dksX12_hasOpen_0 : cX12_hasOpen.data.toList.drop 0 = dktX12_hasOpen_0 := by decide +kernel
theorem dksX12_hasOpen_1 : cX12_hasOpen.data.toList.drop 23 = dktX12_hasOpen_1 := dk_seg dksX12_hasOpen_0 23 rfl rfl
theorem dksX12_hasOpen_2 : cX12_hasOpen.data.toList.drop 45 = dktX12_hasOpen_2 := dk_seg dksX12_hasOpen_1 22 rfl rfl
theorem dX12_hasOpen_0 : decode cX12_hasOpen 0 = .ok (.iconst 0, 1) := dk_3 (dk_at dksX12_hasOpen_0 0 rfl rfl)
theorem dX12_hasOpen_1 : decode cX12_hasOpen 1 = .ok (.istore_n 1, 1) := dk_60 (dk_at dksX12_hasOpen_0 1 rfl rfl)
theorem dX12_hasOpen_2 : decode cX12_hasOpen 2 = .ok (.iconst 0, 1) := dk_3 (dk_at dksX12_hasOpen_0 2 rfl rfl)
theorem dX12_hasOpen_3 : decode cX12_hasOpen 3 = .ok (.istore_n 2, 1) := dk_61 (dk_at dksX12_hasOpen_0 3 rfl rfl)
theorem dX12_hasOpen_4 : decode cX12_hasOpen 4 = .ok (.iload_n 2, 1) := dk_28 (dk_at dksX12_hasOpen_0 4 rfl rfl)
theorem dX12_hasOpen_5 : decode cX12_hasOpen 5 = .ok (.bipush 8, 2) := dk_16 8 (dk_at dksX12_hasOpen_0 5 rfl rfl)
theorem dX12_hasOpen_7 : decode cX12_hasOpen 7 = .ok (.if_icmp .ge 60, 3) := dk_162 0 60 (dk_at dksX12_hasOpen_0 7 rfl rfl)
theorem dX12_hasOpen_10 : decode cX12_hasOpen 10 = .ok (.iconst 0, 1) := dk_3 (dk_at dksX12_hasOpen_0 10 rfl rfl)
theorem dX12_hasOpen_11 : decode cX12_hasOpen 11 = .ok (.istore_n 3, 1) := dk_62 (dk_at dksX12_hasOpen_0 11 rfl rfl)
theorem dX12_hasOpen_12 : decode cX12_hasOpen 12 = .ok (.iload_n 3, 1) := dk_29 (dk_at dksX12_hasOpen_0 12 rfl rfl)
theorem dX12_hasOpen_13 : decode cX12_hasOpen 13 = .ok (.bipush 100, 2) := dk_16 100 (dk_at dksX12_hasOpen_0 13 rfl rfl)
theorem dX12_hasOpen_15 : decode cX12_hasOpen 15 = .ok (.if_icmp .ge 46, 3) := dk_162 0 46 (dk_at dksX12_hasOpen_0 15 rfl rfl)
theorem dX12_hasOpen_18 : decode cX12_hasOpen 18 = .ok (.iload_n 1, 1) := dk_27 (dk_at dksX12_hasOpen_0 18 rfl rfl)
theorem dX12_hasOpen_19 : decode cX12_hasOpen 19 = .ok (.aload_n 0, 1) := dk_42 (dk_at dksX12_hasOpen_0 19 rfl rfl)
theorem dX12_hasOpen_20 : decode cX12_hasOpen 20 = .ok (.getfield 16, 3) := dk_180 0 16 (dk_at dksX12_hasOpen_0 20 rfl rfl)
theorem dX12_hasOpen_23 : decode cX12_hasOpen 23 = .ok (.invokevirtual 73, 3) := dk_182 0 73 (dk_at dksX12_hasOpen_1 0 rfl rfl)
theorem dX12_hasOpen_26 : decode cX12_hasOpen 26 = .ok (.iload_n 2, 1) := dk_28 (dk_at dksX12_hasOpen_1 3 rfl rfl)
theorem dX12_hasOpen_27 : decode cX12_hasOpen 27 = .ok (.iload_n 3, 1) := dk_29 (dk_at dksX12_hasOpen_1 4 rfl rfl)
theorem dX12_hasOpen_28 : decode cX12_hasOpen 28 = .ok (.invokevirtual 26, 3) := dk_182 0 26 (dk_at dksX12_hasOpen_1 5 rfl rfl)
theorem dX12_hasOpen_31 : decode cX12_hasOpen 31 = .ok (.ifCond .eq 21, 3) := dk_153 0 21 (dk_at dksX12_hasOpen_1 8 rfl rfl)
theorem dX12_hasOpen_34 : decode cX12_hasOpen 34 = .ok (.aload_n 0, 1) := dk_42 (dk_at dksX12_hasOpen_1 11 rfl rfl)
theorem dX12_hasOpen_35 : decode cX12_hasOpen 35 = .ok (.getfield 11, 3) := dk_180 0 11 (dk_at dksX12_hasOpen_1 12 rfl rfl)
theorem dX12_hasOpen_38 : decode cX12_hasOpen 38 = .ok (.iload_n 2, 1) := dk_28 (dk_at dksX12_hasOpen_1 15 rfl rfl)
theorem dX12_hasOpen_39 : decode cX12_hasOpen 39 = .ok (.aaload, 1) := dk_50 (dk_at dksX12_hasOpen_1 16 rfl rfl)
theorem dX12_hasOpen_40 : decode cX12_hasOpen 40 = .ok (.iload_n 3, 1) := dk_29 (dk_at dksX12_hasOpen_1 17 rfl rfl)
theorem dX12_hasOpen_41 : decode cX12_hasOpen 41 = .ok (.iaload, 1) := dk_46 (dk_at dksX12_hasOpen_1 18 rfl rfl)
theorem dX12_hasOpen_42 : decode cX12_hasOpen 42 = .ok (.sipush 1000, 3) := dk_17 3 232 (dk_at dksX12_hasOpen_1 19 rfl rfl)
theorem dX12_hasOpen_45 : decode cX12_hasOpen 45 = .ok (.if_icmp .ne 7, 3) := dk_160 0 7 (dk_at dksX12_hasOpen_2 0 rfl rfl)
theorem dX12_hasOpen_48 : decode cX12_hasOpen 48 = .ok (.iconst 1, 1) := dk_4 (dk_at dksX12_hasOpen_2 3 rfl rfl)
theorem dX12_hasOpen_49 : decode cX12_hasOpen 49 = .ok (.goto 4, 3) := dk_167 0 4 (dk_at dksX12_hasOpen_2 4 rfl rfl)
theorem dX12_hasOpen_52 : decode cX12_hasOpen 52 = .ok (.iconst 0, 1) := dk_3 (dk_at dksX12_hasOpen_2 7 rfl rfl)
theorem dX12_hasOpen_53 : decode cX12_hasOpen 53 = .ok (.ior, 1) := dk_128 (dk_at dksX12_hasOpen_2 8 rfl rfl)
theorem dX12_hasOpen_54 : decode cX12_hasOpen 54 = .ok (.istore_n 1, 1) := dk_60 (dk_at dksX12_hasOpen_2 9 rfl rfl)
theorem dX12_hasOpen_55 : decode cX12_hasOpen 55 = .ok (.iinc 3 1, 3) := dk_132 3 1 (dk_at dksX12_hasOpen_2 10 rfl rfl)
theorem dX12_hasOpen_58 : decode cX12_hasOpen 58 = .ok (.goto (-46), 3) := dk_167 255 210 (dk_at dksX12_hasOpen_2 13 rfl rfl)
theorem dX12_hasOpen_61 : decode cX12_hasOpen 61 = .ok (.iinc 2 1, 3) := dk_132 2 1 (dk_at dksX12_hasOpen_2 16 rfl rfl)
theorem dX12_hasOpen_64 : decode cX12_hasOpen 64 = .ok (.goto (-60), 3) := dk_167 255 196 (dk_at dksX12_hasOpen_2 19 rfl rfl)
theorem dX12_hasOpen_67 : decode cX12_hasOpen 67 = .ok (.iload_n 1, 1) := dk_27 (dk_at dksX12_hasOpen_2 22 rfl rfl)
theorem dX12_hasOpen_68 : decode cX12_hasOpen 68 = .ok (.ireturn, 1) := dk_172 (dk_at dksX12_hasOpen_2 23 rfl rfl)
abbrev cX12_isSameAs : ByteArray := prog_12_method_9_code
def yX12_isSameAs : MethodName := ⟨RX12, "isSameAs", "(LBrambleLogic$Heights;)Z"⟩
def dkwX12_isSameAs_2 : List UInt8 := [3, 126, 61, 132, 4, 1, 167, 255, 217, 132, 3, 1, 167, 255, 202, 28, 172]
abbrev dktX12_isSameAs_2 : List UInt8 := dkwX12_isSameAs_2 ++ []
def dkwX12_isSameAs_1 : List UInt8 := [180, 0, 11, 29, 50, 21, 4, 46, 43, 180, 0, 11, 29, 50, 21, 4, 46, 160, 0, 7, 4, 167, 0, 4]
abbrev dktX12_isSameAs_1 : List UInt8 := dkwX12_isSameAs_1 ++ dktX12_isSameAs_2
def dkwX12_isSameAs_0 : List UInt8 := [4, 61, 3, 62, 29, 16, 8, 162, 0, 54, 3, 54, 4, 21, 4, 16, 100, 162, 0, 38, 28, 42]
abbrev dktX12_isSameAs_0 : List UInt8 := dkwX12_isSameAs_0 ++ dktX12_isSameAs_1
theorem dksX12_isSameAs_0 : cX12_isSameAs.data.toList.drop 0 = dktX12_isSameAs_0 := by decide +kernel
theorem dksX12_isSameAs_1 : cX12_isSameAs.data.toList.drop 22 = dktX12_isSameAs_1 := dk_seg dksX12_isSameAs_0 22 rfl rfl
theorem dksX12_isSameAs_2 : cX12_isSameAs.data.toList.drop 46 = dktX12_isSameAs_2 := dk_seg dksX12_isSameAs_1 24 rfl rfl
theorem dX12_isSameAs_0 : decode cX12_isSameAs 0 = .ok (.iconst 1, 1) := dk_4 (dk_at dksX12_isSameAs_0 0 rfl rfl)
theorem dX12_isSameAs_1 : decode cX12_isSameAs 1 = .ok (.istore_n 2, 1) := dk_61 (dk_at dksX12_isSameAs_0 1 rfl rfl)
theorem dX12_isSameAs_2 : decode cX12_isSameAs 2 = .ok (.iconst 0, 1) := dk_3 (dk_at dksX12_isSameAs_0 2 rfl rfl)
theorem dX12_isSameAs_3 : decode cX12_isSameAs 3 = .ok (.istore_n 3, 1) := dk_62 (dk_at dksX12_isSameAs_0 3 rfl rfl)
theorem dX12_isSameAs_4 : decode cX12_isSameAs 4 = .ok (.iload_n 3, 1) := dk_29 (dk_at dksX12_isSameAs_0 4 rfl rfl)
theorem dX12_isSameAs_5 : decode cX12_isSameAs 5 = .ok (.bipush 8, 2) := dk_16 8 (dk_at dksX12_isSameAs_0 5 rfl rfl)
theorem dX12_isSameAs_7 : decode cX12_isSameAs 7 = .ok (.if_icmp .ge 54, 3) := dk_162 0 54 (dk_at dksX12_isSameAs_0 7 rfl rfl)
theorem dX12_isSameAs_10 : decode cX12_isSameAs 10 = .ok (.iconst 0, 1) := dk_3 (dk_at dksX12_isSameAs_0 10 rfl rfl)
theorem dX12_isSameAs_11 : decode cX12_isSameAs 11 = .ok (.istore 4, 2) := dk_54 4 (dk_at dksX12_isSameAs_0 11 rfl rfl)
theorem dX12_isSameAs_13 : decode cX12_isSameAs 13 = .ok (.iload 4, 2) := dk_21 4 (dk_at dksX12_isSameAs_0 13 rfl rfl)
theorem dX12_isSameAs_15 : decode cX12_isSameAs 15 = .ok (.bipush 100, 2) := dk_16 100 (dk_at dksX12_isSameAs_0 15 rfl rfl)
theorem dX12_isSameAs_17 : decode cX12_isSameAs 17 = .ok (.if_icmp .ge 38, 3) := dk_162 0 38 (dk_at dksX12_isSameAs_0 17 rfl rfl)
theorem dX12_isSameAs_20 : decode cX12_isSameAs 20 = .ok (.iload_n 2, 1) := dk_28 (dk_at dksX12_isSameAs_0 20 rfl rfl)
theorem dX12_isSameAs_21 : decode cX12_isSameAs 21 = .ok (.aload_n 0, 1) := dk_42 (dk_at dksX12_isSameAs_0 21 rfl rfl)
theorem dX12_isSameAs_22 : decode cX12_isSameAs 22 = .ok (.getfield 11, 3) := dk_180 0 11 (dk_at dksX12_isSameAs_1 0 rfl rfl)
theorem dX12_isSameAs_25 : decode cX12_isSameAs 25 = .ok (.iload_n 3, 1) := dk_29 (dk_at dksX12_isSameAs_1 3 rfl rfl)
theorem dX12_isSameAs_26 : decode cX12_isSameAs 26 = .ok (.aaload, 1) := dk_50 (dk_at dksX12_isSameAs_1 4 rfl rfl)
theorem dX12_isSameAs_27 : decode cX12_isSameAs 27 = .ok (.iload 4, 2) := dk_21 4 (dk_at dksX12_isSameAs_1 5 rfl rfl)
theorem dX12_isSameAs_29 : decode cX12_isSameAs 29 = .ok (.iaload, 1) := dk_46 (dk_at dksX12_isSameAs_1 7 rfl rfl)
theorem dX12_isSameAs_30 : decode cX12_isSameAs 30 = .ok (.aload_n 1, 1) := dk_43 (dk_at dksX12_isSameAs_1 8 rfl rfl)
theorem dX12_isSameAs_31 : decode cX12_isSameAs 31 = .ok (.getfield 11, 3) := dk_180 0 11 (dk_at dksX12_isSameAs_1 9 rfl rfl)
theorem dX12_isSameAs_34 : decode cX12_isSameAs 34 = .ok (.iload_n 3, 1) := dk_29 (dk_at dksX12_isSameAs_1 12 rfl rfl)
theorem dX12_isSameAs_35 : decode cX12_isSameAs 35 = .ok (.aaload, 1) := dk_50 (dk_at dksX12_isSameAs_1 13 rfl rfl)
theorem dX12_isSameAs_36 : decode cX12_isSameAs 36 = .ok (.iload 4, 2) := dk_21 4 (dk_at dksX12_isSameAs_1 14 rfl rfl)
theorem dX12_isSameAs_38 : decode cX12_isSameAs 38 = .ok (.iaload, 1) := dk_46 (dk_at dksX12_isSameAs_1 16 rfl rfl)
theorem dX12_isSameAs_39 : decode cX12_isSameAs 39 = .ok (.if_icmp .ne 7, 3) := dk_160 0 7 (dk_at dksX12_isSameAs_1 17 rfl rfl)
theorem dX12_isSameAs_42 : decode cX12_isSameAs 42 = .ok (.iconst 1, 1) := dk_4 (dk_at dksX12_isSameAs_1 20 rfl rfl)
theorem dX12_isSameAs_43 : decode cX12_isSameAs 43 = .ok (.goto 4, 3) := dk_167 0 4 (dk_at dksX12_isSameAs_1 21 rfl rfl)
theorem dX12_isSameAs_46 : decode cX12_isSameAs 46 = .ok (.iconst 0, 1) := dk_3 (dk_at dksX12_isSameAs_2 0 rfl rfl)
theorem dX12_isSameAs_47 : decode cX12_isSameAs 47 = .ok (.iand, 1) := dk_126 (dk_at dksX12_isSameAs_2 1 rfl rfl)
theorem dX12_isSameAs_48 : decode cX12_isSameAs 48 = .ok (.istore_n 2, 1) := dk_61 (dk_at dksX12_isSameAs_2 2 rfl rfl)
theorem dX12_isSameAs_49 : decode cX12_isSameAs 49 = .ok (.iinc 4 1, 3) := dk_132 4 1 (dk_at dksX12_isSameAs_2 3 rfl rfl)
theorem dX12_isSameAs_52 : decode cX12_isSameAs 52 = .ok (.goto (-39), 3) := dk_167 255 217 (dk_at dksX12_isSameAs_2 6 rfl rfl)
theorem dX12_isSameAs_55 : decode cX12_isSameAs 55 = .ok (.iinc 3 1, 3) := dk_132 3 1 (dk_at dksX12_isSameAs_2 9 rfl rfl)
theorem dX12_isSameAs_58 : decode cX12_isSameAs 58 = .ok (.goto (-54), 3) := dk_167 255 202 (dk_at dksX12_isSameAs_2 12 rfl rfl)
theorem dX12_isSameAs_61 : decode cX12_isSameAs 61 = .ok (.iload_n 2, 1) := dk_28 (dk_at dksX12_isSameAs_2 15 rfl rfl)
theorem dX12_isSameAs_62 : decode cX12_isSameAs 62 = .ok (.ireturn, 1) := dk_172 (dk_at dksX12_isSameAs_2 16 rfl rfl)
abbrev cX12_step : ByteArray := prog_12_method_10_code
def yX12_step : MethodName := ⟨RX12, "step", "(II)LBrambleLogic$Step;"⟩
def dkwX12_step_6 : List UInt8 := [167, 0, 4, 1, 78, 132, 4, 1, 167, 255, 113, 45, 176]
abbrev dktX12_step_6 : List UInt8 := dkwX12_step_6 ++ []
def dkwX12_step_5 : List UInt8 := [180, 0, 16, 180, 0, 70, 21, 4, 185, 0, 107, 2, 0, 192, 0, 33, 25, 5, 180, 0, 127, 183, 0, 131]
abbrev dktX12_step_5 : List UInt8 := dkwX12_step_5 ++ dktX12_step_6
def dkwX12_step_4 : List UInt8 := [180, 0, 16, 182, 0, 73, 182, 0, 120, 25, 5, 180, 0, 121, 153, 0, 37, 187, 0, 125, 89, 21, 4, 42]
abbrev dktX12_step_4 : List UInt8 := dkwX12_step_4 ++ dktX12_step_5
def dkwX12_step_3 : List UInt8 := [58, 5, 25, 5, 42, 180, 0, 16, 180, 0, 70, 21, 4, 185, 0, 107, 2, 0, 192, 0, 33, 42]
abbrev dktX12_step_3 : List UInt8 := dkwX12_step_3 ++ dktX12_step_4
def dkwX12_step_2 : List UInt8 := [180, 0, 56, 27, 160, 0, 95, 187, 0, 115, 89, 42, 42, 180, 0, 11, 27, 50, 28, 46, 28, 183, 0, 117]
abbrev dktX12_step_2 : List UInt8 := dkwX12_step_2 ++ dktX12_step_3
def dkwX12_step_1 : List UInt8 := [199, 0, 128, 42, 180, 0, 16, 180, 0, 70, 21, 4, 185, 0, 107, 2, 0, 192, 0, 33, 180, 0, 111]
abbrev dktX12_step_1 : List UInt8 := dkwX12_step_1 ++ dktX12_step_2
def dkwX12_step_0 : List UInt8 := [1, 78, 3, 54, 4, 21, 4, 42, 180, 0, 16, 180, 0, 70, 185, 0, 104, 1, 0, 162, 0, 132, 45]
abbrev dktX12_step_0 : List UInt8 := dkwX12_step_0 ++ dktX12_step_1
theorem dksX12_step_0 : cX12_step.data.toList.drop 0 = dktX12_step_0 := by decide +kernel
theorem dksX12_step_1 : cX12_step.data.toList.drop 23 = dktX12_step_1 := dk_seg dksX12_step_0 23 rfl rfl
theorem dksX12_step_2 : cX12_step.data.toList.drop 46 = dktX12_step_2 := dk_seg dksX12_step_1 23 rfl rfl
theorem dksX12_step_3 : cX12_step.data.toList.drop 70 = dktX12_step_3 := dk_seg dksX12_step_2 24 rfl rfl
theorem dksX12_step_4 : cX12_step.data.toList.drop 92 = dktX12_step_4 := dk_seg dksX12_step_3 22 rfl rfl
theorem dksX12_step_5 : cX12_step.data.toList.drop 116 = dktX12_step_5 := dk_seg dksX12_step_4 24 rfl rfl
theorem dksX12_step_6 : cX12_step.data.toList.drop 140 = dktX12_step_6 := dk_seg dksX12_step_5 24 rfl rfl
theorem dX12_step_0 : decode cX12_step 0 = .ok (.aconst_null, 1) := dk_1 (dk_at dksX12_step_0 0 rfl rfl)
theorem dX12_step_1 : decode cX12_step 1 = .ok (.astore_n 3, 1) := dk_78 (dk_at dksX12_step_0 1 rfl rfl)
theorem dX12_step_2 : decode cX12_step 2 = .ok (.iconst 0, 1) := dk_3 (dk_at dksX12_step_0 2 rfl rfl)
theorem dX12_step_3 : decode cX12_step 3 = .ok (.istore 4, 2) := dk_54 4 (dk_at dksX12_step_0 3 rfl rfl)
theorem dX12_step_5 : decode cX12_step 5 = .ok (.iload 4, 2) := dk_21 4 (dk_at dksX12_step_0 5 rfl rfl)
theorem dX12_step_7 : decode cX12_step 7 = .ok (.aload_n 0, 1) := dk_42 (dk_at dksX12_step_0 7 rfl rfl)
theorem dX12_step_8 : decode cX12_step 8 = .ok (.getfield 16, 3) := dk_180 0 16 (dk_at dksX12_step_0 8 rfl rfl)
theorem dX12_step_11 : decode cX12_step 11 = .ok (.getfield 70, 3) := dk_180 0 70 (dk_at dksX12_step_0 11 rfl rfl)
theorem dX12_step_14 : decode cX12_step 14 = .ok (.invokeinterface 104 1, 5) := by decide +kernel
theorem dX12_step_19 : decode cX12_step 19 = .ok (.if_icmp .ge 132, 3) := dk_162 0 132 (dk_at dksX12_step_0 19 rfl rfl)
theorem dX12_step_22 : decode cX12_step 22 = .ok (.aload_n 3, 1) := dk_45 (dk_at dksX12_step_0 22 rfl rfl)
theorem dX12_step_23 : decode cX12_step 23 = .ok (.ifnonnull 128, 3) := dk_199 0 128 (dk_at dksX12_step_1 0 rfl rfl)
theorem dX12_step_26 : decode cX12_step 26 = .ok (.aload_n 0, 1) := dk_42 (dk_at dksX12_step_1 3 rfl rfl)
theorem dX12_step_27 : decode cX12_step 27 = .ok (.getfield 16, 3) := dk_180 0 16 (dk_at dksX12_step_1 4 rfl rfl)
theorem dX12_step_30 : decode cX12_step 30 = .ok (.getfield 70, 3) := dk_180 0 70 (dk_at dksX12_step_1 7 rfl rfl)
theorem dX12_step_33 : decode cX12_step 33 = .ok (.iload 4, 2) := dk_21 4 (dk_at dksX12_step_1 10 rfl rfl)
theorem dX12_step_35 : decode cX12_step 35 = .ok (.invokeinterface 107 2, 5) := by decide +kernel
theorem dX12_step_40 : decode cX12_step 40 = .ok (.checkcast 33, 3) := dk_192 0 33 (dk_at dksX12_step_1 17 rfl rfl)
theorem dX12_step_43 : decode cX12_step 43 = .ok (.getfield 111, 3) := dk_180 0 111 (dk_at dksX12_step_1 20 rfl rfl)
theorem dX12_step_46 : decode cX12_step 46 = .ok (.getfield 56, 3) := dk_180 0 56 (dk_at dksX12_step_2 0 rfl rfl)
theorem dX12_step_49 : decode cX12_step 49 = .ok (.iload_n 1, 1) := dk_27 (dk_at dksX12_step_2 3 rfl rfl)
theorem dX12_step_50 : decode cX12_step 50 = .ok (.if_icmp .ne 95, 3) := dk_160 0 95 (dk_at dksX12_step_2 4 rfl rfl)
theorem dX12_step_53 : decode cX12_step 53 = .ok (.new 115, 3) := dk_187 0 115 (dk_at dksX12_step_2 7 rfl rfl)
theorem dX12_step_56 : decode cX12_step 56 = .ok (.dup, 1) := dk_89 (dk_at dksX12_step_2 10 rfl rfl)
theorem dX12_step_57 : decode cX12_step 57 = .ok (.aload_n 0, 1) := dk_42 (dk_at dksX12_step_2 11 rfl rfl)
theorem dX12_step_58 : decode cX12_step 58 = .ok (.aload_n 0, 1) := dk_42 (dk_at dksX12_step_2 12 rfl rfl)
theorem dX12_step_59 : decode cX12_step 59 = .ok (.getfield 11, 3) := dk_180 0 11 (dk_at dksX12_step_2 13 rfl rfl)
theorem dX12_step_62 : decode cX12_step 62 = .ok (.iload_n 1, 1) := dk_27 (dk_at dksX12_step_2 16 rfl rfl)
theorem dX12_step_63 : decode cX12_step 63 = .ok (.aaload, 1) := dk_50 (dk_at dksX12_step_2 17 rfl rfl)
theorem dX12_step_64 : decode cX12_step 64 = .ok (.iload_n 2, 1) := dk_28 (dk_at dksX12_step_2 18 rfl rfl)
theorem dX12_step_65 : decode cX12_step 65 = .ok (.iaload, 1) := dk_46 (dk_at dksX12_step_2 19 rfl rfl)
theorem dX12_step_66 : decode cX12_step 66 = .ok (.iload_n 2, 1) := dk_28 (dk_at dksX12_step_2 20 rfl rfl)
theorem dX12_step_67 : decode cX12_step 67 = .ok (.invokespecial 117, 3) := dk_183 0 117 (dk_at dksX12_step_2 21 rfl rfl)
theorem dX12_step_70 : decode cX12_step 70 = .ok (.astore 5, 2) := dk_58 5 (dk_at dksX12_step_3 0 rfl rfl)
theorem dX12_step_72 : decode cX12_step 72 = .ok (.aload 5, 2) := dk_25 5 (dk_at dksX12_step_3 2 rfl rfl)
theorem dX12_step_74 : decode cX12_step 74 = .ok (.aload_n 0, 1) := dk_42 (dk_at dksX12_step_3 4 rfl rfl)
theorem dX12_step_75 : decode cX12_step 75 = .ok (.getfield 16, 3) := dk_180 0 16 (dk_at dksX12_step_3 5 rfl rfl)
theorem dX12_step_78 : decode cX12_step 78 = .ok (.getfield 70, 3) := dk_180 0 70 (dk_at dksX12_step_3 8 rfl rfl)
theorem dX12_step_81 : decode cX12_step 81 = .ok (.iload 4, 2) := dk_21 4 (dk_at dksX12_step_3 11 rfl rfl)
theorem dX12_step_83 : decode cX12_step 83 = .ok (.invokeinterface 107 2, 5) := by decide +kernel
theorem dX12_step_88 : decode cX12_step 88 = .ok (.checkcast 33, 3) := dk_192 0 33 (dk_at dksX12_step_3 18 rfl rfl)
theorem dX12_step_91 : decode cX12_step 91 = .ok (.aload_n 0, 1) := dk_42 (dk_at dksX12_step_3 21 rfl rfl)
theorem dX12_step_92 : decode cX12_step 92 = .ok (.getfield 16, 3) := dk_180 0 16 (dk_at dksX12_step_4 0 rfl rfl)
theorem dX12_step_95 : decode cX12_step 95 = .ok (.invokevirtual 73, 3) := dk_182 0 73 (dk_at dksX12_step_4 3 rfl rfl)
theorem dX12_step_98 : decode cX12_step 98 = .ok (.invokevirtual 120, 3) := dk_182 0 120 (dk_at dksX12_step_4 6 rfl rfl)
theorem dX12_step_101 : decode cX12_step 101 = .ok (.aload 5, 2) := dk_25 5 (dk_at dksX12_step_4 9 rfl rfl)
theorem dX12_step_103 : decode cX12_step 103 = .ok (.getfield 121, 3) := dk_180 0 121 (dk_at dksX12_step_4 11 rfl rfl)
theorem dX12_step_106 : decode cX12_step 106 = .ok (.ifCond .eq 37, 3) := dk_153 0 37 (dk_at dksX12_step_4 14 rfl rfl)
theorem dX12_step_109 : decode cX12_step 109 = .ok (.new 125, 3) := dk_187 0 125 (dk_at dksX12_step_4 17 rfl rfl)
theorem dX12_step_112 : decode cX12_step 112 = .ok (.dup, 1) := dk_89 (dk_at dksX12_step_4 20 rfl rfl)
theorem dX12_step_113 : decode cX12_step 113 = .ok (.iload 4, 2) := dk_21 4 (dk_at dksX12_step_4 21 rfl rfl)
theorem dX12_step_115 : decode cX12_step 115 = .ok (.aload_n 0, 1) := dk_42 (dk_at dksX12_step_4 23 rfl rfl)
theorem dX12_step_116 : decode cX12_step 116 = .ok (.getfield 16, 3) := dk_180 0 16 (dk_at dksX12_step_5 0 rfl rfl)
theorem dX12_step_119 : decode cX12_step 119 = .ok (.getfield 70, 3) := dk_180 0 70 (dk_at dksX12_step_5 3 rfl rfl)
theorem dX12_step_122 : decode cX12_step 122 = .ok (.iload 4, 2) := dk_21 4 (dk_at dksX12_step_5 6 rfl rfl)
theorem dX12_step_124 : decode cX12_step 124 = .ok (.invokeinterface 107 2, 5) := by decide +kernel
theorem dX12_step_129 : decode cX12_step 129 = .ok (.checkcast 33, 3) := dk_192 0 33 (dk_at dksX12_step_5 13 rfl rfl)
theorem dX12_step_132 : decode cX12_step 132 = .ok (.aload 5, 2) := dk_25 5 (dk_at dksX12_step_5 16 rfl rfl)
theorem dX12_step_134 : decode cX12_step 134 = .ok (.getfield 127, 3) := dk_180 0 127 (dk_at dksX12_step_5 18 rfl rfl)
theorem dX12_step_137 : decode cX12_step 137 = .ok (.invokespecial 131, 3) := dk_183 0 131 (dk_at dksX12_step_5 21 rfl rfl)
theorem dX12_step_140 : decode cX12_step 140 = .ok (.goto 4, 3) := dk_167 0 4 (dk_at dksX12_step_6 0 rfl rfl)
theorem dX12_step_143 : decode cX12_step 143 = .ok (.aconst_null, 1) := dk_1 (dk_at dksX12_step_6 3 rfl rfl)
theorem dX12_step_144 : decode cX12_step 144 = .ok (.astore_n 3, 1) := dk_78 (dk_at dksX12_step_6 4 rfl rfl)
theorem dX12_step_145 : decode cX12_step 145 = .ok (.iinc 4 1, 3) := dk_132 4 1 (dk_at dksX12_step_6 5 rfl rfl)
theorem dX12_step_148 : decode cX12_step 148 = .ok (.goto (-143), 3) := dk_167 255 113 (dk_at dksX12_step_6 8 rfl rfl)
theorem dX12_step_151 : decode cX12_step 151 = .ok (.aload_n 3, 1) := dk_45 (dk_at dksX12_step_6 11 rfl rfl)
theorem dX12_step_152 : decode cX12_step 152 = .ok (.areturn, 1) := dk_176 (dk_at dksX12_step_6 12 rfl rfl)
abbrev cX12_size : ByteArray := prog_12_method_11_code
def yX12_size : MethodName := ⟨RX12, "size", "(II[[J)J"⟩
def dkwX12_size_5 : List UInt8 := [50, 28, 46, 154, 0, 7, 10, 167, 0, 8, 45, 27, 50, 28, 47, 173]
abbrev dktX12_size_5 : List UInt8 := dkwX12_size_5 ++ []
def dkwX12_size_4 : List UInt8 := [182, 0, 147, 97, 184, 0, 150, 55, 5, 167, 255, 203, 45, 27, 50, 28, 22, 5, 80, 42, 180, 0, 11, 27]
abbrev dktX12_size_4 : List UInt8 := dkwX12_size_4 ++ dktX12_size_5
def dkwX12_size_3 : List UInt8 := [20, 0, 142, 22, 5, 42, 25, 8, 180, 0, 56, 25, 8, 25, 4, 180, 0, 144, 182, 0, 60, 45]
abbrev dktX12_size_3 : List UInt8 := dkwX12_size_3 ++ dktX12_size_4
def dkwX12_size_2 : List UInt8 := [25, 7, 185, 0, 44, 1, 0, 153, 0, 49, 25, 7, 185, 0, 50, 1, 0, 192, 0, 54, 58, 8]
abbrev dktX12_size_2 : List UInt8 := dkwX12_size_2 ++ dktX12_size_3
def dkwX12_size_1 : List UInt8 := [182, 0, 134, 58, 4, 10, 55, 5, 25, 4, 180, 0, 138, 180, 0, 32, 185, 0, 38, 1, 0, 58, 7]
abbrev dktX12_size_1 : List UInt8 := dkwX12_size_1 ++ dktX12_size_2
def dkwX12_size_0 : List UInt8 := [42, 180, 0, 11, 27, 50, 28, 46, 158, 0, 102, 45, 27, 50, 28, 47, 9, 148, 154, 0, 92, 42, 27, 28]
abbrev dktX12_size_0 : List UInt8 := dkwX12_size_0 ++ dktX12_size_1
theorem dksX12_size_0 : cX12_size.data.toList.drop 0 = dktX12_size_0 := by decide +kernel
theorem dksX12_size_1 : cX12_size.data.toList.drop 24 = dktX12_size_1 := dk_seg dksX12_size_0 24 rfl rfl
theorem dksX12_size_2 : cX12_size.data.toList.drop 47 = dktX12_size_2 := dk_seg dksX12_size_1 23 rfl rfl
theorem dksX12_size_3 : cX12_size.data.toList.drop 69 = dktX12_size_3 := dk_seg dksX12_size_2 22 rfl rfl
theorem dksX12_size_4 : cX12_size.data.toList.drop 91 = dktX12_size_4 := dk_seg dksX12_size_3 22 rfl rfl
theorem dksX12_size_5 : cX12_size.data.toList.drop 115 = dktX12_size_5 := dk_seg dksX12_size_4 24 rfl rfl
theorem dX12_size_0 : decode cX12_size 0 = .ok (.aload_n 0, 1) := dk_42 (dk_at dksX12_size_0 0 rfl rfl)
theorem dX12_size_1 : decode cX12_size 1 = .ok (.getfield 11, 3) := dk_180 0 11 (dk_at dksX12_size_0 1 rfl rfl)
theorem dX12_size_4 : decode cX12_size 4 = .ok (.iload_n 1, 1) := dk_27 (dk_at dksX12_size_0 4 rfl rfl)
theorem dX12_size_5 : decode cX12_size 5 = .ok (.aaload, 1) := dk_50 (dk_at dksX12_size_0 5 rfl rfl)
theorem dX12_size_6 : decode cX12_size 6 = .ok (.iload_n 2, 1) := dk_28 (dk_at dksX12_size_0 6 rfl rfl)
theorem dX12_size_7 : decode cX12_size 7 = .ok (.iaload, 1) := dk_46 (dk_at dksX12_size_0 7 rfl rfl)
theorem dX12_size_8 : decode cX12_size 8 = .ok (.ifCond .le 102, 3) := dk_158 0 102 (dk_at dksX12_size_0 8 rfl rfl)
theorem dX12_size_11 : decode cX12_size 11 = .ok (.aload_n 3, 1) := dk_45 (dk_at dksX12_size_0 11 rfl rfl)
theorem dX12_size_12 : decode cX12_size 12 = .ok (.iload_n 1, 1) := dk_27 (dk_at dksX12_size_0 12 rfl rfl)
theorem dX12_size_13 : decode cX12_size 13 = .ok (.aaload, 1) := dk_50 (dk_at dksX12_size_0 13 rfl rfl)
theorem dX12_size_14 : decode cX12_size 14 = .ok (.iload_n 2, 1) := dk_28 (dk_at dksX12_size_0 14 rfl rfl)
theorem dX12_size_15 : decode cX12_size 15 = .ok (.laload, 1) := dk_47 (dk_at dksX12_size_0 15 rfl rfl)
theorem dX12_size_16 : decode cX12_size 16 = .ok (.lconst 0, 1) := dk_9 (dk_at dksX12_size_0 16 rfl rfl)
theorem dX12_size_17 : decode cX12_size 17 = .ok (.lcmp, 1) := dk_148 (dk_at dksX12_size_0 17 rfl rfl)
theorem dX12_size_18 : decode cX12_size 18 = .ok (.ifCond .ne 92, 3) := dk_154 0 92 (dk_at dksX12_size_0 18 rfl rfl)
theorem dX12_size_21 : decode cX12_size 21 = .ok (.aload_n 0, 1) := dk_42 (dk_at dksX12_size_0 21 rfl rfl)
theorem dX12_size_22 : decode cX12_size 22 = .ok (.iload_n 1, 1) := dk_27 (dk_at dksX12_size_0 22 rfl rfl)
theorem dX12_size_23 : decode cX12_size 23 = .ok (.iload_n 2, 1) := dk_28 (dk_at dksX12_size_0 23 rfl rfl)
theorem dX12_size_24 : decode cX12_size 24 = .ok (.invokevirtual 134, 3) := dk_182 0 134 (dk_at dksX12_size_1 0 rfl rfl)
theorem dX12_size_27 : decode cX12_size 27 = .ok (.astore 4, 2) := dk_58 4 (dk_at dksX12_size_1 3 rfl rfl)
theorem dX12_size_29 : decode cX12_size 29 = .ok (.lconst 1, 1) := dk_10 (dk_at dksX12_size_1 5 rfl rfl)
theorem dX12_size_30 : decode cX12_size 30 = .ok (.lstore 5, 2) := dk_55 5 (dk_at dksX12_size_1 6 rfl rfl)
theorem dX12_size_32 : decode cX12_size 32 = .ok (.aload 4, 2) := dk_25 4 (dk_at dksX12_size_1 8 rfl rfl)
theorem dX12_size_34 : decode cX12_size 34 = .ok (.getfield 138, 3) := dk_180 0 138 (dk_at dksX12_size_1 10 rfl rfl)
theorem dX12_size_37 : decode cX12_size 37 = .ok (.getfield 32, 3) := dk_180 0 32 (dk_at dksX12_size_1 13 rfl rfl)
theorem dX12_size_40 : decode cX12_size 40 = .ok (.invokeinterface 38 1, 5) := by decide +kernel
theorem dX12_size_45 : decode cX12_size 45 = .ok (.astore 7, 2) := dk_58 7 (dk_at dksX12_size_1 21 rfl rfl)
theorem dX12_size_47 : decode cX12_size 47 = .ok (.aload 7, 2) := dk_25 7 (dk_at dksX12_size_2 0 rfl rfl)
theorem dX12_size_49 : decode cX12_size 49 = .ok (.invokeinterface 44 1, 5) := by decide +kernel
theorem dX12_size_54 : decode cX12_size 54 = .ok (.ifCond .eq 49, 3) := dk_153 0 49 (dk_at dksX12_size_2 7 rfl rfl)
theorem dX12_size_57 : decode cX12_size 57 = .ok (.aload 7, 2) := dk_25 7 (dk_at dksX12_size_2 10 rfl rfl)
theorem dX12_size_59 : decode cX12_size 59 = .ok (.invokeinterface 50 1, 5) := by decide +kernel
theorem dX12_size_64 : decode cX12_size 64 = .ok (.checkcast 54, 3) := dk_192 0 54 (dk_at dksX12_size_2 17 rfl rfl)
theorem dX12_size_67 : decode cX12_size 67 = .ok (.astore 8, 2) := dk_58 8 (dk_at dksX12_size_2 20 rfl rfl)
theorem dX12_size_69 : decode cX12_size 69 = .ok (.ldc2_w 142, 3) := dk_20 0 142 (dk_at dksX12_size_3 0 rfl rfl)
theorem dX12_size_72 : decode cX12_size 72 = .ok (.lload 5, 2) := dk_22 5 (dk_at dksX12_size_3 3 rfl rfl)
theorem dX12_size_74 : decode cX12_size 74 = .ok (.aload_n 0, 1) := dk_42 (dk_at dksX12_size_3 5 rfl rfl)
theorem dX12_size_75 : decode cX12_size 75 = .ok (.aload 8, 2) := dk_25 8 (dk_at dksX12_size_3 6 rfl rfl)
theorem dX12_size_77 : decode cX12_size 77 = .ok (.getfield 56, 3) := dk_180 0 56 (dk_at dksX12_size_3 8 rfl rfl)
theorem dX12_size_80 : decode cX12_size 80 = .ok (.aload 8, 2) := dk_25 8 (dk_at dksX12_size_3 11 rfl rfl)
theorem dX12_size_82 : decode cX12_size 82 = .ok (.aload 4, 2) := dk_25 4 (dk_at dksX12_size_3 13 rfl rfl)
theorem dX12_size_84 : decode cX12_size 84 = .ok (.getfield 144, 3) := dk_180 0 144 (dk_at dksX12_size_3 15 rfl rfl)
theorem dX12_size_87 : decode cX12_size 87 = .ok (.invokevirtual 60, 3) := dk_182 0 60 (dk_at dksX12_size_3 18 rfl rfl)
theorem dX12_size_90 : decode cX12_size 90 = .ok (.aload_n 3, 1) := dk_45 (dk_at dksX12_size_3 21 rfl rfl)
theorem dX12_size_91 : decode cX12_size 91 = .ok (.invokevirtual 147, 3) := dk_182 0 147 (dk_at dksX12_size_4 0 rfl rfl)
theorem dX12_size_94 : decode cX12_size 94 = .ok (.ladd, 1) := dk_97 (dk_at dksX12_size_4 3 rfl rfl)
theorem dX12_size_95 : decode cX12_size 95 = .ok (.invokestatic 150, 3) := dk_184 0 150 (dk_at dksX12_size_4 4 rfl rfl)
theorem dX12_size_98 : decode cX12_size 98 = .ok (.lstore 5, 2) := dk_55 5 (dk_at dksX12_size_4 7 rfl rfl)
theorem dX12_size_100 : decode cX12_size 100 = .ok (.goto (-53), 3) := dk_167 255 203 (dk_at dksX12_size_4 9 rfl rfl)
theorem dX12_size_103 : decode cX12_size 103 = .ok (.aload_n 3, 1) := dk_45 (dk_at dksX12_size_4 12 rfl rfl)
theorem dX12_size_104 : decode cX12_size 104 = .ok (.iload_n 1, 1) := dk_27 (dk_at dksX12_size_4 13 rfl rfl)
theorem dX12_size_105 : decode cX12_size 105 = .ok (.aaload, 1) := dk_50 (dk_at dksX12_size_4 14 rfl rfl)
theorem dX12_size_106 : decode cX12_size 106 = .ok (.iload_n 2, 1) := dk_28 (dk_at dksX12_size_4 15 rfl rfl)
theorem dX12_size_107 : decode cX12_size 107 = .ok (.lload 5, 2) := dk_22 5 (dk_at dksX12_size_4 16 rfl rfl)
theorem dX12_size_109 : decode cX12_size 109 = .ok (.lastore, 1) := dk_80 (dk_at dksX12_size_4 18 rfl rfl)
theorem dX12_size_110 : decode cX12_size 110 = .ok (.aload_n 0, 1) := dk_42 (dk_at dksX12_size_4 19 rfl rfl)
theorem dX12_size_111 : decode cX12_size 111 = .ok (.getfield 11, 3) := dk_180 0 11 (dk_at dksX12_size_4 20 rfl rfl)
theorem dX12_size_114 : decode cX12_size 114 = .ok (.iload_n 1, 1) := dk_27 (dk_at dksX12_size_4 23 rfl rfl)
theorem dX12_size_115 : decode cX12_size 115 = .ok (.aaload, 1) := dk_50 (dk_at dksX12_size_5 0 rfl rfl)
theorem dX12_size_116 : decode cX12_size 116 = .ok (.iload_n 2, 1) := dk_28 (dk_at dksX12_size_5 1 rfl rfl)
theorem dX12_size_117 : decode cX12_size 117 = .ok (.iaload, 1) := dk_46 (dk_at dksX12_size_5 2 rfl rfl)
theorem dX12_size_118 : decode cX12_size 118 = .ok (.ifCond .ne 7, 3) := dk_154 0 7 (dk_at dksX12_size_5 3 rfl rfl)
theorem dX12_size_121 : decode cX12_size 121 = .ok (.lconst 1, 1) := dk_10 (dk_at dksX12_size_5 6 rfl rfl)
theorem dX12_size_122 : decode cX12_size 122 = .ok (.goto 8, 3) := dk_167 0 8 (dk_at dksX12_size_5 7 rfl rfl)
theorem dX12_size_125 : decode cX12_size 125 = .ok (.aload_n 3, 1) := dk_45 (dk_at dksX12_size_5 10 rfl rfl)
theorem dX12_size_126 : decode cX12_size 126 = .ok (.iload_n 1, 1) := dk_27 (dk_at dksX12_size_5 11 rfl rfl)
theorem dX12_size_127 : decode cX12_size 127 = .ok (.aaload, 1) := dk_50 (dk_at dksX12_size_5 12 rfl rfl)
theorem dX12_size_128 : decode cX12_size 128 = .ok (.iload_n 2, 1) := dk_28 (dk_at dksX12_size_5 13 rfl rfl)
theorem dX12_size_129 : decode cX12_size 129 = .ok (.laload, 1) := dk_47 (dk_at dksX12_size_5 14 rfl rfl)
theorem dX12_size_130 : decode cX12_size 130 = .ok (.lreturn, 1) := dk_173 (dk_at dksX12_size_5 15 rfl rfl)
abbrev cX12_sumOfTrue : ByteArray := prog_12_method_8_code
def yX12_sumOfTrue : MethodName := ⟨RX12, "sumOfTrue", "()I"⟩
def dkwX12_sumOfTrue_2 : List UInt8 := [60, 132, 3, 1, 167, 255, 217, 132, 2, 1, 167, 255, 203, 27, 172]
abbrev dktX12_sumOfTrue_2 : List UInt8 := dkwX12_sumOfTrue_2 ++ []
def dkwX12_sumOfTrue_1 : List UInt8 := [182, 0, 73, 28, 29, 182, 0, 26, 153, 0, 14, 42, 180, 0, 11, 28, 50, 29, 46, 167, 0, 4, 3, 96]
abbrev dktX12_sumOfTrue_1 : List UInt8 := dkwX12_sumOfTrue_1 ++ dktX12_sumOfTrue_2
def dkwX12_sumOfTrue_0 : List UInt8 := [3, 60, 3, 61, 28, 16, 8, 162, 0, 53, 3, 62, 29, 16, 100, 162, 0, 39, 27, 42, 180, 0, 16]
abbrev dktX12_sumOfTrue_0 : List UInt8 := dkwX12_sumOfTrue_0 ++ dktX12_sumOfTrue_1
theorem dksX12_sumOfTrue_0 : cX12_sumOfTrue.data.toList.drop 0 = dktX12_sumOfTrue_0 := by decide +kernel
theorem dksX12_sumOfTrue_1 : cX12_sumOfTrue.data.toList.drop 23 = dktX12_sumOfTrue_1 := dk_seg dksX12_sumOfTrue_0 23 rfl rfl
theorem dksX12_sumOfTrue_2 : cX12_sumOfTrue.data.toList.drop 47 = dktX12_sumOfTrue_2 := dk_seg dksX12_sumOfTrue_1 24 rfl rfl
theorem dX12_sumOfTrue_0 : decode cX12_sumOfTrue 0 = .ok (.iconst 0, 1) := dk_3 (dk_at dksX12_sumOfTrue_0 0 rfl rfl)
theorem dX12_sumOfTrue_1 : decode cX12_sumOfTrue 1 = .ok (.istore_n 1, 1) := dk_60 (dk_at dksX12_sumOfTrue_0 1 rfl rfl)
theorem dX12_sumOfTrue_2 : decode cX12_sumOfTrue 2 = .ok (.iconst 0, 1) := dk_3 (dk_at dksX12_sumOfTrue_0 2 rfl rfl)
theorem dX12_sumOfTrue_3 : decode cX12_sumOfTrue 3 = .ok (.istore_n 2, 1) := dk_61 (dk_at dksX12_sumOfTrue_0 3 rfl rfl)
theorem dX12_sumOfTrue_4 : decode cX12_sumOfTrue 4 = .ok (.iload_n 2, 1) := dk_28 (dk_at dksX12_sumOfTrue_0 4 rfl rfl)
theorem dX12_sumOfTrue_5 : decode cX12_sumOfTrue 5 = .ok (.bipush 8, 2) := dk_16 8 (dk_at dksX12_sumOfTrue_0 5 rfl rfl)
theorem dX12_sumOfTrue_7 : decode cX12_sumOfTrue 7 = .ok (.if_icmp .ge 53, 3) := dk_162 0 53 (dk_at dksX12_sumOfTrue_0 7 rfl rfl)
theorem dX12_sumOfTrue_10 : decode cX12_sumOfTrue 10 = .ok (.iconst 0, 1) := dk_3 (dk_at dksX12_sumOfTrue_0 10 rfl rfl)
theorem dX12_sumOfTrue_11 : decode cX12_sumOfTrue 11 = .ok (.istore_n 3, 1) := dk_62 (dk_at dksX12_sumOfTrue_0 11 rfl rfl)
theorem dX12_sumOfTrue_12 : decode cX12_sumOfTrue 12 = .ok (.iload_n 3, 1) := dk_29 (dk_at dksX12_sumOfTrue_0 12 rfl rfl)
theorem dX12_sumOfTrue_13 : decode cX12_sumOfTrue 13 = .ok (.bipush 100, 2) := dk_16 100 (dk_at dksX12_sumOfTrue_0 13 rfl rfl)
theorem dX12_sumOfTrue_15 : decode cX12_sumOfTrue 15 = .ok (.if_icmp .ge 39, 3) := dk_162 0 39 (dk_at dksX12_sumOfTrue_0 15 rfl rfl)
theorem dX12_sumOfTrue_18 : decode cX12_sumOfTrue 18 = .ok (.iload_n 1, 1) := dk_27 (dk_at dksX12_sumOfTrue_0 18 rfl rfl)
theorem dX12_sumOfTrue_19 : decode cX12_sumOfTrue 19 = .ok (.aload_n 0, 1) := dk_42 (dk_at dksX12_sumOfTrue_0 19 rfl rfl)
theorem dX12_sumOfTrue_20 : decode cX12_sumOfTrue 20 = .ok (.getfield 16, 3) := dk_180 0 16 (dk_at dksX12_sumOfTrue_0 20 rfl rfl)
theorem dX12_sumOfTrue_23 : decode cX12_sumOfTrue 23 = .ok (.invokevirtual 73, 3) := dk_182 0 73 (dk_at dksX12_sumOfTrue_1 0 rfl rfl)
theorem dX12_sumOfTrue_26 : decode cX12_sumOfTrue 26 = .ok (.iload_n 2, 1) := dk_28 (dk_at dksX12_sumOfTrue_1 3 rfl rfl)
theorem dX12_sumOfTrue_27 : decode cX12_sumOfTrue 27 = .ok (.iload_n 3, 1) := dk_29 (dk_at dksX12_sumOfTrue_1 4 rfl rfl)
theorem dX12_sumOfTrue_28 : decode cX12_sumOfTrue 28 = .ok (.invokevirtual 26, 3) := dk_182 0 26 (dk_at dksX12_sumOfTrue_1 5 rfl rfl)
theorem dX12_sumOfTrue_31 : decode cX12_sumOfTrue 31 = .ok (.ifCond .eq 14, 3) := dk_153 0 14 (dk_at dksX12_sumOfTrue_1 8 rfl rfl)
theorem dX12_sumOfTrue_34 : decode cX12_sumOfTrue 34 = .ok (.aload_n 0, 1) := dk_42 (dk_at dksX12_sumOfTrue_1 11 rfl rfl)
theorem dX12_sumOfTrue_35 : decode cX12_sumOfTrue 35 = .ok (.getfield 11, 3) := dk_180 0 11 (dk_at dksX12_sumOfTrue_1 12 rfl rfl)
theorem dX12_sumOfTrue_38 : decode cX12_sumOfTrue 38 = .ok (.iload_n 2, 1) := dk_28 (dk_at dksX12_sumOfTrue_1 15 rfl rfl)
theorem dX12_sumOfTrue_39 : decode cX12_sumOfTrue 39 = .ok (.aaload, 1) := dk_50 (dk_at dksX12_sumOfTrue_1 16 rfl rfl)
theorem dX12_sumOfTrue_40 : decode cX12_sumOfTrue 40 = .ok (.iload_n 3, 1) := dk_29 (dk_at dksX12_sumOfTrue_1 17 rfl rfl)
theorem dX12_sumOfTrue_41 : decode cX12_sumOfTrue 41 = .ok (.iaload, 1) := dk_46 (dk_at dksX12_sumOfTrue_1 18 rfl rfl)
theorem dX12_sumOfTrue_42 : decode cX12_sumOfTrue 42 = .ok (.goto 4, 3) := dk_167 0 4 (dk_at dksX12_sumOfTrue_1 19 rfl rfl)
theorem dX12_sumOfTrue_45 : decode cX12_sumOfTrue 45 = .ok (.iconst 0, 1) := dk_3 (dk_at dksX12_sumOfTrue_1 22 rfl rfl)
theorem dX12_sumOfTrue_46 : decode cX12_sumOfTrue 46 = .ok (.iadd, 1) := dk_96 (dk_at dksX12_sumOfTrue_1 23 rfl rfl)
theorem dX12_sumOfTrue_47 : decode cX12_sumOfTrue 47 = .ok (.istore_n 1, 1) := dk_60 (dk_at dksX12_sumOfTrue_2 0 rfl rfl)
theorem dX12_sumOfTrue_48 : decode cX12_sumOfTrue 48 = .ok (.iinc 3 1, 3) := dk_132 3 1 (dk_at dksX12_sumOfTrue_2 1 rfl rfl)
theorem dX12_sumOfTrue_51 : decode cX12_sumOfTrue 51 = .ok (.goto (-39), 3) := dk_167 255 217 (dk_at dksX12_sumOfTrue_2 4 rfl rfl)
theorem dX12_sumOfTrue_54 : decode cX12_sumOfTrue 54 = .ok (.iinc 2 1, 3) := dk_132 2 1 (dk_at dksX12_sumOfTrue_2 7 rfl rfl)
theorem dX12_sumOfTrue_57 : decode cX12_sumOfTrue 57 = .ok (.goto (-53), 3) := dk_167 255 203 (dk_at dksX12_sumOfTrue_2 10 rfl rfl)
theorem dX12_sumOfTrue_60 : decode cX12_sumOfTrue 60 = .ok (.iload_n 1, 1) := dk_27 (dk_at dksX12_sumOfTrue_2 13 rfl rfl)
theorem dX12_sumOfTrue_61 : decode cX12_sumOfTrue 61 = .ok (.ireturn, 1) := dk_172 (dk_at dksX12_sumOfTrue_2 14 rfl rfl)
theorem q148 : (Jvm.Cond.initialized "BrambleLogic$Heights") ∈ lw_all := lw_g (lw_at lw_m1 41 rfl) rfl
theorem q249 : (Jvm.Cond.fieldLinkNest "BrambleLogic$Heights" (20 : Nat) "BrambleLogic$Logic" "given" "LBrambleLogic$Facts;" "BrambleLogic") ∈ lw_tbl := lw_at lw_m1 142 rfl
theorem q253 : (Jvm.Cond.fieldLinkNest "BrambleLogic$Heights" (70 : Nat) "BrambleLogic$Logic" "rules" "Ljava/util/List;" "BrambleLogic") ∈ lw_tbl := lw_at lw_m1 146 rfl
theorem q703 : (Jvm.Cond.selects "BrambleLogic$Heights" ({ cls := "java/lang/Object", name := "getClass", desc := "()Ljava/lang/Class;" } : Jvm.MethodName) ({ cls := "java/lang/Object", name := "getClass", desc := "()Ljava/lang/Class;" } : Jvm.MethodName)) ∈ lw_all := lw_g (lw_at lw_m3 116 rfl) rfl
theorem q950 : (Jvm.Cond.privateMethod ({ cls := "BrambleLogic$Heights", name := "heightBy", desc := "(LBrambleLogic$Rule;[I)I" } : Jvm.MethodName)) ∈ lw_tbl := lw_at lw_m4 123 rfl
theorem q951 : (Jvm.Cond.instanceMethod ({ cls := "BrambleLogic$Heights", name := "heightBy", desc := "(LBrambleLogic$Rule;[I)I" } : Jvm.MethodName)) ∈ lw_all := lw_g (lw_at lw_m4 124 rfl) rfl
theorem q952 : (Jvm.Cond.instantiable "BrambleLogic$Heights" (2 : Nat)) ∈ lw_all := lw_g (lw_at lw_m4 125 rfl) rfl
theorem q953 : (Jvm.Cond.code ({ cls := "BrambleLogic$Heights", name := "heightBy", desc := "(LBrambleLogic$Rule;[I)I" } : Jvm.MethodName) prog_12_method_2_code (6 : Nat) (Option.some Jvm.ClassFile.FieldType.int)) ∈ lw_all := lw_g (lw_at lw_m4 126 rfl) rfl
theorem q954 : (Jvm.Cond.interfaceEntry "BrambleLogic$Heights" (38 : Nat)) ∈ lw_tbl := lw_at lw_m4 127 rfl
theorem q955 : (Jvm.Cond.methodLink "BrambleLogic$Heights" (38 : Nat) ({ cls := "java/util/List", name := "iterator", desc := "()Ljava/util/Iterator;" } : Jvm.MethodName)) ∈ lw_all := lw_g (lw_at lw_m4 128 rfl) rfl
theorem q956 : (Jvm.Cond.interfaceEntry "BrambleLogic$Heights" (44 : Nat)) ∈ lw_tbl := lw_at lw_m4 129 rfl
theorem q957 : (Jvm.Cond.methodLink "BrambleLogic$Heights" (44 : Nat) ({ cls := "java/util/Iterator", name := "hasNext", desc := "()Z" } : Jvm.MethodName)) ∈ lw_all := lw_g (lw_at lw_m4 130 rfl) rfl
theorem q958 : (Jvm.Cond.interfaceEntry "BrambleLogic$Heights" (50 : Nat)) ∈ lw_tbl := lw_at lw_m4 131 rfl
theorem q959 : (Jvm.Cond.methodLink "BrambleLogic$Heights" (50 : Nat) ({ cls := "java/util/Iterator", name := "next", desc := "()Ljava/lang/Object;" } : Jvm.MethodName)) ∈ lw_all := lw_g (lw_at lw_m4 132 rfl) rfl
theorem q960 : (Jvm.Cond.classLink "BrambleLogic$Heights" (54 : Nat) "BrambleLogic$Atom") ∈ lw_all := lw_g (lw_at lw_m4 133 rfl) rfl
theorem q961 : (Jvm.Cond.methodLink "BrambleLogic$Heights" (60 : Nat) ({ cls := "BrambleLogic$Atom", name := "code", desc := "([I)I" } : Jvm.MethodName)) ∈ lw_all := lw_g (lw_at lw_m4 134 rfl) rfl
theorem q962 : (Jvm.Cond.methodLink "BrambleLogic$Heights" (64 : Nat) ({ cls := "java/lang/Math", name := "max", desc := "(II)I" } : Jvm.MethodName)) ∈ lw_all := lw_g (lw_at lw_m4 135 rfl) rfl
theorem q992 : (Jvm.Cond.instanceMethod ({ cls := "BrambleLogic$Heights", name := "<init>", desc := "(LBrambleLogic$Logic;)V" } : Jvm.MethodName)) ∈ lw_all := lw_g (lw_at lw_m4 165 rfl) rfl
theorem q993 : (Jvm.Cond.code ({ cls := "BrambleLogic$Heights", name := "<init>", desc := "(LBrambleLogic$Logic;)V" } : Jvm.MethodName) prog_12_method_1_code (4 : Nat) (Option.none : Option Jvm.ClassFile.FieldType)) ∈ lw_all := lw_g (lw_at lw_m4 166 rfl) rfl
theorem q994 : (Jvm.Cond.methodLink "BrambleLogic$Heights" (3 : Nat) ({ cls := "java/lang/Object", name := "<init>", desc := "()V" } : Jvm.MethodName)) ∈ lw_all := lw_g (lw_at lw_m4 167 rfl) rfl
theorem q995 : (Jvm.Cond.classLink "BrambleLogic$Heights" (9 : Nat) "[[I") ∈ lw_all := lw_g (lw_at lw_m4 168 rfl) rfl
theorem q997 : (Jvm.Cond.methodLink "BrambleLogic$Heights" (26 : Nat) ({ cls := "BrambleLogic$Facts", name := "has", desc := "(II)Z" } : Jvm.MethodName)) ∈ lw_all := lw_g (lw_at lw_m4 170 rfl) rfl
theorem q998 : (Jvm.Cond.fieldLink "BrambleLogic$Heights" (16 : Nat) "BrambleLogic$Heights" "logic" "LBrambleLogic$Logic;") ∈ lw_all := lw_g (lw_at lw_m4 171 rfl) rfl
theorem q999 : (Jvm.Cond.fieldLink "BrambleLogic$Heights" (11 : Nat) "BrambleLogic$Heights" "heights" "[[I") ∈ lw_all := lw_g (lw_at lw_m4 172 rfl) rfl
theorem q1003 : (Jvm.Cond.laysFinal "BrambleLogic$Heights" "BrambleLogic$Heights" "logic" "LBrambleLogic$Logic;") ∈ lw_all := lw_g (lw_at lw_m4 176 rfl) rfl
theorem q1004 : (Jvm.Cond.soleField "BrambleLogic$Heights" "logic") ∈ lw_all := lw_g (lw_at lw_m4 177 rfl) rfl
theorem q1005 : (Jvm.Cond.laysFinal "BrambleLogic$Heights" "BrambleLogic$Heights" "heights" "[[I") ∈ lw_all := lw_g (lw_at lw_m4 178 rfl) rfl
theorem q1006 : (Jvm.Cond.soleField "BrambleLogic$Heights" "heights") ∈ lw_all := lw_g (lw_at lw_m4 179 rfl) rfl
theorem q1007 : (Jvm.Cond.superclass "BrambleLogic$Heights" "java/lang/Object") ∈ lw_all := lw_g (lw_at lw_m4 180 rfl) rfl
theorem q1009 : (Jvm.Cond.instanceMethod ({ cls := "BrambleLogic$Heights", name := "inRounds", desc := "()LBrambleLogic$Heights;" } : Jvm.MethodName)) ∈ lw_all := lw_g (lw_at lw_m4 182 rfl) rfl
theorem q1010 : (Jvm.Cond.selects "BrambleLogic$Heights" ({ cls := "BrambleLogic$Heights", name := "inRounds", desc := "()LBrambleLogic$Heights;" } : Jvm.MethodName) ({ cls := "BrambleLogic$Heights", name := "inRounds", desc := "()LBrambleLogic$Heights;" } : Jvm.MethodName)) ∈ lw_all := lw_g (lw_at lw_m4 183 rfl) rfl
theorem q1011 : (Jvm.Cond.code ({ cls := "BrambleLogic$Heights", name := "inRounds", desc := "()LBrambleLogic$Heights;" } : Jvm.MethodName) prog_12_method_4_code (2 : Nat) (Option.some (Jvm.ClassFile.FieldType.object "BrambleLogic$Heights"))) ∈ lw_all := lw_g (lw_at lw_m4 184 rfl) rfl
theorem q1012 : (Jvm.Cond.methodLink "BrambleLogic$Heights" (83 : Nat) ({ cls := "BrambleLogic$Heights", name := "sum", desc := "()I" } : Jvm.MethodName)) ∈ lw_all := lw_g (lw_at lw_m4 185 rfl) rfl
theorem q1013 : (Jvm.Cond.privateMethod ({ cls := "BrambleLogic$Heights", name := "sum", desc := "()I" } : Jvm.MethodName)) ∈ lw_tbl := lw_at lw_m4 186 rfl
theorem q1014 : (Jvm.Cond.instanceMethod ({ cls := "BrambleLogic$Heights", name := "sum", desc := "()I" } : Jvm.MethodName)) ∈ lw_all := lw_g (lw_at lw_m4 187 rfl) rfl
theorem q1015 : (Jvm.Cond.code ({ cls := "BrambleLogic$Heights", name := "sum", desc := "()I" } : Jvm.MethodName) prog_12_method_6_code (10 : Nat) (Option.some Jvm.ClassFile.FieldType.int)) ∈ lw_all := lw_g (lw_at lw_m4 188 rfl) rfl
theorem q1016 : (Jvm.Cond.classLink "BrambleLogic$Heights" (87 : Nat) "BrambleLogic$Heights$1") ∈ lw_all := lw_g (lw_at lw_m4 189 rfl) rfl
theorem q1018 : (Jvm.Cond.methodLink "BrambleLogic$Heights" (89 : Nat) ({ cls := "BrambleLogic$Heights$1", name := "<init>", desc := "(LBrambleLogic$Heights;)V" } : Jvm.MethodName)) ∈ lw_all := lw_g (lw_at lw_m4 191 rfl) rfl
theorem q1026 : (Jvm.Cond.methodLink "BrambleLogic$Heights" (92 : Nat) ({ cls := "BrambleLogic$Heights", name := "takeAll", desc := "(LBrambleLogic$Steps;)V" } : Jvm.MethodName)) ∈ lw_all := lw_g (lw_at lw_m4 199 rfl) rfl
theorem q1027 : (Jvm.Cond.privateMethod ({ cls := "BrambleLogic$Heights", name := "takeAll", desc := "(LBrambleLogic$Steps;)V" } : Jvm.MethodName)) ∈ lw_tbl := lw_at lw_m4 200 rfl
theorem q1028 : (Jvm.Cond.instanceMethod ({ cls := "BrambleLogic$Heights", name := "takeAll", desc := "(LBrambleLogic$Steps;)V" } : Jvm.MethodName)) ∈ lw_all := lw_g (lw_at lw_m4 201 rfl) rfl
theorem q1029 : (Jvm.Cond.code ({ cls := "BrambleLogic$Heights", name := "takeAll", desc := "(LBrambleLogic$Steps;)V" } : Jvm.MethodName) prog_12_method_3_code (4 : Nat) (Option.none : Option Jvm.ClassFile.FieldType)) ∈ lw_all := lw_g (lw_at lw_m4 202 rfl) rfl
theorem q1030 : (Jvm.Cond.classLink "BrambleLogic$Heights" (33 : Nat) "BrambleLogic$Rule") ∈ lw_all := lw_g (lw_at lw_m4 203 rfl) rfl
theorem q1031 : (Jvm.Cond.methodLink "BrambleLogic$Heights" (73 : Nat) ({ cls := "BrambleLogic$Logic", name := "facts", desc := "()LBrambleLogic$Facts;" } : Jvm.MethodName)) ∈ lw_all := lw_g (lw_at lw_m4 204 rfl) rfl
theorem q1032 : (Jvm.Cond.methodLink "BrambleLogic$Heights" (77 : Nat) ({ cls := "BrambleLogic$Steps", name := "take", desc := "(LBrambleLogic$Rule;LBrambleLogic$Facts;)V" } : Jvm.MethodName)) ∈ lw_all := lw_g (lw_at lw_m4 205 rfl) rfl
theorem q1034 : (Jvm.Cond.instanceMethod ({ cls := "BrambleLogic$Heights", name := "byLevels", desc := "()LBrambleLogic$Heights;" } : Jvm.MethodName)) ∈ lw_all := lw_g (lw_at lw_m4 207 rfl) rfl
theorem q1035 : (Jvm.Cond.selects "BrambleLogic$Heights" ({ cls := "BrambleLogic$Heights", name := "byLevels", desc := "()LBrambleLogic$Heights;" } : Jvm.MethodName) ({ cls := "BrambleLogic$Heights", name := "byLevels", desc := "()LBrambleLogic$Heights;" } : Jvm.MethodName)) ∈ lw_all := lw_g (lw_at lw_m4 208 rfl) rfl
theorem q1036 : (Jvm.Cond.code ({ cls := "BrambleLogic$Heights", name := "byLevels", desc := "()LBrambleLogic$Heights;" } : Jvm.MethodName) prog_12_method_5_code (3 : Nat) (Option.some (Jvm.ClassFile.FieldType.object "BrambleLogic$Heights"))) ∈ lw_all := lw_g (lw_at lw_m4 209 rfl) rfl
theorem q1037 : (Jvm.Cond.methodLink "BrambleLogic$Heights" (96 : Nat) ({ cls := "BrambleLogic$Heights", name := "hasOpen", desc := "()Z" } : Jvm.MethodName)) ∈ lw_all := lw_g (lw_at lw_m4 210 rfl) rfl
theorem q1038 : (Jvm.Cond.privateMethod ({ cls := "BrambleLogic$Heights", name := "hasOpen", desc := "()Z" } : Jvm.MethodName)) ∈ lw_tbl := lw_at lw_m4 211 rfl
theorem q1039 : (Jvm.Cond.instanceMethod ({ cls := "BrambleLogic$Heights", name := "hasOpen", desc := "()Z" } : Jvm.MethodName)) ∈ lw_all := lw_g (lw_at lw_m4 212 rfl) rfl
theorem q1040 : (Jvm.Cond.code ({ cls := "BrambleLogic$Heights", name := "hasOpen", desc := "()Z" } : Jvm.MethodName) prog_12_method_7_code (4 : Nat) (Option.some Jvm.ClassFile.FieldType.boolean)) ∈ lw_all := lw_g (lw_at lw_m4 213 rfl) rfl
theorem q1041 : (Jvm.Cond.classLink "BrambleLogic$Heights" (99 : Nat) "BrambleLogic$Heights$2") ∈ lw_all := lw_g (lw_at lw_m4 214 rfl) rfl
theorem q1043 : (Jvm.Cond.methodLink "BrambleLogic$Heights" (101 : Nat) ({ cls := "BrambleLogic$Heights$2", name := "<init>", desc := "(LBrambleLogic$Heights;I)V" } : Jvm.MethodName)) ∈ lw_all := lw_g (lw_at lw_m4 216 rfl) rfl
theorem q1055 : (Jvm.Cond.instanceMethod ({ cls := "BrambleLogic$Heights", name := "isSameAs", desc := "(LBrambleLogic$Heights;)Z" } : Jvm.MethodName)) ∈ lw_all := lw_g (lw_at lw_m4 228 rfl) rfl
theorem q1056 : (Jvm.Cond.selects "BrambleLogic$Heights" ({ cls := "BrambleLogic$Heights", name := "isSameAs", desc := "(LBrambleLogic$Heights;)Z" } : Jvm.MethodName) ({ cls := "BrambleLogic$Heights", name := "isSameAs", desc := "(LBrambleLogic$Heights;)Z" } : Jvm.MethodName)) ∈ lw_all := lw_g (lw_at lw_m4 229 rfl) rfl
theorem q1057 : (Jvm.Cond.code ({ cls := "BrambleLogic$Heights", name := "isSameAs", desc := "(LBrambleLogic$Heights;)Z" } : Jvm.MethodName) prog_12_method_9_code (5 : Nat) (Option.some Jvm.ClassFile.FieldType.boolean)) ∈ lw_all := lw_g (lw_at lw_m4 230 rfl) rfl
theorem q1844 : (Jvm.Cond.instanceMethod ({ cls := "BrambleLogic$Heights", name := "step", desc := "(II)LBrambleLogic$Step;" } : Jvm.MethodName)) ∈ lw_all := lw_g (lw_at lw_m8 57 rfl) rfl
theorem q1845 : (Jvm.Cond.selects "BrambleLogic$Heights" ({ cls := "BrambleLogic$Heights", name := "step", desc := "(II)LBrambleLogic$Step;" } : Jvm.MethodName) ({ cls := "BrambleLogic$Heights", name := "step", desc := "(II)LBrambleLogic$Step;" } : Jvm.MethodName)) ∈ lw_all := lw_g (lw_at lw_m8 58 rfl) rfl
theorem q1846 : (Jvm.Cond.code ({ cls := "BrambleLogic$Heights", name := "step", desc := "(II)LBrambleLogic$Step;" } : Jvm.MethodName) prog_12_method_10_code (6 : Nat) (Option.some (Jvm.ClassFile.FieldType.object "BrambleLogic$Step"))) ∈ lw_all := lw_g (lw_at lw_m8 59 rfl) rfl
theorem q1847 : (Jvm.Cond.interfaceEntry "BrambleLogic$Heights" (104 : Nat)) ∈ lw_tbl := lw_at lw_m8 60 rfl
theorem q1848 : (Jvm.Cond.methodLink "BrambleLogic$Heights" (104 : Nat) ({ cls := "java/util/List", name := "size", desc := "()I" } : Jvm.MethodName)) ∈ lw_all := lw_g (lw_at lw_m8 61 rfl) rfl
theorem q1849 : (Jvm.Cond.interfaceEntry "BrambleLogic$Heights" (107 : Nat)) ∈ lw_tbl := lw_at lw_m8 62 rfl
theorem q1850 : (Jvm.Cond.methodLink "BrambleLogic$Heights" (107 : Nat) ({ cls := "java/util/List", name := "get", desc := "(I)Ljava/lang/Object;" } : Jvm.MethodName)) ∈ lw_all := lw_g (lw_at lw_m8 63 rfl) rfl
theorem q1851 : (Jvm.Cond.classLink "BrambleLogic$Heights" (115 : Nat) "BrambleLogic$Heights$First") ∈ lw_all := lw_g (lw_at lw_m8 64 rfl) rfl
theorem q1853 : (Jvm.Cond.methodLink "BrambleLogic$Heights" (117 : Nat) ({ cls := "BrambleLogic$Heights$First", name := "<init>", desc := "(LBrambleLogic$Heights;II)V" } : Jvm.MethodName)) ∈ lw_all := lw_g (lw_at lw_m8 66 rfl) rfl
theorem q1860 : (Jvm.Cond.fieldLinkNest "BrambleLogic$Heights" (127 : Nat) "BrambleLogic$Heights$First" "found" "[I" "BrambleLogic") ∈ lw_tbl := lw_at lw_m8 73 rfl
theorem q1862 : (Jvm.Cond.fieldLinkNest "BrambleLogic$Heights" (121 : Nat) "BrambleLogic$Heights$First" "isFound" "Z" "BrambleLogic") ∈ lw_tbl := lw_at lw_m8 75 rfl
theorem q1875 : (Jvm.Cond.methodLink "BrambleLogic$Heights" (120 : Nat) ({ cls := "BrambleLogic$Heights$First", name := "take", desc := "(LBrambleLogic$Rule;LBrambleLogic$Facts;)V" } : Jvm.MethodName)) ∈ lw_all := lw_g (lw_at lw_m8 88 rfl) rfl
theorem q1878 : (Jvm.Cond.classLink "BrambleLogic$Heights" (125 : Nat) "BrambleLogic$Step") ∈ lw_all := lw_g (lw_at lw_m8 91 rfl) rfl
theorem q1880 : (Jvm.Cond.methodLink "BrambleLogic$Heights" (131 : Nat) ({ cls := "BrambleLogic$Step", name := "<init>", desc := "(ILBrambleLogic$Rule;[I)V" } : Jvm.MethodName)) ∈ lw_all := lw_g (lw_at lw_m8 93 rfl) rfl
theorem q1887 : (Jvm.Cond.fieldLinkNest "BrambleLogic$Heights" (138 : Nat) "BrambleLogic$Step" "rule" "LBrambleLogic$Rule;" "BrambleLogic") ∈ lw_tbl := lw_at lw_m8 100 rfl
theorem q1889 : (Jvm.Cond.fieldLinkNest "BrambleLogic$Heights" (144 : Nat) "BrambleLogic$Step" "values" "[I" "BrambleLogic") ∈ lw_tbl := lw_at lw_m8 102 rfl
theorem q1907 : (Jvm.Cond.instanceMethod ({ cls := "BrambleLogic$Heights", name := "size", desc := "(II[[J)J" } : Jvm.MethodName)) ∈ lw_all := lw_g (lw_at lw_m8 120 rfl) rfl
theorem q1908 : (Jvm.Cond.selects "BrambleLogic$Heights" ({ cls := "BrambleLogic$Heights", name := "size", desc := "(II[[J)J" } : Jvm.MethodName) ({ cls := "BrambleLogic$Heights", name := "size", desc := "(II[[J)J" } : Jvm.MethodName)) ∈ lw_all := lw_g (lw_at lw_m8 121 rfl) rfl
theorem q1909 : (Jvm.Cond.code ({ cls := "BrambleLogic$Heights", name := "size", desc := "(II[[J)J" } : Jvm.MethodName) prog_12_method_11_code (9 : Nat) (Option.some Jvm.ClassFile.FieldType.long)) ∈ lw_all := lw_g (lw_at lw_m8 122 rfl) rfl
theorem q1910 : (Jvm.Cond.methodLink "BrambleLogic$Heights" (134 : Nat) ({ cls := "BrambleLogic$Heights", name := "step", desc := "(II)LBrambleLogic$Step;" } : Jvm.MethodName)) ∈ lw_all := lw_g (lw_at lw_m8 123 rfl) rfl
theorem q1911 : (Jvm.Cond.constantLong "BrambleLogic$Heights" (142 : Nat) (1000000000 : Int64)) ∈ lw_all := lw_g (lw_at lw_m8 124 rfl) rfl
theorem q1912 : (Jvm.Cond.methodLink "BrambleLogic$Heights" (147 : Nat) ({ cls := "BrambleLogic$Heights", name := "size", desc := "(II[[J)J" } : Jvm.MethodName)) ∈ lw_all := lw_g (lw_at lw_m8 125 rfl) rfl
theorem q1913 : (Jvm.Cond.methodLink "BrambleLogic$Heights" (150 : Nat) ({ cls := "java/lang/Math", name := "min", desc := "(JJ)J" } : Jvm.MethodName)) ∈ lw_all := lw_g (lw_at lw_m8 126 rfl) rfl
theorem q2130 : (Jvm.Cond.instanceMethod ({ cls := "BrambleLogic$Heights", name := "sumOfTrue", desc := "()I" } : Jvm.MethodName)) ∈ lw_all := lw_g (lw_at lw_m9 103 rfl) rfl
theorem q2131 : (Jvm.Cond.selects "BrambleLogic$Heights" ({ cls := "BrambleLogic$Heights", name := "sumOfTrue", desc := "()I" } : Jvm.MethodName) ({ cls := "BrambleLogic$Heights", name := "sumOfTrue", desc := "()I" } : Jvm.MethodName)) ∈ lw_all := lw_g (lw_at lw_m9 104 rfl) rfl
theorem q2132 : (Jvm.Cond.code ({ cls := "BrambleLogic$Heights", name := "sumOfTrue", desc := "()I" } : Jvm.MethodName) prog_12_method_8_code (4 : Nat) (Option.some Jvm.ClassFile.FieldType.int)) ∈ lw_all := lw_g (lw_at lw_m9 105 rfl) rfl
theorem q2365 : (Jvm.Cond.fieldLinkNest "BrambleLogic$Heights" (56 : Nat) "BrambleLogic$Atom" "predicate" "I" "BrambleLogic") ∈ lw_tbl := lw_at lw_m10 98 rfl
theorem q2501 : (Jvm.Cond.fieldLinkNest "BrambleLogic$Heights" (111 : Nat) "BrambleLogic$Rule" "head" "LBrambleLogic$Atom;" "BrambleLogic") ∈ lw_tbl := lw_at lw_m10 234 rfl
theorem q2507 : (Jvm.Cond.fieldLinkNest "BrambleLogic$Heights" (32 : Nat) "BrambleLogic$Rule" "premises" "Ljava/util/List;" "BrambleLogic") ∈ lw_tbl := lw_at lw_m11 0 rfl
theorem q3385 : (Jvm.Cond.castable "BrambleLogic$Heights" "java/lang/Object") ∈ lw_tbl := lw_at lw_m14 158 rfl
theorem in_X12 : ∀ w ∈ wsX120, w ∈ lw_all := lw_in wsX120 [1003, 1005] (by decide +kernel) (by decide +kernel)
/-! BrambleLogic$Heights$1 -/
set_option maxRecDepth 100000
def RX13 : String := "BrambleLogic$Heights$1"
def TX13 : u_T := fun k => match k with
  | _ => ("BrambleLogic$Heights$1", "this$0", "LBrambleLogic$Heights;", true)
def tyX13 : Nat → FieldType := fun k => match k with
  | _ => .object "BrambleLogic$Heights"
abbrev wsX130 : List Cond := u_ws RX13 TX13 1
theorem nmX13 : ∀ a, a < 1 → ∀ b, b < 1 → a ≠ b → (TX13 a).2.1 ≠ (TX13 b).2.1 := by decide +kernel
theorem tyX13_ok : ∀ k, k < 1 → parseFieldDescriptor (TX13 k).2.2.1 = some (tyX13 k) := by decide +kernel
abbrev cX13_meet : ByteArray := prog_13_method_2_code
def yX13_meet : MethodName := ⟨RX13, "meet", "(LBrambleLogic$Rule;[I)V"⟩
def dkwX13_meet_1 : List UInt8 := [58, 4, 25, 4, 29, 25, 4, 29, 46, 42, 180, 0, 1, 43, 44, 182, 0, 35, 184, 0, 39, 79, 177]
abbrev dktX13_meet_1 : List UInt8 := dkwX13_meet_1 ++ []
def dkwX13_meet_0 : List UInt8 := [43, 180, 0, 13, 44, 182, 0, 19, 62, 42, 180, 0, 1, 180, 0, 25, 43, 180, 0, 13, 180, 0, 31, 50]
abbrev dktX13_meet_0 : List UInt8 := dkwX13_meet_0 ++ dktX13_meet_1
theorem dksX13_meet_0 : cX13_meet.data.toList.drop 0 = dktX13_meet_0 := by decide +kernel
theorem dksX13_meet_1 : cX13_meet.data.toList.drop 24 = dktX13_meet_1 := dk_seg dksX13_meet_0 24 rfl rfl
theorem dX13_meet_0 : decode cX13_meet 0 = .ok (.aload_n 1, 1) := dk_43 (dk_at dksX13_meet_0 0 rfl rfl)
theorem dX13_meet_1 : decode cX13_meet 1 = .ok (.getfield 13, 3) := dk_180 0 13 (dk_at dksX13_meet_0 1 rfl rfl)
theorem dX13_meet_4 : decode cX13_meet 4 = .ok (.aload_n 2, 1) := dk_44 (dk_at dksX13_meet_0 4 rfl rfl)
theorem dX13_meet_5 : decode cX13_meet 5 = .ok (.invokevirtual 19, 3) := dk_182 0 19 (dk_at dksX13_meet_0 5 rfl rfl)
theorem dX13_meet_8 : decode cX13_meet 8 = .ok (.istore_n 3, 1) := dk_62 (dk_at dksX13_meet_0 8 rfl rfl)
theorem dX13_meet_9 : decode cX13_meet 9 = .ok (.aload_n 0, 1) := dk_42 (dk_at dksX13_meet_0 9 rfl rfl)
theorem dX13_meet_10 : decode cX13_meet 10 = .ok (.getfield 1, 3) := dk_180 0 1 (dk_at dksX13_meet_0 10 rfl rfl)
theorem dX13_meet_13 : decode cX13_meet 13 = .ok (.getfield 25, 3) := dk_180 0 25 (dk_at dksX13_meet_0 13 rfl rfl)
theorem dX13_meet_16 : decode cX13_meet 16 = .ok (.aload_n 1, 1) := dk_43 (dk_at dksX13_meet_0 16 rfl rfl)
theorem dX13_meet_17 : decode cX13_meet 17 = .ok (.getfield 13, 3) := dk_180 0 13 (dk_at dksX13_meet_0 17 rfl rfl)
theorem dX13_meet_20 : decode cX13_meet 20 = .ok (.getfield 31, 3) := dk_180 0 31 (dk_at dksX13_meet_0 20 rfl rfl)
theorem dX13_meet_23 : decode cX13_meet 23 = .ok (.aaload, 1) := dk_50 (dk_at dksX13_meet_0 23 rfl rfl)
theorem dX13_meet_24 : decode cX13_meet 24 = .ok (.astore 4, 2) := dk_58 4 (dk_at dksX13_meet_1 0 rfl rfl)
theorem dX13_meet_26 : decode cX13_meet 26 = .ok (.aload 4, 2) := dk_25 4 (dk_at dksX13_meet_1 2 rfl rfl)
theorem dX13_meet_28 : decode cX13_meet 28 = .ok (.iload_n 3, 1) := dk_29 (dk_at dksX13_meet_1 4 rfl rfl)
theorem dX13_meet_29 : decode cX13_meet 29 = .ok (.aload 4, 2) := dk_25 4 (dk_at dksX13_meet_1 5 rfl rfl)
theorem dX13_meet_31 : decode cX13_meet 31 = .ok (.iload_n 3, 1) := dk_29 (dk_at dksX13_meet_1 7 rfl rfl)
theorem dX13_meet_32 : decode cX13_meet 32 = .ok (.iaload, 1) := dk_46 (dk_at dksX13_meet_1 8 rfl rfl)
theorem dX13_meet_33 : decode cX13_meet 33 = .ok (.aload_n 0, 1) := dk_42 (dk_at dksX13_meet_1 9 rfl rfl)
theorem dX13_meet_34 : decode cX13_meet 34 = .ok (.getfield 1, 3) := dk_180 0 1 (dk_at dksX13_meet_1 10 rfl rfl)
theorem dX13_meet_37 : decode cX13_meet 37 = .ok (.aload_n 1, 1) := dk_43 (dk_at dksX13_meet_1 13 rfl rfl)
theorem dX13_meet_38 : decode cX13_meet 38 = .ok (.aload_n 2, 1) := dk_44 (dk_at dksX13_meet_1 14 rfl rfl)
theorem dX13_meet_39 : decode cX13_meet 39 = .ok (.invokevirtual 35, 3) := dk_182 0 35 (dk_at dksX13_meet_1 15 rfl rfl)
theorem dX13_meet_42 : decode cX13_meet 42 = .ok (.invokestatic 39, 3) := dk_184 0 39 (dk_at dksX13_meet_1 18 rfl rfl)
theorem dX13_meet_45 : decode cX13_meet 45 = .ok (.iastore, 1) := dk_79 (dk_at dksX13_meet_1 21 rfl rfl)
theorem dX13_meet_46 : decode cX13_meet 46 = .ok (.return_, 1) := dk_177 (dk_at dksX13_meet_1 22 rfl rfl)
abbrev cX13_init : ByteArray := prog_13_method_1_code
def yX13_init : MethodName := ⟨RX13, "<init>", "(LBrambleLogic$Heights;)V"⟩
def dkwX13_init_0 : List UInt8 := [42, 43, 181, 0, 1, 42, 183, 0, 7, 177]
abbrev dktX13_init_0 : List UInt8 := dkwX13_init_0 ++ []
theorem dksX13_init_0 : cX13_init.data.toList.drop 0 = dktX13_init_0 := by decide +kernel
theorem dX13_init_0 : decode cX13_init 0 = .ok (.aload_n 0, 1) := dk_42 (dk_at dksX13_init_0 0 rfl rfl)
theorem dX13_init_1 : decode cX13_init 1 = .ok (.aload_n 1, 1) := dk_43 (dk_at dksX13_init_0 1 rfl rfl)
theorem dX13_init_2 : decode cX13_init 2 = .ok (.putfield 1, 3) := dk_181 0 1 (dk_at dksX13_init_0 2 rfl rfl)
theorem dX13_init_5 : decode cX13_init 5 = .ok (.aload_n 0, 1) := dk_42 (dk_at dksX13_init_0 5 rfl rfl)
theorem dX13_init_6 : decode cX13_init 6 = .ok (.invokespecial 7, 3) := dk_183 0 7 (dk_at dksX13_init_0 6 rfl rfl)
theorem dX13_init_9 : decode cX13_init 9 = .ok (.return_, 1) := dk_177 (dk_at dksX13_init_0 9 rfl rfl)
theorem q149 : (Jvm.Cond.initialized "BrambleLogic$Heights$1") ∈ lw_all := lw_g (lw_at lw_m1 42 rfl) rfl
theorem q704 : (Jvm.Cond.selects "BrambleLogic$Heights$1" ({ cls := "java/lang/Object", name := "getClass", desc := "()Ljava/lang/Class;" } : Jvm.MethodName) ({ cls := "java/lang/Object", name := "getClass", desc := "()Ljava/lang/Class;" } : Jvm.MethodName)) ∈ lw_all := lw_g (lw_at lw_m3 117 rfl) rfl
theorem q945 : (Jvm.Cond.selects "BrambleLogic$Heights$1" ({ cls := "BrambleLogic$Steps", name := "meet", desc := "(LBrambleLogic$Rule;[I)V" } : Jvm.MethodName) ({ cls := "BrambleLogic$Heights$1", name := "meet", desc := "(LBrambleLogic$Rule;[I)V" } : Jvm.MethodName)) ∈ lw_all := lw_g (lw_at lw_m4 118 rfl) rfl
theorem q946 : (Jvm.Cond.instanceMethod ({ cls := "BrambleLogic$Heights$1", name := "meet", desc := "(LBrambleLogic$Rule;[I)V" } : Jvm.MethodName)) ∈ lw_all := lw_g (lw_at lw_m4 119 rfl) rfl
theorem q947 : (Jvm.Cond.code ({ cls := "BrambleLogic$Heights$1", name := "meet", desc := "(LBrambleLogic$Rule;[I)V" } : Jvm.MethodName) prog_13_method_2_code (5 : Nat) (Option.none : Option Jvm.ClassFile.FieldType)) ∈ lw_all := lw_g (lw_at lw_m4 120 rfl) rfl
theorem q948 : (Jvm.Cond.methodLink "BrambleLogic$Heights$1" (19 : Nat) ({ cls := "BrambleLogic$Atom", name := "code", desc := "([I)I" } : Jvm.MethodName)) ∈ lw_all := lw_g (lw_at lw_m4 121 rfl) rfl
theorem q949 : (Jvm.Cond.methodLinkNest "BrambleLogic$Heights$1" (35 : Nat) ({ cls := "BrambleLogic$Heights", name := "heightBy", desc := "(LBrambleLogic$Rule;[I)I" } : Jvm.MethodName) "BrambleLogic") ∈ lw_tbl := lw_at lw_m4 122 rfl
theorem q963 : (Jvm.Cond.methodLink "BrambleLogic$Heights$1" (39 : Nat) ({ cls := "java/lang/Math", name := "min", desc := "(II)I" } : Jvm.MethodName)) ∈ lw_all := lw_g (lw_at lw_m4 136 rfl) rfl
theorem q1000 : (Jvm.Cond.fieldLinkNest "BrambleLogic$Heights$1" (25 : Nat) "BrambleLogic$Heights" "heights" "[[I" "BrambleLogic") ∈ lw_tbl := lw_at lw_m4 173 rfl
theorem q1017 : (Jvm.Cond.instantiable "BrambleLogic$Heights$1" (1 : Nat)) ∈ lw_all := lw_g (lw_at lw_m4 190 rfl) rfl
theorem q1019 : (Jvm.Cond.instanceMethod ({ cls := "BrambleLogic$Heights$1", name := "<init>", desc := "(LBrambleLogic$Heights;)V" } : Jvm.MethodName)) ∈ lw_all := lw_g (lw_at lw_m4 192 rfl) rfl
theorem q1020 : (Jvm.Cond.code ({ cls := "BrambleLogic$Heights$1", name := "<init>", desc := "(LBrambleLogic$Heights;)V" } : Jvm.MethodName) prog_13_method_1_code (2 : Nat) (Option.none : Option Jvm.ClassFile.FieldType)) ∈ lw_all := lw_g (lw_at lw_m4 193 rfl) rfl
theorem q1021 : (Jvm.Cond.methodLinkNest "BrambleLogic$Heights$1" (7 : Nat) ({ cls := "BrambleLogic$Steps", name := "<init>", desc := "()V" } : Jvm.MethodName) "BrambleLogic") ∈ lw_tbl := lw_at lw_m4 194 rfl
theorem q1022 : (Jvm.Cond.fieldLink "BrambleLogic$Heights$1" (1 : Nat) "BrambleLogic$Heights$1" "this$0" "LBrambleLogic$Heights;") ∈ lw_all := lw_g (lw_at lw_m4 195 rfl) rfl
theorem q1023 : (Jvm.Cond.laysFinal "BrambleLogic$Heights$1" "BrambleLogic$Heights$1" "this$0" "LBrambleLogic$Heights;") ∈ lw_all := lw_g (lw_at lw_m4 196 rfl) rfl
theorem q1024 : (Jvm.Cond.soleField "BrambleLogic$Heights$1" "this$0") ∈ lw_all := lw_g (lw_at lw_m4 197 rfl) rfl
theorem q1025 : (Jvm.Cond.superclass "BrambleLogic$Heights$1" "BrambleLogic$Steps") ∈ lw_all := lw_g (lw_at lw_m4 198 rfl) rfl
theorem q2363 : (Jvm.Cond.fieldLinkNest "BrambleLogic$Heights$1" (31 : Nat) "BrambleLogic$Atom" "predicate" "I" "BrambleLogic") ∈ lw_tbl := lw_at lw_m10 96 rfl
theorem q2495 : (Jvm.Cond.fieldLinkNest "BrambleLogic$Heights$1" (13 : Nat) "BrambleLogic$Rule" "head" "LBrambleLogic$Atom;" "BrambleLogic") ∈ lw_tbl := lw_at lw_m10 228 rfl
theorem q3344 : (Jvm.Cond.selects "BrambleLogic$Heights$1" ({ cls := "BrambleLogic$Steps", name := "take", desc := "(LBrambleLogic$Rule;LBrambleLogic$Facts;)V" } : Jvm.MethodName) ({ cls := "BrambleLogic$Steps", name := "take", desc := "(LBrambleLogic$Rule;LBrambleLogic$Facts;)V" } : Jvm.MethodName)) ∈ lw_all := lw_g (lw_at lw_m14 117 rfl) rfl
theorem q3386 : (Jvm.Cond.castable "BrambleLogic$Heights$1" "java/lang/Object") ∈ lw_tbl := lw_at lw_m14 159 rfl
theorem in_X13 : ∀ w ∈ wsX130, w ∈ lw_all := lw_in wsX130 [1023] (by decide +kernel) (by decide +kernel)
/-! BrambleLogic$Heights$2 -/
set_option maxRecDepth 100000
def RX14 : String := "BrambleLogic$Heights$2"
def TX14 : u_T := fun k => match k with
  | 0 => ("BrambleLogic$Heights$2", "val$height", "I", true)
  | _ => ("BrambleLogic$Heights$2", "this$0", "LBrambleLogic$Heights;", true)
def tyX14 : Nat → FieldType := fun k => match k with
  | 0 => .int
  | _ => .object "BrambleLogic$Heights"
abbrev wsX140 : List Cond := u_ws RX14 TX14 2
theorem nmX14 : ∀ a, a < 2 → ∀ b, b < 2 → a ≠ b → (TX14 a).2.1 ≠ (TX14 b).2.1 := by decide +kernel
theorem tyX14_ok : ∀ k, k < 2 → parseFieldDescriptor (TX14 k).2.2.1 = some (tyX14 k) := by decide +kernel
abbrev cX14_meet : ByteArray := prog_14_method_2_code
def yX14_meet : MethodName := ⟨RX14, "meet", "(LBrambleLogic$Rule;[I)V"⟩
def dkwX14_meet_2 : List UInt8 := [42, 180, 0, 9, 163, 0, 10, 42, 180, 0, 9, 167, 0, 7, 25, 4, 29, 46, 79, 177]
abbrev dktX14_meet_2 : List UInt8 := dkwX14_meet_2 ++ []
def dkwX14_meet_1 : List UInt8 := [58, 4, 25, 4, 29, 25, 4, 29, 46, 17, 3, 232, 160, 0, 26, 42, 180, 0, 3, 43, 44, 182, 0, 40]
abbrev dktX14_meet_1 : List UInt8 := dkwX14_meet_1 ++ dktX14_meet_2
def dkwX14_meet_0 : List UInt8 := [43, 180, 0, 19, 44, 182, 0, 25, 62, 42, 180, 0, 3, 180, 0, 31, 43, 180, 0, 19, 180, 0, 37, 50]
abbrev dktX14_meet_0 : List UInt8 := dkwX14_meet_0 ++ dktX14_meet_1
theorem dksX14_meet_0 : cX14_meet.data.toList.drop 0 = dktX14_meet_0 := by decide +kernel
theorem dksX14_meet_1 : cX14_meet.data.toList.drop 24 = dktX14_meet_1 := dk_seg dksX14_meet_0 24 rfl rfl
theorem dksX14_meet_2 : cX14_meet.data.toList.drop 48 = dktX14_meet_2 := dk_seg dksX14_meet_1 24 rfl rfl
theorem dX14_meet_0 : decode cX14_meet 0 = .ok (.aload_n 1, 1) := dk_43 (dk_at dksX14_meet_0 0 rfl rfl)
theorem dX14_meet_1 : decode cX14_meet 1 = .ok (.getfield 19, 3) := dk_180 0 19 (dk_at dksX14_meet_0 1 rfl rfl)
theorem dX14_meet_4 : decode cX14_meet 4 = .ok (.aload_n 2, 1) := dk_44 (dk_at dksX14_meet_0 4 rfl rfl)
theorem dX14_meet_5 : decode cX14_meet 5 = .ok (.invokevirtual 25, 3) := dk_182 0 25 (dk_at dksX14_meet_0 5 rfl rfl)
theorem dX14_meet_8 : decode cX14_meet 8 = .ok (.istore_n 3, 1) := dk_62 (dk_at dksX14_meet_0 8 rfl rfl)
theorem dX14_meet_9 : decode cX14_meet 9 = .ok (.aload_n 0, 1) := dk_42 (dk_at dksX14_meet_0 9 rfl rfl)
theorem dX14_meet_10 : decode cX14_meet 10 = .ok (.getfield 3, 3) := dk_180 0 3 (dk_at dksX14_meet_0 10 rfl rfl)
theorem dX14_meet_13 : decode cX14_meet 13 = .ok (.getfield 31, 3) := dk_180 0 31 (dk_at dksX14_meet_0 13 rfl rfl)
theorem dX14_meet_16 : decode cX14_meet 16 = .ok (.aload_n 1, 1) := dk_43 (dk_at dksX14_meet_0 16 rfl rfl)
theorem dX14_meet_17 : decode cX14_meet 17 = .ok (.getfield 19, 3) := dk_180 0 19 (dk_at dksX14_meet_0 17 rfl rfl)
theorem dX14_meet_20 : decode cX14_meet 20 = .ok (.getfield 37, 3) := dk_180 0 37 (dk_at dksX14_meet_0 20 rfl rfl)
theorem dX14_meet_23 : decode cX14_meet 23 = .ok (.aaload, 1) := dk_50 (dk_at dksX14_meet_0 23 rfl rfl)
theorem dX14_meet_24 : decode cX14_meet 24 = .ok (.astore 4, 2) := dk_58 4 (dk_at dksX14_meet_1 0 rfl rfl)
theorem dX14_meet_26 : decode cX14_meet 26 = .ok (.aload 4, 2) := dk_25 4 (dk_at dksX14_meet_1 2 rfl rfl)
theorem dX14_meet_28 : decode cX14_meet 28 = .ok (.iload_n 3, 1) := dk_29 (dk_at dksX14_meet_1 4 rfl rfl)
theorem dX14_meet_29 : decode cX14_meet 29 = .ok (.aload 4, 2) := dk_25 4 (dk_at dksX14_meet_1 5 rfl rfl)
theorem dX14_meet_31 : decode cX14_meet 31 = .ok (.iload_n 3, 1) := dk_29 (dk_at dksX14_meet_1 7 rfl rfl)
theorem dX14_meet_32 : decode cX14_meet 32 = .ok (.iaload, 1) := dk_46 (dk_at dksX14_meet_1 8 rfl rfl)
theorem dX14_meet_33 : decode cX14_meet 33 = .ok (.sipush 1000, 3) := dk_17 3 232 (dk_at dksX14_meet_1 9 rfl rfl)
theorem dX14_meet_36 : decode cX14_meet 36 = .ok (.if_icmp .ne 26, 3) := dk_160 0 26 (dk_at dksX14_meet_1 12 rfl rfl)
theorem dX14_meet_39 : decode cX14_meet 39 = .ok (.aload_n 0, 1) := dk_42 (dk_at dksX14_meet_1 15 rfl rfl)
theorem dX14_meet_40 : decode cX14_meet 40 = .ok (.getfield 3, 3) := dk_180 0 3 (dk_at dksX14_meet_1 16 rfl rfl)
theorem dX14_meet_43 : decode cX14_meet 43 = .ok (.aload_n 1, 1) := dk_43 (dk_at dksX14_meet_1 19 rfl rfl)
theorem dX14_meet_44 : decode cX14_meet 44 = .ok (.aload_n 2, 1) := dk_44 (dk_at dksX14_meet_1 20 rfl rfl)
theorem dX14_meet_45 : decode cX14_meet 45 = .ok (.invokevirtual 40, 3) := dk_182 0 40 (dk_at dksX14_meet_1 21 rfl rfl)
theorem dX14_meet_48 : decode cX14_meet 48 = .ok (.aload_n 0, 1) := dk_42 (dk_at dksX14_meet_2 0 rfl rfl)
theorem dX14_meet_49 : decode cX14_meet 49 = .ok (.getfield 9, 3) := dk_180 0 9 (dk_at dksX14_meet_2 1 rfl rfl)
theorem dX14_meet_52 : decode cX14_meet 52 = .ok (.if_icmp .gt 10, 3) := dk_163 0 10 (dk_at dksX14_meet_2 4 rfl rfl)
theorem dX14_meet_55 : decode cX14_meet 55 = .ok (.aload_n 0, 1) := dk_42 (dk_at dksX14_meet_2 7 rfl rfl)
theorem dX14_meet_56 : decode cX14_meet 56 = .ok (.getfield 9, 3) := dk_180 0 9 (dk_at dksX14_meet_2 8 rfl rfl)
theorem dX14_meet_59 : decode cX14_meet 59 = .ok (.goto 7, 3) := dk_167 0 7 (dk_at dksX14_meet_2 11 rfl rfl)
theorem dX14_meet_62 : decode cX14_meet 62 = .ok (.aload 4, 2) := dk_25 4 (dk_at dksX14_meet_2 14 rfl rfl)
theorem dX14_meet_64 : decode cX14_meet 64 = .ok (.iload_n 3, 1) := dk_29 (dk_at dksX14_meet_2 16 rfl rfl)
theorem dX14_meet_65 : decode cX14_meet 65 = .ok (.iaload, 1) := dk_46 (dk_at dksX14_meet_2 17 rfl rfl)
theorem dX14_meet_66 : decode cX14_meet 66 = .ok (.iastore, 1) := dk_79 (dk_at dksX14_meet_2 18 rfl rfl)
theorem dX14_meet_67 : decode cX14_meet 67 = .ok (.return_, 1) := dk_177 (dk_at dksX14_meet_2 19 rfl rfl)
abbrev cX14_init : ByteArray := prog_14_method_1_code
def yX14_init : MethodName := ⟨RX14, "<init>", "(LBrambleLogic$Heights;I)V"⟩
def dkwX14_init_0 : List UInt8 := [42, 43, 181, 0, 3, 42, 28, 181, 0, 9, 42, 183, 0, 13, 177]
abbrev dktX14_init_0 : List UInt8 := dkwX14_init_0 ++ []
theorem dksX14_init_0 : cX14_init.data.toList.drop 0 = dktX14_init_0 := by decide +kernel
theorem dX14_init_0 : decode cX14_init 0 = .ok (.aload_n 0, 1) := dk_42 (dk_at dksX14_init_0 0 rfl rfl)
theorem dX14_init_1 : decode cX14_init 1 = .ok (.aload_n 1, 1) := dk_43 (dk_at dksX14_init_0 1 rfl rfl)
theorem dX14_init_2 : decode cX14_init 2 = .ok (.putfield 3, 3) := dk_181 0 3 (dk_at dksX14_init_0 2 rfl rfl)
theorem dX14_init_5 : decode cX14_init 5 = .ok (.aload_n 0, 1) := dk_42 (dk_at dksX14_init_0 5 rfl rfl)
theorem dX14_init_6 : decode cX14_init 6 = .ok (.iload_n 2, 1) := dk_28 (dk_at dksX14_init_0 6 rfl rfl)
theorem dX14_init_7 : decode cX14_init 7 = .ok (.putfield 9, 3) := dk_181 0 9 (dk_at dksX14_init_0 7 rfl rfl)
theorem dX14_init_10 : decode cX14_init 10 = .ok (.aload_n 0, 1) := dk_42 (dk_at dksX14_init_0 10 rfl rfl)
theorem dX14_init_11 : decode cX14_init 11 = .ok (.invokespecial 13, 3) := dk_183 0 13 (dk_at dksX14_init_0 11 rfl rfl)
theorem dX14_init_14 : decode cX14_init 14 = .ok (.return_, 1) := dk_177 (dk_at dksX14_init_0 14 rfl rfl)
theorem q150 : (Jvm.Cond.initialized "BrambleLogic$Heights$2") ∈ lw_all := lw_g (lw_at lw_m1 43 rfl) rfl
theorem q705 : (Jvm.Cond.selects "BrambleLogic$Heights$2" ({ cls := "java/lang/Object", name := "getClass", desc := "()Ljava/lang/Class;" } : Jvm.MethodName) ({ cls := "java/lang/Object", name := "getClass", desc := "()Ljava/lang/Class;" } : Jvm.MethodName)) ∈ lw_all := lw_g (lw_at lw_m3 118 rfl) rfl
theorem q964 : (Jvm.Cond.selects "BrambleLogic$Heights$2" ({ cls := "BrambleLogic$Steps", name := "meet", desc := "(LBrambleLogic$Rule;[I)V" } : Jvm.MethodName) ({ cls := "BrambleLogic$Heights$2", name := "meet", desc := "(LBrambleLogic$Rule;[I)V" } : Jvm.MethodName)) ∈ lw_all := lw_g (lw_at lw_m4 137 rfl) rfl
theorem q965 : (Jvm.Cond.instanceMethod ({ cls := "BrambleLogic$Heights$2", name := "meet", desc := "(LBrambleLogic$Rule;[I)V" } : Jvm.MethodName)) ∈ lw_all := lw_g (lw_at lw_m4 138 rfl) rfl
theorem q966 : (Jvm.Cond.code ({ cls := "BrambleLogic$Heights$2", name := "meet", desc := "(LBrambleLogic$Rule;[I)V" } : Jvm.MethodName) prog_14_method_2_code (5 : Nat) (Option.none : Option Jvm.ClassFile.FieldType)) ∈ lw_all := lw_g (lw_at lw_m4 139 rfl) rfl
theorem q967 : (Jvm.Cond.methodLink "BrambleLogic$Heights$2" (25 : Nat) ({ cls := "BrambleLogic$Atom", name := "code", desc := "([I)I" } : Jvm.MethodName)) ∈ lw_all := lw_g (lw_at lw_m4 140 rfl) rfl
theorem q968 : (Jvm.Cond.methodLinkNest "BrambleLogic$Heights$2" (40 : Nat) ({ cls := "BrambleLogic$Heights", name := "heightBy", desc := "(LBrambleLogic$Rule;[I)I" } : Jvm.MethodName) "BrambleLogic") ∈ lw_tbl := lw_at lw_m4 141 rfl
theorem q1001 : (Jvm.Cond.fieldLinkNest "BrambleLogic$Heights$2" (31 : Nat) "BrambleLogic$Heights" "heights" "[[I" "BrambleLogic") ∈ lw_tbl := lw_at lw_m4 174 rfl
theorem q1042 : (Jvm.Cond.instantiable "BrambleLogic$Heights$2" (2 : Nat)) ∈ lw_all := lw_g (lw_at lw_m4 215 rfl) rfl
theorem q1044 : (Jvm.Cond.instanceMethod ({ cls := "BrambleLogic$Heights$2", name := "<init>", desc := "(LBrambleLogic$Heights;I)V" } : Jvm.MethodName)) ∈ lw_all := lw_g (lw_at lw_m4 217 rfl) rfl
theorem q1045 : (Jvm.Cond.code ({ cls := "BrambleLogic$Heights$2", name := "<init>", desc := "(LBrambleLogic$Heights;I)V" } : Jvm.MethodName) prog_14_method_1_code (3 : Nat) (Option.none : Option Jvm.ClassFile.FieldType)) ∈ lw_all := lw_g (lw_at lw_m4 218 rfl) rfl
theorem q1046 : (Jvm.Cond.methodLinkNest "BrambleLogic$Heights$2" (13 : Nat) ({ cls := "BrambleLogic$Steps", name := "<init>", desc := "()V" } : Jvm.MethodName) "BrambleLogic") ∈ lw_tbl := lw_at lw_m4 219 rfl
theorem q1047 : (Jvm.Cond.fieldLink "BrambleLogic$Heights$2" (9 : Nat) "BrambleLogic$Heights$2" "val$height" "I") ∈ lw_all := lw_g (lw_at lw_m4 220 rfl) rfl
theorem q1048 : (Jvm.Cond.fieldLink "BrambleLogic$Heights$2" (3 : Nat) "BrambleLogic$Heights$2" "this$0" "LBrambleLogic$Heights;") ∈ lw_all := lw_g (lw_at lw_m4 221 rfl) rfl
theorem q1049 : (Jvm.Cond.laysFinal "BrambleLogic$Heights$2" "BrambleLogic$Heights$2" "val$height" "I") ∈ lw_all := lw_g (lw_at lw_m4 222 rfl) rfl
theorem q1050 : (Jvm.Cond.soleField "BrambleLogic$Heights$2" "val$height") ∈ lw_all := lw_g (lw_at lw_m4 223 rfl) rfl
theorem q1051 : (Jvm.Cond.laysFinal "BrambleLogic$Heights$2" "BrambleLogic$Heights$2" "this$0" "LBrambleLogic$Heights;") ∈ lw_all := lw_g (lw_at lw_m4 224 rfl) rfl
theorem q1052 : (Jvm.Cond.soleField "BrambleLogic$Heights$2" "this$0") ∈ lw_all := lw_g (lw_at lw_m4 225 rfl) rfl
theorem q1053 : (Jvm.Cond.superclass "BrambleLogic$Heights$2" "BrambleLogic$Steps") ∈ lw_all := lw_g (lw_at lw_m4 226 rfl) rfl
theorem q2364 : (Jvm.Cond.fieldLinkNest "BrambleLogic$Heights$2" (37 : Nat) "BrambleLogic$Atom" "predicate" "I" "BrambleLogic") ∈ lw_tbl := lw_at lw_m10 97 rfl
theorem q2496 : (Jvm.Cond.fieldLinkNest "BrambleLogic$Heights$2" (19 : Nat) "BrambleLogic$Rule" "head" "LBrambleLogic$Atom;" "BrambleLogic") ∈ lw_tbl := lw_at lw_m10 229 rfl
theorem q3345 : (Jvm.Cond.selects "BrambleLogic$Heights$2" ({ cls := "BrambleLogic$Steps", name := "take", desc := "(LBrambleLogic$Rule;LBrambleLogic$Facts;)V" } : Jvm.MethodName) ({ cls := "BrambleLogic$Steps", name := "take", desc := "(LBrambleLogic$Rule;LBrambleLogic$Facts;)V" } : Jvm.MethodName)) ∈ lw_all := lw_g (lw_at lw_m14 118 rfl) rfl
theorem q3387 : (Jvm.Cond.castable "BrambleLogic$Heights$2" "java/lang/Object") ∈ lw_tbl := lw_at lw_m14 160 rfl
theorem in_X14 : ∀ w ∈ wsX140, w ∈ lw_all := lw_in wsX140 [1049, 1051] (by decide +kernel) (by decide +kernel)
/-! BrambleLogic$Heights$First -/
set_option maxRecDepth 100000
def RX15 : String := "BrambleLogic$Heights$First"
def TX15 : u_T := fun k => match k with
  | 0 => ("BrambleLogic$Heights$First", "height", "I", true)
  | 1 => ("BrambleLogic$Heights$First", "code", "I", true)
  | 2 => ("BrambleLogic$Heights$First", "found", "[I", true)
  | 3 => ("BrambleLogic$Heights$First", "isFound", "Z", false)
  | _ => ("BrambleLogic$Heights$First", "this$0", "LBrambleLogic$Heights;", true)
def tyX15 : Nat → FieldType := fun k => match k with
  | 0 => .int
  | 1 => .int
  | 2 => .array .int
  | 3 => .boolean
  | _ => .object "BrambleLogic$Heights"
abbrev wsX150 : List Cond := u_ws RX15 TX15 5
theorem nmX15 : ∀ a, a < 5 → ∀ b, b < 5 → a ≠ b → (TX15 a).2.1 ≠ (TX15 b).2.1 := by decide +kernel
theorem tyX15_ok : ∀ k, k < 5 → parseFieldDescriptor (TX15 k).2.2.1 = some (tyX15 k) := by decide +kernel
abbrev cX15_meet : ByteArray := prog_15_method_2_code
def yX15_meet : MethodName := ⟨RX15, "meet", "(LBrambleLogic$Rule;[I)V"⟩
def dkwX15_meet_2 : List UInt8 := [162, 0, 18, 42, 180, 0, 15, 29, 44, 29, 46, 79, 132, 3, 1, 167, 255, 239, 177]
abbrev dktX15_meet_2 : List UInt8 := dkwX15_meet_2 ++ []
def dkwX15_meet_1 : List UInt8 := [180, 0, 3, 43, 44, 182, 0, 41, 42, 180, 0, 19, 160, 0, 30, 42, 4, 181, 0, 26, 3, 62, 29, 6]
abbrev dktX15_meet_1 : List UInt8 := dkwX15_meet_1 ++ dktX15_meet_2
def dkwX15_meet_0 : List UInt8 := [42, 180, 0, 26, 154, 0, 61, 43, 180, 0, 30, 44, 182, 0, 36, 42, 180, 0, 23, 160, 0, 46, 42]
abbrev dktX15_meet_0 : List UInt8 := dkwX15_meet_0 ++ dktX15_meet_1
theorem dksX15_meet_0 : cX15_meet.data.toList.drop 0 = dktX15_meet_0 := by decide +kernel
theorem dksX15_meet_1 : cX15_meet.data.toList.drop 23 = dktX15_meet_1 := dk_seg dksX15_meet_0 23 rfl rfl
theorem dksX15_meet_2 : cX15_meet.data.toList.drop 47 = dktX15_meet_2 := dk_seg dksX15_meet_1 24 rfl rfl
theorem dX15_meet_0 : decode cX15_meet 0 = .ok (.aload_n 0, 1) := dk_42 (dk_at dksX15_meet_0 0 rfl rfl)
theorem dX15_meet_1 : decode cX15_meet 1 = .ok (.getfield 26, 3) := dk_180 0 26 (dk_at dksX15_meet_0 1 rfl rfl)
theorem dX15_meet_4 : decode cX15_meet 4 = .ok (.ifCond .ne 61, 3) := dk_154 0 61 (dk_at dksX15_meet_0 4 rfl rfl)
theorem dX15_meet_7 : decode cX15_meet 7 = .ok (.aload_n 1, 1) := dk_43 (dk_at dksX15_meet_0 7 rfl rfl)
theorem dX15_meet_8 : decode cX15_meet 8 = .ok (.getfield 30, 3) := dk_180 0 30 (dk_at dksX15_meet_0 8 rfl rfl)
theorem dX15_meet_11 : decode cX15_meet 11 = .ok (.aload_n 2, 1) := dk_44 (dk_at dksX15_meet_0 11 rfl rfl)
theorem dX15_meet_12 : decode cX15_meet 12 = .ok (.invokevirtual 36, 3) := dk_182 0 36 (dk_at dksX15_meet_0 12 rfl rfl)
theorem dX15_meet_15 : decode cX15_meet 15 = .ok (.aload_n 0, 1) := dk_42 (dk_at dksX15_meet_0 15 rfl rfl)
theorem dX15_meet_16 : decode cX15_meet 16 = .ok (.getfield 23, 3) := dk_180 0 23 (dk_at dksX15_meet_0 16 rfl rfl)
theorem dX15_meet_19 : decode cX15_meet 19 = .ok (.if_icmp .ne 46, 3) := dk_160 0 46 (dk_at dksX15_meet_0 19 rfl rfl)
theorem dX15_meet_22 : decode cX15_meet 22 = .ok (.aload_n 0, 1) := dk_42 (dk_at dksX15_meet_0 22 rfl rfl)
theorem dX15_meet_23 : decode cX15_meet 23 = .ok (.getfield 3, 3) := dk_180 0 3 (dk_at dksX15_meet_1 0 rfl rfl)
theorem dX15_meet_26 : decode cX15_meet 26 = .ok (.aload_n 1, 1) := dk_43 (dk_at dksX15_meet_1 3 rfl rfl)
theorem dX15_meet_27 : decode cX15_meet 27 = .ok (.aload_n 2, 1) := dk_44 (dk_at dksX15_meet_1 4 rfl rfl)
theorem dX15_meet_28 : decode cX15_meet 28 = .ok (.invokevirtual 41, 3) := dk_182 0 41 (dk_at dksX15_meet_1 5 rfl rfl)
theorem dX15_meet_31 : decode cX15_meet 31 = .ok (.aload_n 0, 1) := dk_42 (dk_at dksX15_meet_1 8 rfl rfl)
theorem dX15_meet_32 : decode cX15_meet 32 = .ok (.getfield 19, 3) := dk_180 0 19 (dk_at dksX15_meet_1 9 rfl rfl)
theorem dX15_meet_35 : decode cX15_meet 35 = .ok (.if_icmp .ne 30, 3) := dk_160 0 30 (dk_at dksX15_meet_1 12 rfl rfl)
theorem dX15_meet_38 : decode cX15_meet 38 = .ok (.aload_n 0, 1) := dk_42 (dk_at dksX15_meet_1 15 rfl rfl)
theorem dX15_meet_39 : decode cX15_meet 39 = .ok (.iconst 1, 1) := dk_4 (dk_at dksX15_meet_1 16 rfl rfl)
theorem dX15_meet_40 : decode cX15_meet 40 = .ok (.putfield 26, 3) := dk_181 0 26 (dk_at dksX15_meet_1 17 rfl rfl)
theorem dX15_meet_43 : decode cX15_meet 43 = .ok (.iconst 0, 1) := dk_3 (dk_at dksX15_meet_1 20 rfl rfl)
theorem dX15_meet_44 : decode cX15_meet 44 = .ok (.istore_n 3, 1) := dk_62 (dk_at dksX15_meet_1 21 rfl rfl)
theorem dX15_meet_45 : decode cX15_meet 45 = .ok (.iload_n 3, 1) := dk_29 (dk_at dksX15_meet_1 22 rfl rfl)
theorem dX15_meet_46 : decode cX15_meet 46 = .ok (.iconst 3, 1) := dk_6 (dk_at dksX15_meet_1 23 rfl rfl)
theorem dX15_meet_47 : decode cX15_meet 47 = .ok (.if_icmp .ge 18, 3) := dk_162 0 18 (dk_at dksX15_meet_2 0 rfl rfl)
theorem dX15_meet_50 : decode cX15_meet 50 = .ok (.aload_n 0, 1) := dk_42 (dk_at dksX15_meet_2 3 rfl rfl)
theorem dX15_meet_51 : decode cX15_meet 51 = .ok (.getfield 15, 3) := dk_180 0 15 (dk_at dksX15_meet_2 4 rfl rfl)
theorem dX15_meet_54 : decode cX15_meet 54 = .ok (.iload_n 3, 1) := dk_29 (dk_at dksX15_meet_2 7 rfl rfl)
theorem dX15_meet_55 : decode cX15_meet 55 = .ok (.aload_n 2, 1) := dk_44 (dk_at dksX15_meet_2 8 rfl rfl)
theorem dX15_meet_56 : decode cX15_meet 56 = .ok (.iload_n 3, 1) := dk_29 (dk_at dksX15_meet_2 9 rfl rfl)
theorem dX15_meet_57 : decode cX15_meet 57 = .ok (.iaload, 1) := dk_46 (dk_at dksX15_meet_2 10 rfl rfl)
theorem dX15_meet_58 : decode cX15_meet 58 = .ok (.iastore, 1) := dk_79 (dk_at dksX15_meet_2 11 rfl rfl)
theorem dX15_meet_59 : decode cX15_meet 59 = .ok (.iinc 3 1, 3) := dk_132 3 1 (dk_at dksX15_meet_2 12 rfl rfl)
theorem dX15_meet_62 : decode cX15_meet 62 = .ok (.goto (-17), 3) := dk_167 255 239 (dk_at dksX15_meet_2 15 rfl rfl)
theorem dX15_meet_65 : decode cX15_meet 65 = .ok (.return_, 1) := dk_177 (dk_at dksX15_meet_2 18 rfl rfl)
abbrev cX15_init : ByteArray := prog_15_method_1_code
def yX15_init : MethodName := ⟨RX15, "<init>", "(LBrambleLogic$Heights;II)V"⟩
def dkwX15_init_1 : List UInt8 := [181, 0, 23, 177]
abbrev dktX15_init_1 : List UInt8 := dkwX15_init_1 ++ []
def dkwX15_init_0 : List UInt8 := [42, 43, 181, 0, 3, 42, 183, 0, 9, 42, 6, 188, 10, 181, 0, 15, 42, 28, 181, 0, 19, 42, 29]
abbrev dktX15_init_0 : List UInt8 := dkwX15_init_0 ++ dktX15_init_1
theorem dksX15_init_0 : cX15_init.data.toList.drop 0 = dktX15_init_0 := by decide +kernel
theorem dksX15_init_1 : cX15_init.data.toList.drop 23 = dktX15_init_1 := dk_seg dksX15_init_0 23 rfl rfl
theorem dX15_init_0 : decode cX15_init 0 = .ok (.aload_n 0, 1) := dk_42 (dk_at dksX15_init_0 0 rfl rfl)
theorem dX15_init_1 : decode cX15_init 1 = .ok (.aload_n 1, 1) := dk_43 (dk_at dksX15_init_0 1 rfl rfl)
theorem dX15_init_2 : decode cX15_init 2 = .ok (.putfield 3, 3) := dk_181 0 3 (dk_at dksX15_init_0 2 rfl rfl)
theorem dX15_init_5 : decode cX15_init 5 = .ok (.aload_n 0, 1) := dk_42 (dk_at dksX15_init_0 5 rfl rfl)
theorem dX15_init_6 : decode cX15_init 6 = .ok (.invokespecial 9, 3) := dk_183 0 9 (dk_at dksX15_init_0 6 rfl rfl)
theorem dX15_init_9 : decode cX15_init 9 = .ok (.aload_n 0, 1) := dk_42 (dk_at dksX15_init_0 9 rfl rfl)
theorem dX15_init_10 : decode cX15_init 10 = .ok (.iconst 3, 1) := dk_6 (dk_at dksX15_init_0 10 rfl rfl)
theorem dX15_init_11 : decode cX15_init 11 = .ok (.newarray .int, 2) := dk_188_10 (dk_at dksX15_init_0 11 rfl rfl)
theorem dX15_init_13 : decode cX15_init 13 = .ok (.putfield 15, 3) := dk_181 0 15 (dk_at dksX15_init_0 13 rfl rfl)
theorem dX15_init_16 : decode cX15_init 16 = .ok (.aload_n 0, 1) := dk_42 (dk_at dksX15_init_0 16 rfl rfl)
theorem dX15_init_17 : decode cX15_init 17 = .ok (.iload_n 2, 1) := dk_28 (dk_at dksX15_init_0 17 rfl rfl)
theorem dX15_init_18 : decode cX15_init 18 = .ok (.putfield 19, 3) := dk_181 0 19 (dk_at dksX15_init_0 18 rfl rfl)
theorem dX15_init_21 : decode cX15_init 21 = .ok (.aload_n 0, 1) := dk_42 (dk_at dksX15_init_0 21 rfl rfl)
theorem dX15_init_22 : decode cX15_init 22 = .ok (.iload_n 3, 1) := dk_29 (dk_at dksX15_init_0 22 rfl rfl)
theorem dX15_init_23 : decode cX15_init 23 = .ok (.putfield 23, 3) := dk_181 0 23 (dk_at dksX15_init_1 0 rfl rfl)
theorem dX15_init_26 : decode cX15_init 26 = .ok (.return_, 1) := dk_177 (dk_at dksX15_init_1 3 rfl rfl)
theorem q151 : (Jvm.Cond.initialized "BrambleLogic$Heights$First") ∈ lw_all := lw_g (lw_at lw_m1 44 rfl) rfl
theorem q706 : (Jvm.Cond.selects "BrambleLogic$Heights$First" ({ cls := "java/lang/Object", name := "getClass", desc := "()Ljava/lang/Class;" } : Jvm.MethodName) ({ cls := "java/lang/Object", name := "getClass", desc := "()Ljava/lang/Class;" } : Jvm.MethodName)) ∈ lw_all := lw_g (lw_at lw_m3 119 rfl) rfl
theorem q969 : (Jvm.Cond.selects "BrambleLogic$Heights$First" ({ cls := "BrambleLogic$Steps", name := "meet", desc := "(LBrambleLogic$Rule;[I)V" } : Jvm.MethodName) ({ cls := "BrambleLogic$Heights$First", name := "meet", desc := "(LBrambleLogic$Rule;[I)V" } : Jvm.MethodName)) ∈ lw_all := lw_g (lw_at lw_m4 142 rfl) rfl
theorem q970 : (Jvm.Cond.instanceMethod ({ cls := "BrambleLogic$Heights$First", name := "meet", desc := "(LBrambleLogic$Rule;[I)V" } : Jvm.MethodName)) ∈ lw_all := lw_g (lw_at lw_m4 143 rfl) rfl
theorem q971 : (Jvm.Cond.code ({ cls := "BrambleLogic$Heights$First", name := "meet", desc := "(LBrambleLogic$Rule;[I)V" } : Jvm.MethodName) prog_15_method_2_code (4 : Nat) (Option.none : Option Jvm.ClassFile.FieldType)) ∈ lw_all := lw_g (lw_at lw_m4 144 rfl) rfl
theorem q972 : (Jvm.Cond.methodLink "BrambleLogic$Heights$First" (36 : Nat) ({ cls := "BrambleLogic$Atom", name := "code", desc := "([I)I" } : Jvm.MethodName)) ∈ lw_all := lw_g (lw_at lw_m4 145 rfl) rfl
theorem q973 : (Jvm.Cond.methodLinkNest "BrambleLogic$Heights$First" (41 : Nat) ({ cls := "BrambleLogic$Heights", name := "heightBy", desc := "(LBrambleLogic$Rule;[I)I" } : Jvm.MethodName) "BrambleLogic") ∈ lw_tbl := lw_at lw_m4 146 rfl
theorem q1852 : (Jvm.Cond.instantiable "BrambleLogic$Heights$First" (5 : Nat)) ∈ lw_all := lw_g (lw_at lw_m8 65 rfl) rfl
theorem q1854 : (Jvm.Cond.instanceMethod ({ cls := "BrambleLogic$Heights$First", name := "<init>", desc := "(LBrambleLogic$Heights;II)V" } : Jvm.MethodName)) ∈ lw_all := lw_g (lw_at lw_m8 67 rfl) rfl
theorem q1855 : (Jvm.Cond.code ({ cls := "BrambleLogic$Heights$First", name := "<init>", desc := "(LBrambleLogic$Heights;II)V" } : Jvm.MethodName) prog_15_method_1_code (4 : Nat) (Option.none : Option Jvm.ClassFile.FieldType)) ∈ lw_all := lw_g (lw_at lw_m8 68 rfl) rfl
theorem q1856 : (Jvm.Cond.methodLinkNest "BrambleLogic$Heights$First" (9 : Nat) ({ cls := "BrambleLogic$Steps", name := "<init>", desc := "()V" } : Jvm.MethodName) "BrambleLogic") ∈ lw_tbl := lw_at lw_m8 69 rfl
theorem q1857 : (Jvm.Cond.fieldLink "BrambleLogic$Heights$First" (19 : Nat) "BrambleLogic$Heights$First" "height" "I") ∈ lw_all := lw_g (lw_at lw_m8 70 rfl) rfl
theorem q1858 : (Jvm.Cond.fieldLink "BrambleLogic$Heights$First" (23 : Nat) "BrambleLogic$Heights$First" "code" "I") ∈ lw_all := lw_g (lw_at lw_m8 71 rfl) rfl
theorem q1859 : (Jvm.Cond.fieldLink "BrambleLogic$Heights$First" (15 : Nat) "BrambleLogic$Heights$First" "found" "[I") ∈ lw_all := lw_g (lw_at lw_m8 72 rfl) rfl
theorem q1861 : (Jvm.Cond.fieldLink "BrambleLogic$Heights$First" (26 : Nat) "BrambleLogic$Heights$First" "isFound" "Z") ∈ lw_all := lw_g (lw_at lw_m8 74 rfl) rfl
theorem q1863 : (Jvm.Cond.fieldLink "BrambleLogic$Heights$First" (3 : Nat) "BrambleLogic$Heights$First" "this$0" "LBrambleLogic$Heights;") ∈ lw_all := lw_g (lw_at lw_m8 76 rfl) rfl
theorem q1864 : (Jvm.Cond.laysFinal "BrambleLogic$Heights$First" "BrambleLogic$Heights$First" "height" "I") ∈ lw_all := lw_g (lw_at lw_m8 77 rfl) rfl
theorem q1865 : (Jvm.Cond.soleField "BrambleLogic$Heights$First" "height") ∈ lw_all := lw_g (lw_at lw_m8 78 rfl) rfl
theorem q1866 : (Jvm.Cond.laysFinal "BrambleLogic$Heights$First" "BrambleLogic$Heights$First" "code" "I") ∈ lw_all := lw_g (lw_at lw_m8 79 rfl) rfl
theorem q1867 : (Jvm.Cond.soleField "BrambleLogic$Heights$First" "code") ∈ lw_all := lw_g (lw_at lw_m8 80 rfl) rfl
theorem q1868 : (Jvm.Cond.laysFinal "BrambleLogic$Heights$First" "BrambleLogic$Heights$First" "found" "[I") ∈ lw_all := lw_g (lw_at lw_m8 81 rfl) rfl
theorem q1869 : (Jvm.Cond.soleField "BrambleLogic$Heights$First" "found") ∈ lw_all := lw_g (lw_at lw_m8 82 rfl) rfl
theorem q1870 : (Jvm.Cond.lays "BrambleLogic$Heights$First" "BrambleLogic$Heights$First" "isFound" "Z") ∈ lw_all := lw_g (lw_at lw_m8 83 rfl) rfl
theorem q1871 : (Jvm.Cond.soleField "BrambleLogic$Heights$First" "isFound") ∈ lw_all := lw_g (lw_at lw_m8 84 rfl) rfl
theorem q1872 : (Jvm.Cond.laysFinal "BrambleLogic$Heights$First" "BrambleLogic$Heights$First" "this$0" "LBrambleLogic$Heights;") ∈ lw_all := lw_g (lw_at lw_m8 85 rfl) rfl
theorem q1873 : (Jvm.Cond.soleField "BrambleLogic$Heights$First" "this$0") ∈ lw_all := lw_g (lw_at lw_m8 86 rfl) rfl
theorem q1874 : (Jvm.Cond.superclass "BrambleLogic$Heights$First" "BrambleLogic$Steps") ∈ lw_all := lw_g (lw_at lw_m8 87 rfl) rfl
theorem q1876 : (Jvm.Cond.sameMethod "BrambleLogic$Heights$First" "BrambleLogic$Steps" "take" "(LBrambleLogic$Rule;LBrambleLogic$Facts;)V") ∈ lw_all := lw_g (lw_at lw_m8 89 rfl) rfl
theorem q1877 : (Jvm.Cond.selects "BrambleLogic$Heights$First" ({ cls := "BrambleLogic$Heights$First", name := "take", desc := "(LBrambleLogic$Rule;LBrambleLogic$Facts;)V" } : Jvm.MethodName) ({ cls := "BrambleLogic$Steps", name := "take", desc := "(LBrambleLogic$Rule;LBrambleLogic$Facts;)V" } : Jvm.MethodName)) ∈ lw_all := lw_g (lw_at lw_m8 90 rfl) rfl
theorem q2497 : (Jvm.Cond.fieldLinkNest "BrambleLogic$Heights$First" (30 : Nat) "BrambleLogic$Rule" "head" "LBrambleLogic$Atom;" "BrambleLogic") ∈ lw_tbl := lw_at lw_m10 230 rfl
theorem q3346 : (Jvm.Cond.selects "BrambleLogic$Heights$First" ({ cls := "BrambleLogic$Steps", name := "take", desc := "(LBrambleLogic$Rule;LBrambleLogic$Facts;)V" } : Jvm.MethodName) ({ cls := "BrambleLogic$Steps", name := "take", desc := "(LBrambleLogic$Rule;LBrambleLogic$Facts;)V" } : Jvm.MethodName)) ∈ lw_all := lw_g (lw_at lw_m14 119 rfl) rfl
theorem q3388 : (Jvm.Cond.castable "BrambleLogic$Heights$First" "java/lang/Object") ∈ lw_tbl := lw_at lw_m14 161 rfl
theorem in_X15 : ∀ w ∈ wsX150, w ∈ lw_all := lw_in wsX150 [1864, 1866, 1868, 1870, 1872] (by decide +kernel) (by decide +kernel)
/-! BrambleLogic$Step -/
set_option maxRecDepth 100000
def RX16 : String := "BrambleLogic$Step"
def TX16 : u_T := fun k => match k with
  | 0 => ("BrambleLogic$Step", "number", "I", true)
  | 1 => ("BrambleLogic$Step", "rule", "LBrambleLogic$Rule;", true)
  | _ => ("BrambleLogic$Step", "values", "[I", true)
def tyX16 : Nat → FieldType := fun k => match k with
  | 0 => .int
  | 1 => .object "BrambleLogic$Rule"
  | _ => .array .int
abbrev wsX160 : List Cond := u_ws RX16 TX16 3
theorem nmX16 : ∀ a, a < 3 → ∀ b, b < 3 → a ≠ b → (TX16 a).2.1 ≠ (TX16 b).2.1 := by decide +kernel
theorem tyX16_ok : ∀ k, k < 3 → parseFieldDescriptor (TX16 k).2.2.1 = some (tyX16 k) := by decide +kernel
abbrev cX16_init : ByteArray := prog_23_method_1_code
def yX16_init : MethodName := ⟨RX16, "<init>", "(ILBrambleLogic$Rule;[I)V"⟩
def dkwX16_init_0 : List UInt8 := [42, 183, 0, 1, 42, 27, 181, 0, 7, 42, 44, 181, 0, 13, 42, 45, 181, 0, 17, 177]
abbrev dktX16_init_0 : List UInt8 := dkwX16_init_0 ++ []
theorem dksX16_init_0 : cX16_init.data.toList.drop 0 = dktX16_init_0 := by decide +kernel
theorem dX16_init_0 : decode cX16_init 0 = .ok (.aload_n 0, 1) := dk_42 (dk_at dksX16_init_0 0 rfl rfl)
theorem dX16_init_1 : decode cX16_init 1 = .ok (.invokespecial 1, 3) := dk_183 0 1 (dk_at dksX16_init_0 1 rfl rfl)
theorem dX16_init_4 : decode cX16_init 4 = .ok (.aload_n 0, 1) := dk_42 (dk_at dksX16_init_0 4 rfl rfl)
theorem dX16_init_5 : decode cX16_init 5 = .ok (.iload_n 1, 1) := dk_27 (dk_at dksX16_init_0 5 rfl rfl)
theorem dX16_init_6 : decode cX16_init 6 = .ok (.putfield 7, 3) := dk_181 0 7 (dk_at dksX16_init_0 6 rfl rfl)
theorem dX16_init_9 : decode cX16_init 9 = .ok (.aload_n 0, 1) := dk_42 (dk_at dksX16_init_0 9 rfl rfl)
theorem dX16_init_10 : decode cX16_init 10 = .ok (.aload_n 2, 1) := dk_44 (dk_at dksX16_init_0 10 rfl rfl)
theorem dX16_init_11 : decode cX16_init 11 = .ok (.putfield 13, 3) := dk_181 0 13 (dk_at dksX16_init_0 11 rfl rfl)
theorem dX16_init_14 : decode cX16_init 14 = .ok (.aload_n 0, 1) := dk_42 (dk_at dksX16_init_0 14 rfl rfl)
theorem dX16_init_15 : decode cX16_init 15 = .ok (.aload_n 3, 1) := dk_45 (dk_at dksX16_init_0 15 rfl rfl)
theorem dX16_init_16 : decode cX16_init 16 = .ok (.putfield 17, 3) := dk_181 0 17 (dk_at dksX16_init_0 16 rfl rfl)
theorem dX16_init_19 : decode cX16_init 19 = .ok (.return_, 1) := dk_177 (dk_at dksX16_init_0 19 rfl rfl)
abbrev cX16_toString : ByteArray := prog_23_method_2_code
def yX16_toString : MethodName := ⟨RX16, "toString", "()Ljava/lang/String;"⟩
def dkwX16_toString_4 : List UInt8 := [167, 255, 186, 43, 182, 0, 68, 176]
abbrev dktX16_toString_4 : List UInt8 := dkwX16_toString_4 ++ []
def dkwX16_toString_3 : List UInt8 := [45, 180, 0, 55, 45, 42, 180, 0, 17, 182, 0, 58, 184, 0, 62, 182, 0, 26, 87, 132, 2, 1]
abbrev dktX16_toString_3 : List UInt8 := dkwX16_toString_3 ++ dktX16_toString_4
def dkwX16_toString_2 : List UInt8 := [185, 0, 45, 2, 0, 192, 0, 49, 78, 43, 28, 154, 0, 8, 18, 51, 167, 0, 5, 18, 53, 182, 0, 26]
abbrev dktX16_toString_2 : List UInt8 := dkwX16_toString_2 ++ dktX16_toString_3
def dkwX16_toString_1 : List UInt8 := [28, 42, 180, 0, 13, 180, 0, 33, 185, 0, 39, 1, 0, 162, 0, 60, 42, 180, 0, 13, 180, 0, 33, 28]
abbrev dktX16_toString_1 : List UInt8 := dkwX16_toString_1 ++ dktX16_toString_2
def dkwX16_toString_0 : List UInt8 := [187, 0, 21, 89, 183, 0, 23, 76, 43, 18, 24, 182, 0, 26, 42, 180, 0, 7, 182, 0, 30, 87, 3, 61]
abbrev dktX16_toString_0 : List UInt8 := dkwX16_toString_0 ++ dktX16_toString_1
theorem dksX16_toString_0 : cX16_toString.data.toList.drop 0 = dktX16_toString_0 := by decide +kernel
theorem dksX16_toString_1 : cX16_toString.data.toList.drop 24 = dktX16_toString_1 := dk_seg dksX16_toString_0 24 rfl rfl
theorem dksX16_toString_2 : cX16_toString.data.toList.drop 48 = dktX16_toString_2 := dk_seg dksX16_toString_1 24 rfl rfl
theorem dksX16_toString_3 : cX16_toString.data.toList.drop 72 = dktX16_toString_3 := dk_seg dksX16_toString_2 24 rfl rfl
theorem dksX16_toString_4 : cX16_toString.data.toList.drop 94 = dktX16_toString_4 := dk_seg dksX16_toString_3 22 rfl rfl
theorem dX16_toString_0 : decode cX16_toString 0 = .ok (.new 21, 3) := dk_187 0 21 (dk_at dksX16_toString_0 0 rfl rfl)
theorem dX16_toString_3 : decode cX16_toString 3 = .ok (.dup, 1) := dk_89 (dk_at dksX16_toString_0 3 rfl rfl)
theorem dX16_toString_4 : decode cX16_toString 4 = .ok (.invokespecial 23, 3) := dk_183 0 23 (dk_at dksX16_toString_0 4 rfl rfl)
theorem dX16_toString_7 : decode cX16_toString 7 = .ok (.astore_n 1, 1) := dk_76 (dk_at dksX16_toString_0 7 rfl rfl)
theorem dX16_toString_8 : decode cX16_toString 8 = .ok (.aload_n 1, 1) := dk_43 (dk_at dksX16_toString_0 8 rfl rfl)
theorem dX16_toString_9 : decode cX16_toString 9 = .ok (.ldc 24, 2) := dk_18 24 (dk_at dksX16_toString_0 9 rfl rfl)
theorem dX16_toString_11 : decode cX16_toString 11 = .ok (.invokevirtual 26, 3) := dk_182 0 26 (dk_at dksX16_toString_0 11 rfl rfl)
theorem dX16_toString_14 : decode cX16_toString 14 = .ok (.aload_n 0, 1) := dk_42 (dk_at dksX16_toString_0 14 rfl rfl)
theorem dX16_toString_15 : decode cX16_toString 15 = .ok (.getfield 7, 3) := dk_180 0 7 (dk_at dksX16_toString_0 15 rfl rfl)
theorem dX16_toString_18 : decode cX16_toString 18 = .ok (.invokevirtual 30, 3) := dk_182 0 30 (dk_at dksX16_toString_0 18 rfl rfl)
theorem dX16_toString_21 : decode cX16_toString 21 = .ok (.pop, 1) := dk_87 (dk_at dksX16_toString_0 21 rfl rfl)
theorem dX16_toString_22 : decode cX16_toString 22 = .ok (.iconst 0, 1) := dk_3 (dk_at dksX16_toString_0 22 rfl rfl)
theorem dX16_toString_23 : decode cX16_toString 23 = .ok (.istore_n 2, 1) := dk_61 (dk_at dksX16_toString_0 23 rfl rfl)
theorem dX16_toString_24 : decode cX16_toString 24 = .ok (.iload_n 2, 1) := dk_28 (dk_at dksX16_toString_1 0 rfl rfl)
theorem dX16_toString_25 : decode cX16_toString 25 = .ok (.aload_n 0, 1) := dk_42 (dk_at dksX16_toString_1 1 rfl rfl)
theorem dX16_toString_26 : decode cX16_toString 26 = .ok (.getfield 13, 3) := dk_180 0 13 (dk_at dksX16_toString_1 2 rfl rfl)
theorem dX16_toString_29 : decode cX16_toString 29 = .ok (.getfield 33, 3) := dk_180 0 33 (dk_at dksX16_toString_1 5 rfl rfl)
theorem dX16_toString_32 : decode cX16_toString 32 = .ok (.invokeinterface 39 1, 5) := by decide +kernel
theorem dX16_toString_37 : decode cX16_toString 37 = .ok (.if_icmp .ge 60, 3) := dk_162 0 60 (dk_at dksX16_toString_1 13 rfl rfl)
theorem dX16_toString_40 : decode cX16_toString 40 = .ok (.aload_n 0, 1) := dk_42 (dk_at dksX16_toString_1 16 rfl rfl)
theorem dX16_toString_41 : decode cX16_toString 41 = .ok (.getfield 13, 3) := dk_180 0 13 (dk_at dksX16_toString_1 17 rfl rfl)
theorem dX16_toString_44 : decode cX16_toString 44 = .ok (.getfield 33, 3) := dk_180 0 33 (dk_at dksX16_toString_1 20 rfl rfl)
theorem dX16_toString_47 : decode cX16_toString 47 = .ok (.iload_n 2, 1) := dk_28 (dk_at dksX16_toString_1 23 rfl rfl)
theorem dX16_toString_48 : decode cX16_toString 48 = .ok (.invokeinterface 45 2, 5) := by decide +kernel
theorem dX16_toString_53 : decode cX16_toString 53 = .ok (.checkcast 49, 3) := dk_192 0 49 (dk_at dksX16_toString_2 5 rfl rfl)
theorem dX16_toString_56 : decode cX16_toString 56 = .ok (.astore_n 3, 1) := dk_78 (dk_at dksX16_toString_2 8 rfl rfl)
theorem dX16_toString_57 : decode cX16_toString 57 = .ok (.aload_n 1, 1) := dk_43 (dk_at dksX16_toString_2 9 rfl rfl)
theorem dX16_toString_58 : decode cX16_toString 58 = .ok (.iload_n 2, 1) := dk_28 (dk_at dksX16_toString_2 10 rfl rfl)
theorem dX16_toString_59 : decode cX16_toString 59 = .ok (.ifCond .ne 8, 3) := dk_154 0 8 (dk_at dksX16_toString_2 11 rfl rfl)
theorem dX16_toString_62 : decode cX16_toString 62 = .ok (.ldc 51, 2) := dk_18 51 (dk_at dksX16_toString_2 14 rfl rfl)
theorem dX16_toString_64 : decode cX16_toString 64 = .ok (.goto 5, 3) := dk_167 0 5 (dk_at dksX16_toString_2 16 rfl rfl)
theorem dX16_toString_67 : decode cX16_toString 67 = .ok (.ldc 53, 2) := dk_18 53 (dk_at dksX16_toString_2 19 rfl rfl)
theorem dX16_toString_69 : decode cX16_toString 69 = .ok (.invokevirtual 26, 3) := dk_182 0 26 (dk_at dksX16_toString_2 21 rfl rfl)
theorem dX16_toString_72 : decode cX16_toString 72 = .ok (.aload_n 3, 1) := dk_45 (dk_at dksX16_toString_3 0 rfl rfl)
theorem dX16_toString_73 : decode cX16_toString 73 = .ok (.getfield 55, 3) := dk_180 0 55 (dk_at dksX16_toString_3 1 rfl rfl)
theorem dX16_toString_76 : decode cX16_toString 76 = .ok (.aload_n 3, 1) := dk_45 (dk_at dksX16_toString_3 4 rfl rfl)
theorem dX16_toString_77 : decode cX16_toString 77 = .ok (.aload_n 0, 1) := dk_42 (dk_at dksX16_toString_3 5 rfl rfl)
theorem dX16_toString_78 : decode cX16_toString 78 = .ok (.getfield 17, 3) := dk_180 0 17 (dk_at dksX16_toString_3 6 rfl rfl)
theorem dX16_toString_81 : decode cX16_toString 81 = .ok (.invokevirtual 58, 3) := dk_182 0 58 (dk_at dksX16_toString_3 9 rfl rfl)
theorem dX16_toString_84 : decode cX16_toString 84 = .ok (.invokestatic 62, 3) := dk_184 0 62 (dk_at dksX16_toString_3 12 rfl rfl)
theorem dX16_toString_87 : decode cX16_toString 87 = .ok (.invokevirtual 26, 3) := dk_182 0 26 (dk_at dksX16_toString_3 15 rfl rfl)
theorem dX16_toString_90 : decode cX16_toString 90 = .ok (.pop, 1) := dk_87 (dk_at dksX16_toString_3 18 rfl rfl)
theorem dX16_toString_91 : decode cX16_toString 91 = .ok (.iinc 2 1, 3) := dk_132 2 1 (dk_at dksX16_toString_3 19 rfl rfl)
theorem dX16_toString_94 : decode cX16_toString 94 = .ok (.goto (-70), 3) := dk_167 255 186 (dk_at dksX16_toString_4 0 rfl rfl)
theorem dX16_toString_97 : decode cX16_toString 97 = .ok (.aload_n 1, 1) := dk_43 (dk_at dksX16_toString_4 3 rfl rfl)
theorem dX16_toString_98 : decode cX16_toString 98 = .ok (.invokevirtual 68, 3) := dk_182 0 68 (dk_at dksX16_toString_4 4 rfl rfl)
theorem dX16_toString_101 : decode cX16_toString 101 = .ok (.areturn, 1) := dk_176 (dk_at dksX16_toString_4 7 rfl rfl)
theorem q152 : (Jvm.Cond.initialized "BrambleLogic$Step") ∈ lw_all := lw_g (lw_at lw_m1 45 rfl) rfl
theorem q713 : (Jvm.Cond.selects "BrambleLogic$Step" ({ cls := "java/lang/Object", name := "getClass", desc := "()Ljava/lang/Class;" } : Jvm.MethodName) ({ cls := "java/lang/Object", name := "getClass", desc := "()Ljava/lang/Class;" } : Jvm.MethodName)) ∈ lw_all := lw_g (lw_at lw_m3 126 rfl) rfl
theorem q1879 : (Jvm.Cond.instantiable "BrambleLogic$Step" (3 : Nat)) ∈ lw_all := lw_g (lw_at lw_m8 92 rfl) rfl
theorem q1881 : (Jvm.Cond.instanceMethod ({ cls := "BrambleLogic$Step", name := "<init>", desc := "(ILBrambleLogic$Rule;[I)V" } : Jvm.MethodName)) ∈ lw_all := lw_g (lw_at lw_m8 94 rfl) rfl
theorem q1882 : (Jvm.Cond.code ({ cls := "BrambleLogic$Step", name := "<init>", desc := "(ILBrambleLogic$Rule;[I)V" } : Jvm.MethodName) prog_23_method_1_code (4 : Nat) (Option.none : Option Jvm.ClassFile.FieldType)) ∈ lw_all := lw_g (lw_at lw_m8 95 rfl) rfl
theorem q1883 : (Jvm.Cond.methodLink "BrambleLogic$Step" (1 : Nat) ({ cls := "java/lang/Object", name := "<init>", desc := "()V" } : Jvm.MethodName)) ∈ lw_all := lw_g (lw_at lw_m8 96 rfl) rfl
theorem q1884 : (Jvm.Cond.fieldLink "BrambleLogic$Step" (7 : Nat) "BrambleLogic$Step" "number" "I") ∈ lw_all := lw_g (lw_at lw_m8 97 rfl) rfl
theorem q1886 : (Jvm.Cond.fieldLink "BrambleLogic$Step" (13 : Nat) "BrambleLogic$Step" "rule" "LBrambleLogic$Rule;") ∈ lw_all := lw_g (lw_at lw_m8 99 rfl) rfl
theorem q1888 : (Jvm.Cond.fieldLink "BrambleLogic$Step" (17 : Nat) "BrambleLogic$Step" "values" "[I") ∈ lw_all := lw_g (lw_at lw_m8 101 rfl) rfl
theorem q1890 : (Jvm.Cond.laysFinal "BrambleLogic$Step" "BrambleLogic$Step" "number" "I") ∈ lw_all := lw_g (lw_at lw_m8 103 rfl) rfl
theorem q1891 : (Jvm.Cond.soleField "BrambleLogic$Step" "number") ∈ lw_all := lw_g (lw_at lw_m8 104 rfl) rfl
theorem q1892 : (Jvm.Cond.laysFinal "BrambleLogic$Step" "BrambleLogic$Step" "rule" "LBrambleLogic$Rule;") ∈ lw_all := lw_g (lw_at lw_m8 105 rfl) rfl
theorem q1893 : (Jvm.Cond.soleField "BrambleLogic$Step" "rule") ∈ lw_all := lw_g (lw_at lw_m8 106 rfl) rfl
theorem q1894 : (Jvm.Cond.laysFinal "BrambleLogic$Step" "BrambleLogic$Step" "values" "[I") ∈ lw_all := lw_g (lw_at lw_m8 107 rfl) rfl
theorem q1895 : (Jvm.Cond.soleField "BrambleLogic$Step" "values") ∈ lw_all := lw_g (lw_at lw_m8 108 rfl) rfl
theorem q1896 : (Jvm.Cond.superclass "BrambleLogic$Step" "java/lang/Object") ∈ lw_all := lw_g (lw_at lw_m8 109 rfl) rfl
theorem q2366 : (Jvm.Cond.fieldLinkNest "BrambleLogic$Step" (55 : Nat) "BrambleLogic$Atom" "predicate" "I" "BrambleLogic") ∈ lw_tbl := lw_at lw_m10 99 rfl
theorem q2508 : (Jvm.Cond.fieldLinkNest "BrambleLogic$Step" (33 : Nat) "BrambleLogic$Rule" "premises" "Ljava/util/List;" "BrambleLogic") ∈ lw_tbl := lw_at lw_m11 1 rfl
theorem q2711 : (Jvm.Cond.instanceMethod ({ cls := "BrambleLogic$Step", name := "toString", desc := "()Ljava/lang/String;" } : Jvm.MethodName)) ∈ lw_all := lw_g (lw_at lw_m11 204 rfl) rfl
theorem q2712 : (Jvm.Cond.selects "BrambleLogic$Step" ({ cls := "BrambleLogic$Step", name := "toString", desc := "()Ljava/lang/String;" } : Jvm.MethodName) ({ cls := "BrambleLogic$Step", name := "toString", desc := "()Ljava/lang/String;" } : Jvm.MethodName)) ∈ lw_all := lw_g (lw_at lw_m11 205 rfl) rfl
theorem q2713 : (Jvm.Cond.code ({ cls := "BrambleLogic$Step", name := "toString", desc := "()Ljava/lang/String;" } : Jvm.MethodName) prog_23_method_2_code (4 : Nat) (Option.some (Jvm.ClassFile.FieldType.object "java/lang/String"))) ∈ lw_all := lw_g (lw_at lw_m11 206 rfl) rfl
theorem q2714 : (Jvm.Cond.classLink "BrambleLogic$Step" (21 : Nat) "java/lang/StringBuilder") ∈ lw_all := lw_g (lw_at lw_m11 207 rfl) rfl
theorem q2715 : (Jvm.Cond.methodLink "BrambleLogic$Step" (23 : Nat) ({ cls := "java/lang/StringBuilder", name := "<init>", desc := "()V" } : Jvm.MethodName)) ∈ lw_all := lw_g (lw_at lw_m11 208 rfl) rfl
theorem q2716 : (Jvm.Cond.stringRef "BrambleLogic$Step" (24 : Nat) " by ") ∈ lw_tbl := lw_at lw_m11 209 rfl
theorem q2717 : (Jvm.Cond.methodLink "BrambleLogic$Step" (26 : Nat) ({ cls := "java/lang/StringBuilder", name := "append", desc := "(Ljava/lang/String;)Ljava/lang/StringBuilder;" } : Jvm.MethodName)) ∈ lw_all := lw_g (lw_at lw_m11 210 rfl) rfl
theorem q2718 : (Jvm.Cond.methodLink "BrambleLogic$Step" (30 : Nat) ({ cls := "java/lang/StringBuilder", name := "append", desc := "(I)Ljava/lang/StringBuilder;" } : Jvm.MethodName)) ∈ lw_all := lw_g (lw_at lw_m11 211 rfl) rfl
theorem q2719 : (Jvm.Cond.interfaceEntry "BrambleLogic$Step" (39 : Nat)) ∈ lw_tbl := lw_at lw_m11 212 rfl
theorem q2720 : (Jvm.Cond.methodLink "BrambleLogic$Step" (39 : Nat) ({ cls := "java/util/List", name := "size", desc := "()I" } : Jvm.MethodName)) ∈ lw_all := lw_g (lw_at lw_m11 213 rfl) rfl
theorem q2721 : (Jvm.Cond.interfaceEntry "BrambleLogic$Step" (45 : Nat)) ∈ lw_tbl := lw_at lw_m11 214 rfl
theorem q2722 : (Jvm.Cond.methodLink "BrambleLogic$Step" (45 : Nat) ({ cls := "java/util/List", name := "get", desc := "(I)Ljava/lang/Object;" } : Jvm.MethodName)) ∈ lw_all := lw_g (lw_at lw_m11 215 rfl) rfl
theorem q2723 : (Jvm.Cond.classLink "BrambleLogic$Step" (49 : Nat) "BrambleLogic$Atom") ∈ lw_all := lw_g (lw_at lw_m11 216 rfl) rfl
theorem q2724 : (Jvm.Cond.stringRef "BrambleLogic$Step" (51 : Nat) ": ") ∈ lw_tbl := lw_at lw_m11 217 rfl
theorem q2725 : (Jvm.Cond.stringRef "BrambleLogic$Step" (53 : Nat) ",") ∈ lw_tbl := lw_at lw_m11 218 rfl
theorem q2726 : (Jvm.Cond.methodLink "BrambleLogic$Step" (58 : Nat) ({ cls := "BrambleLogic$Atom", name := "code", desc := "([I)I" } : Jvm.MethodName)) ∈ lw_all := lw_g (lw_at lw_m11 219 rfl) rfl
theorem q2727 : (Jvm.Cond.methodLinkNest "BrambleLogic$Step" (62 : Nat) ({ cls := "BrambleLogic", name := "textOf", desc := "(II)Ljava/lang/String;" } : Jvm.MethodName) "BrambleLogic") ∈ lw_tbl := lw_at lw_m11 220 rfl
theorem q2728 : (Jvm.Cond.methodLink "BrambleLogic$Step" (68 : Nat) ({ cls := "java/lang/StringBuilder", name := "toString", desc := "()Ljava/lang/String;" } : Jvm.MethodName)) ∈ lw_all := lw_g (lw_at lw_m11 221 rfl) rfl
theorem q3389 : (Jvm.Cond.castable "BrambleLogic$Step" "java/lang/Object") ∈ lw_tbl := lw_at lw_m14 162 rfl
theorem in_X16 : ∀ w ∈ wsX160, w ∈ lw_all := lw_in wsX160 [1890, 1892, 1894] (by decide +kernel) (by decide +kernel)
/-! BrambleLogic$Goal -/
set_option maxRecDepth 100000
def RX17 : String := "BrambleLogic$Goal"
def TX17 : u_T := fun k => match k with
  | 0 => ("BrambleLogic$Goal", "predicate", "I", true)
  | 1 => ("BrambleLogic$Goal", "first", "I", true)
  | 2 => ("BrambleLogic$Goal", "second", "I", true)
  | _ => ("BrambleLogic$Goal", "answers", "LBrambleLogic$Codes;", true)
def tyX17 : Nat → FieldType := fun k => match k with
  | 0 => .int
  | 1 => .int
  | 2 => .int
  | _ => .object "BrambleLogic$Codes"
abbrev wsX170 : List Cond := u_ws RX17 TX17 4
theorem nmX17 : ∀ a, a < 4 → ∀ b, b < 4 → a ≠ b → (TX17 a).2.1 ≠ (TX17 b).2.1 := by decide +kernel
theorem tyX17_ok : ∀ k, k < 4 → parseFieldDescriptor (TX17 k).2.2.1 = some (tyX17 k) := by decide +kernel
abbrev cX17_isSameAs : ByteArray := prog_10_method_2_code
def yX17_isSameAs : MethodName := ⟨RX17, "isSameAs", "(III)Z"⟩
def dkwX17_isSameAs_1 : List UInt8 := [4, 167, 0, 4, 3, 172]
abbrev dktX17_isSameAs_1 : List UInt8 := dkwX17_isSameAs_1 ++ []
def dkwX17_isSameAs_0 : List UInt8 := [42, 180, 0, 18, 27, 160, 0, 23, 42, 180, 0, 22, 28, 160, 0, 15, 42, 180, 0, 25, 29, 160, 0, 7]
abbrev dktX17_isSameAs_0 : List UInt8 := dkwX17_isSameAs_0 ++ dktX17_isSameAs_1
theorem dksX17_isSameAs_0 : cX17_isSameAs.data.toList.drop 0 = dktX17_isSameAs_0 := by decide +kernel
theorem dksX17_isSameAs_1 : cX17_isSameAs.data.toList.drop 24 = dktX17_isSameAs_1 := dk_seg dksX17_isSameAs_0 24 rfl rfl
theorem dX17_isSameAs_0 : decode cX17_isSameAs 0 = .ok (.aload_n 0, 1) := dk_42 (dk_at dksX17_isSameAs_0 0 rfl rfl)
theorem dX17_isSameAs_1 : decode cX17_isSameAs 1 = .ok (.getfield 18, 3) := dk_180 0 18 (dk_at dksX17_isSameAs_0 1 rfl rfl)
theorem dX17_isSameAs_4 : decode cX17_isSameAs 4 = .ok (.iload_n 1, 1) := dk_27 (dk_at dksX17_isSameAs_0 4 rfl rfl)
theorem dX17_isSameAs_5 : decode cX17_isSameAs 5 = .ok (.if_icmp .ne 23, 3) := dk_160 0 23 (dk_at dksX17_isSameAs_0 5 rfl rfl)
theorem dX17_isSameAs_8 : decode cX17_isSameAs 8 = .ok (.aload_n 0, 1) := dk_42 (dk_at dksX17_isSameAs_0 8 rfl rfl)
theorem dX17_isSameAs_9 : decode cX17_isSameAs 9 = .ok (.getfield 22, 3) := dk_180 0 22 (dk_at dksX17_isSameAs_0 9 rfl rfl)
theorem dX17_isSameAs_12 : decode cX17_isSameAs 12 = .ok (.iload_n 2, 1) := dk_28 (dk_at dksX17_isSameAs_0 12 rfl rfl)
theorem dX17_isSameAs_13 : decode cX17_isSameAs 13 = .ok (.if_icmp .ne 15, 3) := dk_160 0 15 (dk_at dksX17_isSameAs_0 13 rfl rfl)
theorem dX17_isSameAs_16 : decode cX17_isSameAs 16 = .ok (.aload_n 0, 1) := dk_42 (dk_at dksX17_isSameAs_0 16 rfl rfl)
theorem dX17_isSameAs_17 : decode cX17_isSameAs 17 = .ok (.getfield 25, 3) := dk_180 0 25 (dk_at dksX17_isSameAs_0 17 rfl rfl)
theorem dX17_isSameAs_20 : decode cX17_isSameAs 20 = .ok (.iload_n 3, 1) := dk_29 (dk_at dksX17_isSameAs_0 20 rfl rfl)
theorem dX17_isSameAs_21 : decode cX17_isSameAs 21 = .ok (.if_icmp .ne 7, 3) := dk_160 0 7 (dk_at dksX17_isSameAs_0 21 rfl rfl)
theorem dX17_isSameAs_24 : decode cX17_isSameAs 24 = .ok (.iconst 1, 1) := dk_4 (dk_at dksX17_isSameAs_1 0 rfl rfl)
theorem dX17_isSameAs_25 : decode cX17_isSameAs 25 = .ok (.goto 4, 3) := dk_167 0 4 (dk_at dksX17_isSameAs_1 1 rfl rfl)
theorem dX17_isSameAs_28 : decode cX17_isSameAs 28 = .ok (.iconst 0, 1) := dk_3 (dk_at dksX17_isSameAs_1 4 rfl rfl)
theorem dX17_isSameAs_29 : decode cX17_isSameAs 29 = .ok (.ireturn, 1) := dk_172 (dk_at dksX17_isSameAs_1 5 rfl rfl)
abbrev cX17_init : ByteArray := prog_10_method_1_code
def yX17_init : MethodName := ⟨RX17, "<init>", "(III)V"⟩
def dkwX17_init_1 : List UInt8 := [181, 0, 22, 42, 29, 181, 0, 25, 177]
abbrev dktX17_init_1 : List UInt8 := dkwX17_init_1 ++ []
def dkwX17_init_0 : List UInt8 := [42, 183, 0, 3, 42, 187, 0, 9, 89, 183, 0, 11, 181, 0, 12, 42, 27, 181, 0, 18, 42, 28]
abbrev dktX17_init_0 : List UInt8 := dkwX17_init_0 ++ dktX17_init_1
theorem dksX17_init_0 : cX17_init.data.toList.drop 0 = dktX17_init_0 := by decide +kernel
theorem dksX17_init_1 : cX17_init.data.toList.drop 22 = dktX17_init_1 := dk_seg dksX17_init_0 22 rfl rfl
theorem dX17_init_0 : decode cX17_init 0 = .ok (.aload_n 0, 1) := dk_42 (dk_at dksX17_init_0 0 rfl rfl)
theorem dX17_init_1 : decode cX17_init 1 = .ok (.invokespecial 3, 3) := dk_183 0 3 (dk_at dksX17_init_0 1 rfl rfl)
theorem dX17_init_4 : decode cX17_init 4 = .ok (.aload_n 0, 1) := dk_42 (dk_at dksX17_init_0 4 rfl rfl)
theorem dX17_init_5 : decode cX17_init 5 = .ok (.new 9, 3) := dk_187 0 9 (dk_at dksX17_init_0 5 rfl rfl)
theorem dX17_init_8 : decode cX17_init 8 = .ok (.dup, 1) := dk_89 (dk_at dksX17_init_0 8 rfl rfl)
theorem dX17_init_9 : decode cX17_init 9 = .ok (.invokespecial 11, 3) := dk_183 0 11 (dk_at dksX17_init_0 9 rfl rfl)
theorem dX17_init_12 : decode cX17_init 12 = .ok (.putfield 12, 3) := dk_181 0 12 (dk_at dksX17_init_0 12 rfl rfl)
theorem dX17_init_15 : decode cX17_init 15 = .ok (.aload_n 0, 1) := dk_42 (dk_at dksX17_init_0 15 rfl rfl)
theorem dX17_init_16 : decode cX17_init 16 = .ok (.iload_n 1, 1) := dk_27 (dk_at dksX17_init_0 16 rfl rfl)
theorem dX17_init_17 : decode cX17_init 17 = .ok (.putfield 18, 3) := dk_181 0 18 (dk_at dksX17_init_0 17 rfl rfl)
theorem dX17_init_20 : decode cX17_init 20 = .ok (.aload_n 0, 1) := dk_42 (dk_at dksX17_init_0 20 rfl rfl)
theorem dX17_init_21 : decode cX17_init 21 = .ok (.iload_n 2, 1) := dk_28 (dk_at dksX17_init_0 21 rfl rfl)
theorem dX17_init_22 : decode cX17_init 22 = .ok (.putfield 22, 3) := dk_181 0 22 (dk_at dksX17_init_1 0 rfl rfl)
theorem dX17_init_25 : decode cX17_init 25 = .ok (.aload_n 0, 1) := dk_42 (dk_at dksX17_init_1 3 rfl rfl)
theorem dX17_init_26 : decode cX17_init 26 = .ok (.iload_n 3, 1) := dk_29 (dk_at dksX17_init_1 4 rfl rfl)
theorem dX17_init_27 : decode cX17_init 27 = .ok (.putfield 25, 3) := dk_181 0 25 (dk_at dksX17_init_1 5 rfl rfl)
theorem dX17_init_30 : decode cX17_init 30 = .ok (.return_, 1) := dk_177 (dk_at dksX17_init_1 8 rfl rfl)
abbrev cX17_fits : ByteArray := prog_10_method_3_code
def yX17_fits : MethodName := ⟨RX17, "fits", "(I)Z"⟩
def dkwX17_fits_3 : List UInt8 := [167, 0, 4, 3, 172]
abbrev dktX17_fits_3 : List UInt8 := dkwX17_fits_3 ++ []
def dkwX17_fits_2 : List UInt8 := [108, 160, 0, 26, 42, 180, 0, 25, 2, 159, 0, 14, 42, 180, 0, 25, 27, 16, 10, 112, 160, 0, 7, 4]
abbrev dktX17_fits_2 : List UInt8 := dkwX17_fits_2 ++ dktX17_fits_3
def dkwX17_fits_1 : List UInt8 := [160, 0, 7, 4, 167, 0, 4, 3, 172, 42, 180, 0, 22, 2, 159, 0, 14, 42, 180, 0, 22, 27, 16, 10]
abbrev dktX17_fits_1 : List UInt8 := dkwX17_fits_1 ++ dktX17_fits_2
def dkwX17_fits_0 : List UInt8 := [42, 180, 0, 18, 184, 0, 28, 154, 0, 25, 42, 180, 0, 22, 2, 159, 0, 11, 42, 180, 0, 22, 27]
abbrev dktX17_fits_0 : List UInt8 := dkwX17_fits_0 ++ dktX17_fits_1
theorem dksX17_fits_0 : cX17_fits.data.toList.drop 0 = dktX17_fits_0 := by decide +kernel
theorem dksX17_fits_1 : cX17_fits.data.toList.drop 23 = dktX17_fits_1 := dk_seg dksX17_fits_0 23 rfl rfl
theorem dksX17_fits_2 : cX17_fits.data.toList.drop 47 = dktX17_fits_2 := dk_seg dksX17_fits_1 24 rfl rfl
theorem dksX17_fits_3 : cX17_fits.data.toList.drop 71 = dktX17_fits_3 := dk_seg dksX17_fits_2 24 rfl rfl
theorem dX17_fits_0 : decode cX17_fits 0 = .ok (.aload_n 0, 1) := dk_42 (dk_at dksX17_fits_0 0 rfl rfl)
theorem dX17_fits_1 : decode cX17_fits 1 = .ok (.getfield 18, 3) := dk_180 0 18 (dk_at dksX17_fits_0 1 rfl rfl)
theorem dX17_fits_4 : decode cX17_fits 4 = .ok (.invokestatic 28, 3) := dk_184 0 28 (dk_at dksX17_fits_0 4 rfl rfl)
theorem dX17_fits_7 : decode cX17_fits 7 = .ok (.ifCond .ne 25, 3) := dk_154 0 25 (dk_at dksX17_fits_0 7 rfl rfl)
theorem dX17_fits_10 : decode cX17_fits 10 = .ok (.aload_n 0, 1) := dk_42 (dk_at dksX17_fits_0 10 rfl rfl)
theorem dX17_fits_11 : decode cX17_fits 11 = .ok (.getfield 22, 3) := dk_180 0 22 (dk_at dksX17_fits_0 11 rfl rfl)
theorem dX17_fits_14 : decode cX17_fits 14 = .ok (.iconst (-1), 1) := dk_2 (dk_at dksX17_fits_0 14 rfl rfl)
theorem dX17_fits_15 : decode cX17_fits 15 = .ok (.if_icmp .eq 11, 3) := dk_159 0 11 (dk_at dksX17_fits_0 15 rfl rfl)
theorem dX17_fits_18 : decode cX17_fits 18 = .ok (.aload_n 0, 1) := dk_42 (dk_at dksX17_fits_0 18 rfl rfl)
theorem dX17_fits_19 : decode cX17_fits 19 = .ok (.getfield 22, 3) := dk_180 0 22 (dk_at dksX17_fits_0 19 rfl rfl)
theorem dX17_fits_22 : decode cX17_fits 22 = .ok (.iload_n 1, 1) := dk_27 (dk_at dksX17_fits_0 22 rfl rfl)
theorem dX17_fits_23 : decode cX17_fits 23 = .ok (.if_icmp .ne 7, 3) := dk_160 0 7 (dk_at dksX17_fits_1 0 rfl rfl)
theorem dX17_fits_26 : decode cX17_fits 26 = .ok (.iconst 1, 1) := dk_4 (dk_at dksX17_fits_1 3 rfl rfl)
theorem dX17_fits_27 : decode cX17_fits 27 = .ok (.goto 4, 3) := dk_167 0 4 (dk_at dksX17_fits_1 4 rfl rfl)
theorem dX17_fits_30 : decode cX17_fits 30 = .ok (.iconst 0, 1) := dk_3 (dk_at dksX17_fits_1 7 rfl rfl)
theorem dX17_fits_31 : decode cX17_fits 31 = .ok (.ireturn, 1) := dk_172 (dk_at dksX17_fits_1 8 rfl rfl)
theorem dX17_fits_32 : decode cX17_fits 32 = .ok (.aload_n 0, 1) := dk_42 (dk_at dksX17_fits_1 9 rfl rfl)
theorem dX17_fits_33 : decode cX17_fits 33 = .ok (.getfield 22, 3) := dk_180 0 22 (dk_at dksX17_fits_1 10 rfl rfl)
theorem dX17_fits_36 : decode cX17_fits 36 = .ok (.iconst (-1), 1) := dk_2 (dk_at dksX17_fits_1 13 rfl rfl)
theorem dX17_fits_37 : decode cX17_fits 37 = .ok (.if_icmp .eq 14, 3) := dk_159 0 14 (dk_at dksX17_fits_1 14 rfl rfl)
theorem dX17_fits_40 : decode cX17_fits 40 = .ok (.aload_n 0, 1) := dk_42 (dk_at dksX17_fits_1 17 rfl rfl)
theorem dX17_fits_41 : decode cX17_fits 41 = .ok (.getfield 22, 3) := dk_180 0 22 (dk_at dksX17_fits_1 18 rfl rfl)
theorem dX17_fits_44 : decode cX17_fits 44 = .ok (.iload_n 1, 1) := dk_27 (dk_at dksX17_fits_1 21 rfl rfl)
theorem dX17_fits_45 : decode cX17_fits 45 = .ok (.bipush 10, 2) := dk_16 10 (dk_at dksX17_fits_1 22 rfl rfl)
theorem dX17_fits_47 : decode cX17_fits 47 = .ok (.idiv, 1) := dk_108 (dk_at dksX17_fits_2 0 rfl rfl)
theorem dX17_fits_48 : decode cX17_fits 48 = .ok (.if_icmp .ne 26, 3) := dk_160 0 26 (dk_at dksX17_fits_2 1 rfl rfl)
theorem dX17_fits_51 : decode cX17_fits 51 = .ok (.aload_n 0, 1) := dk_42 (dk_at dksX17_fits_2 4 rfl rfl)
theorem dX17_fits_52 : decode cX17_fits 52 = .ok (.getfield 25, 3) := dk_180 0 25 (dk_at dksX17_fits_2 5 rfl rfl)
theorem dX17_fits_55 : decode cX17_fits 55 = .ok (.iconst (-1), 1) := dk_2 (dk_at dksX17_fits_2 8 rfl rfl)
theorem dX17_fits_56 : decode cX17_fits 56 = .ok (.if_icmp .eq 14, 3) := dk_159 0 14 (dk_at dksX17_fits_2 9 rfl rfl)
theorem dX17_fits_59 : decode cX17_fits 59 = .ok (.aload_n 0, 1) := dk_42 (dk_at dksX17_fits_2 12 rfl rfl)
theorem dX17_fits_60 : decode cX17_fits 60 = .ok (.getfield 25, 3) := dk_180 0 25 (dk_at dksX17_fits_2 13 rfl rfl)
theorem dX17_fits_63 : decode cX17_fits 63 = .ok (.iload_n 1, 1) := dk_27 (dk_at dksX17_fits_2 16 rfl rfl)
theorem dX17_fits_64 : decode cX17_fits 64 = .ok (.bipush 10, 2) := dk_16 10 (dk_at dksX17_fits_2 17 rfl rfl)
theorem dX17_fits_66 : decode cX17_fits 66 = .ok (.irem, 1) := dk_112 (dk_at dksX17_fits_2 19 rfl rfl)
theorem dX17_fits_67 : decode cX17_fits 67 = .ok (.if_icmp .ne 7, 3) := dk_160 0 7 (dk_at dksX17_fits_2 20 rfl rfl)
theorem dX17_fits_70 : decode cX17_fits 70 = .ok (.iconst 1, 1) := dk_4 (dk_at dksX17_fits_2 23 rfl rfl)
theorem dX17_fits_71 : decode cX17_fits 71 = .ok (.goto 4, 3) := dk_167 0 4 (dk_at dksX17_fits_3 0 rfl rfl)
theorem dX17_fits_74 : decode cX17_fits 74 = .ok (.iconst 0, 1) := dk_3 (dk_at dksX17_fits_3 3 rfl rfl)
theorem dX17_fits_75 : decode cX17_fits 75 = .ok (.ireturn, 1) := dk_172 (dk_at dksX17_fits_3 4 rfl rfl)
theorem q153 : (Jvm.Cond.initialized "BrambleLogic$Goal") ∈ lw_all := lw_g (lw_at lw_m1 46 rfl) rfl
theorem q701 : (Jvm.Cond.selects "BrambleLogic$Goal" ({ cls := "java/lang/Object", name := "getClass", desc := "()Ljava/lang/Class;" } : Jvm.MethodName) ({ cls := "java/lang/Object", name := "getClass", desc := "()Ljava/lang/Class;" } : Jvm.MethodName)) ∈ lw_all := lw_g (lw_at lw_m3 114 rfl) rfl
theorem q1105 : (Jvm.Cond.instanceMethod ({ cls := "BrambleLogic$Goal", name := "isSameAs", desc := "(III)Z" } : Jvm.MethodName)) ∈ lw_all := lw_g (lw_at lw_m5 38 rfl) rfl
theorem q1106 : (Jvm.Cond.selects "BrambleLogic$Goal" ({ cls := "BrambleLogic$Goal", name := "isSameAs", desc := "(III)Z" } : Jvm.MethodName) ({ cls := "BrambleLogic$Goal", name := "isSameAs", desc := "(III)Z" } : Jvm.MethodName)) ∈ lw_all := lw_g (lw_at lw_m5 39 rfl) rfl
theorem q1107 : (Jvm.Cond.code ({ cls := "BrambleLogic$Goal", name := "isSameAs", desc := "(III)Z" } : Jvm.MethodName) prog_10_method_2_code (4 : Nat) (Option.some Jvm.ClassFile.FieldType.boolean)) ∈ lw_all := lw_g (lw_at lw_m5 40 rfl) rfl
theorem q1108 : (Jvm.Cond.instantiable "BrambleLogic$Goal" (4 : Nat)) ∈ lw_all := lw_g (lw_at lw_m5 41 rfl) rfl
theorem q1110 : (Jvm.Cond.instanceMethod ({ cls := "BrambleLogic$Goal", name := "<init>", desc := "(III)V" } : Jvm.MethodName)) ∈ lw_all := lw_g (lw_at lw_m5 43 rfl) rfl
theorem q1111 : (Jvm.Cond.code ({ cls := "BrambleLogic$Goal", name := "<init>", desc := "(III)V" } : Jvm.MethodName) prog_10_method_1_code (4 : Nat) (Option.none : Option Jvm.ClassFile.FieldType)) ∈ lw_all := lw_g (lw_at lw_m5 44 rfl) rfl
theorem q1112 : (Jvm.Cond.methodLink "BrambleLogic$Goal" (3 : Nat) ({ cls := "java/lang/Object", name := "<init>", desc := "()V" } : Jvm.MethodName)) ∈ lw_all := lw_g (lw_at lw_m5 45 rfl) rfl
theorem q1113 : (Jvm.Cond.classLink "BrambleLogic$Goal" (9 : Nat) "BrambleLogic$Codes") ∈ lw_all := lw_g (lw_at lw_m5 46 rfl) rfl
theorem q1114 : (Jvm.Cond.methodLink "BrambleLogic$Goal" (11 : Nat) ({ cls := "BrambleLogic$Codes", name := "<init>", desc := "()V" } : Jvm.MethodName)) ∈ lw_all := lw_g (lw_at lw_m5 47 rfl) rfl
theorem q1115 : (Jvm.Cond.fieldLink "BrambleLogic$Goal" (18 : Nat) "BrambleLogic$Goal" "predicate" "I") ∈ lw_all := lw_g (lw_at lw_m5 48 rfl) rfl
theorem q1118 : (Jvm.Cond.fieldLink "BrambleLogic$Goal" (22 : Nat) "BrambleLogic$Goal" "first" "I") ∈ lw_all := lw_g (lw_at lw_m5 51 rfl) rfl
theorem q1120 : (Jvm.Cond.fieldLink "BrambleLogic$Goal" (25 : Nat) "BrambleLogic$Goal" "second" "I") ∈ lw_all := lw_g (lw_at lw_m5 53 rfl) rfl
theorem q1122 : (Jvm.Cond.fieldLink "BrambleLogic$Goal" (12 : Nat) "BrambleLogic$Goal" "answers" "LBrambleLogic$Codes;") ∈ lw_all := lw_g (lw_at lw_m5 55 rfl) rfl
theorem q1124 : (Jvm.Cond.laysFinal "BrambleLogic$Goal" "BrambleLogic$Goal" "predicate" "I") ∈ lw_all := lw_g (lw_at lw_m5 57 rfl) rfl
theorem q1125 : (Jvm.Cond.soleField "BrambleLogic$Goal" "predicate") ∈ lw_all := lw_g (lw_at lw_m5 58 rfl) rfl
theorem q1126 : (Jvm.Cond.laysFinal "BrambleLogic$Goal" "BrambleLogic$Goal" "first" "I") ∈ lw_all := lw_g (lw_at lw_m5 59 rfl) rfl
theorem q1127 : (Jvm.Cond.soleField "BrambleLogic$Goal" "first") ∈ lw_all := lw_g (lw_at lw_m5 60 rfl) rfl
theorem q1128 : (Jvm.Cond.laysFinal "BrambleLogic$Goal" "BrambleLogic$Goal" "second" "I") ∈ lw_all := lw_g (lw_at lw_m5 61 rfl) rfl
theorem q1129 : (Jvm.Cond.soleField "BrambleLogic$Goal" "second") ∈ lw_all := lw_g (lw_at lw_m5 62 rfl) rfl
theorem q1130 : (Jvm.Cond.laysFinal "BrambleLogic$Goal" "BrambleLogic$Goal" "answers" "LBrambleLogic$Codes;") ∈ lw_all := lw_g (lw_at lw_m5 63 rfl) rfl
theorem q1131 : (Jvm.Cond.soleField "BrambleLogic$Goal" "answers") ∈ lw_all := lw_g (lw_at lw_m5 64 rfl) rfl
theorem q1132 : (Jvm.Cond.superclass "BrambleLogic$Goal" "java/lang/Object") ∈ lw_all := lw_g (lw_at lw_m5 65 rfl) rfl
theorem q1137 : (Jvm.Cond.instanceMethod ({ cls := "BrambleLogic$Goal", name := "fits", desc := "(I)Z" } : Jvm.MethodName)) ∈ lw_all := lw_g (lw_at lw_m5 70 rfl) rfl
theorem q1138 : (Jvm.Cond.selects "BrambleLogic$Goal" ({ cls := "BrambleLogic$Goal", name := "fits", desc := "(I)Z" } : Jvm.MethodName) ({ cls := "BrambleLogic$Goal", name := "fits", desc := "(I)Z" } : Jvm.MethodName)) ∈ lw_all := lw_g (lw_at lw_m5 71 rfl) rfl
theorem q1139 : (Jvm.Cond.code ({ cls := "BrambleLogic$Goal", name := "fits", desc := "(I)Z" } : Jvm.MethodName) prog_10_method_3_code (2 : Nat) (Option.some Jvm.ClassFile.FieldType.boolean)) ∈ lw_all := lw_g (lw_at lw_m5 72 rfl) rfl
theorem q1140 : (Jvm.Cond.methodLinkNest "BrambleLogic$Goal" (28 : Nat) ({ cls := "BrambleLogic", name := "isPair", desc := "(I)Z" } : Jvm.MethodName) "BrambleLogic") ∈ lw_tbl := lw_at lw_m5 73 rfl
theorem q3390 : (Jvm.Cond.castable "BrambleLogic$Goal" "java/lang/Object") ∈ lw_tbl := lw_at lw_m14 163 rfl
theorem in_X17 : ∀ w ∈ wsX170, w ∈ lw_all := lw_in wsX170 [1124, 1126, 1128, 1130] (by decide +kernel) (by decide +kernel)
/-! BrambleLogic$Goals -/
set_option maxRecDepth 100000
def RX18 : String := "BrambleLogic$Goals"
def TX18 : u_T := fun k => match k with
  | 0 => ("BrambleLogic$Goals", "logic", "LBrambleLogic$Logic;", true)
  | 1 => ("BrambleLogic$Goals", "goals", "Ljava/util/List;", true)
  | 2 => ("BrambleLogic$Goals", "negated", "LBrambleLogic$Facts;", true)
  | 3 => ("BrambleLogic$Goals", "solved", "I", false)
  | _ => ("BrambleLogic$Goals", "isNew", "Z", false)
def tyX18 : Nat → FieldType := fun k => match k with
  | 0 => .object "BrambleLogic$Logic"
  | 1 => .object "java/util/List"
  | 2 => .object "BrambleLogic$Facts"
  | 3 => .int
  | _ => .boolean
abbrev wsX180 : List Cond := u_ws RX18 TX18 5
theorem nmX18 : ∀ a, a < 5 → ∀ b, b < 5 → a ≠ b → (TX18 a).2.1 ≠ (TX18 b).2.1 := by decide +kernel
theorem tyX18_ok : ∀ k, k < 5 → parseFieldDescriptor (TX18 k).2.2.1 = some (tyX18 k) := by decide +kernel
abbrev cX18_init : ByteArray := prog_11_method_1_code
def yX18_init : MethodName := ⟨RX18, "<init>", "(LBrambleLogic$Logic;)V"⟩
def dkwX18_init_1 : List UInt8 := [181, 0, 21, 42, 43, 181, 0, 25, 177]
abbrev dktX18_init_1 : List UInt8 := dkwX18_init_1 ++ []
def dkwX18_init_0 : List UInt8 := [42, 183, 0, 3, 42, 187, 0, 9, 89, 183, 0, 11, 181, 0, 12, 42, 187, 0, 18, 89, 183, 0, 20]
abbrev dktX18_init_0 : List UInt8 := dkwX18_init_0 ++ dktX18_init_1
theorem dksX18_init_0 : cX18_init.data.toList.drop 0 = dktX18_init_0 := by decide +kernel
theorem dksX18_init_1 : cX18_init.data.toList.drop 23 = dktX18_init_1 := dk_seg dksX18_init_0 23 rfl rfl
theorem dX18_init_0 : decode cX18_init 0 = .ok (.aload_n 0, 1) := dk_42 (dk_at dksX18_init_0 0 rfl rfl)
theorem dX18_init_1 : decode cX18_init 1 = .ok (.invokespecial 3, 3) := dk_183 0 3 (dk_at dksX18_init_0 1 rfl rfl)
theorem dX18_init_4 : decode cX18_init 4 = .ok (.aload_n 0, 1) := dk_42 (dk_at dksX18_init_0 4 rfl rfl)
theorem dX18_init_5 : decode cX18_init 5 = .ok (.new 9, 3) := dk_187 0 9 (dk_at dksX18_init_0 5 rfl rfl)
theorem dX18_init_8 : decode cX18_init 8 = .ok (.dup, 1) := dk_89 (dk_at dksX18_init_0 8 rfl rfl)
theorem dX18_init_9 : decode cX18_init 9 = .ok (.invokespecial 11, 3) := dk_183 0 11 (dk_at dksX18_init_0 9 rfl rfl)
theorem dX18_init_12 : decode cX18_init 12 = .ok (.putfield 12, 3) := dk_181 0 12 (dk_at dksX18_init_0 12 rfl rfl)
theorem dX18_init_15 : decode cX18_init 15 = .ok (.aload_n 0, 1) := dk_42 (dk_at dksX18_init_0 15 rfl rfl)
theorem dX18_init_16 : decode cX18_init 16 = .ok (.new 18, 3) := dk_187 0 18 (dk_at dksX18_init_0 16 rfl rfl)
theorem dX18_init_19 : decode cX18_init 19 = .ok (.dup, 1) := dk_89 (dk_at dksX18_init_0 19 rfl rfl)
theorem dX18_init_20 : decode cX18_init 20 = .ok (.invokespecial 20, 3) := dk_183 0 20 (dk_at dksX18_init_0 20 rfl rfl)
theorem dX18_init_23 : decode cX18_init 23 = .ok (.putfield 21, 3) := dk_181 0 21 (dk_at dksX18_init_1 0 rfl rfl)
theorem dX18_init_26 : decode cX18_init 26 = .ok (.aload_n 0, 1) := dk_42 (dk_at dksX18_init_1 3 rfl rfl)
theorem dX18_init_27 : decode cX18_init 27 = .ok (.aload_n 1, 1) := dk_43 (dk_at dksX18_init_1 4 rfl rfl)
theorem dX18_init_28 : decode cX18_init 28 = .ok (.putfield 25, 3) := dk_181 0 25 (dk_at dksX18_init_1 5 rfl rfl)
theorem dX18_init_31 : decode cX18_init 31 = .ok (.return_, 1) := dk_177 (dk_at dksX18_init_1 8 rfl rfl)
abbrev cX18_solve : ByteArray := prog_11_method_3_code
def yX18_solve : MethodName := ⟨RX18, "solve", "(III)LBrambleLogic$Codes;"⟩
def dkwX18_solve_3 : List UInt8 := [167, 255, 203, 25, 4, 180, 0, 75, 176]
abbrev dktX18_solve_3 : List UInt8 := dkwX18_solve_3 ++ []
def dkwX18_solve_2 : List UInt8 := [180, 0, 12, 21, 5, 185, 0, 91, 2, 0, 192, 0, 45, 182, 0, 95, 132, 5, 1, 167, 255, 221]
abbrev dktX18_solve_2 : List UInt8 := dkwX18_solve_2 ++ dktX18_solve_3
def dkwX18_solve_1 : List UInt8 := [181, 0, 58, 3, 54, 5, 21, 5, 42, 180, 0, 12, 185, 0, 87, 1, 0, 162, 0, 27, 42, 42]
abbrev dktX18_solve_1 : List UInt8 := dkwX18_solve_1 ++ dktX18_solve_2
def dkwX18_solve_0 : List UInt8 := [42, 27, 28, 29, 182, 0, 83, 58, 4, 42, 4, 181, 0, 58, 42, 180, 0, 58, 153, 0, 52, 42, 3]
abbrev dktX18_solve_0 : List UInt8 := dkwX18_solve_0 ++ dktX18_solve_1
theorem dksX18_solve_0 : cX18_solve.data.toList.drop 0 = dktX18_solve_0 := by decide +kernel
theorem dksX18_solve_1 : cX18_solve.data.toList.drop 23 = dktX18_solve_1 := dk_seg dksX18_solve_0 23 rfl rfl
theorem dksX18_solve_2 : cX18_solve.data.toList.drop 45 = dktX18_solve_2 := dk_seg dksX18_solve_1 22 rfl rfl
theorem dksX18_solve_3 : cX18_solve.data.toList.drop 67 = dktX18_solve_3 := dk_seg dksX18_solve_2 22 rfl rfl
theorem dX18_solve_0 : decode cX18_solve 0 = .ok (.aload_n 0, 1) := dk_42 (dk_at dksX18_solve_0 0 rfl rfl)
theorem dX18_solve_1 : decode cX18_solve 1 = .ok (.iload_n 1, 1) := dk_27 (dk_at dksX18_solve_0 1 rfl rfl)
theorem dX18_solve_2 : decode cX18_solve 2 = .ok (.iload_n 2, 1) := dk_28 (dk_at dksX18_solve_0 2 rfl rfl)
theorem dX18_solve_3 : decode cX18_solve 3 = .ok (.iload_n 3, 1) := dk_29 (dk_at dksX18_solve_0 3 rfl rfl)
theorem dX18_solve_4 : decode cX18_solve 4 = .ok (.invokevirtual 83, 3) := dk_182 0 83 (dk_at dksX18_solve_0 4 rfl rfl)
theorem dX18_solve_7 : decode cX18_solve 7 = .ok (.astore 4, 2) := dk_58 4 (dk_at dksX18_solve_0 7 rfl rfl)
theorem dX18_solve_9 : decode cX18_solve 9 = .ok (.aload_n 0, 1) := dk_42 (dk_at dksX18_solve_0 9 rfl rfl)
theorem dX18_solve_10 : decode cX18_solve 10 = .ok (.iconst 1, 1) := dk_4 (dk_at dksX18_solve_0 10 rfl rfl)
theorem dX18_solve_11 : decode cX18_solve 11 = .ok (.putfield 58, 3) := dk_181 0 58 (dk_at dksX18_solve_0 11 rfl rfl)
theorem dX18_solve_14 : decode cX18_solve 14 = .ok (.aload_n 0, 1) := dk_42 (dk_at dksX18_solve_0 14 rfl rfl)
theorem dX18_solve_15 : decode cX18_solve 15 = .ok (.getfield 58, 3) := dk_180 0 58 (dk_at dksX18_solve_0 15 rfl rfl)
theorem dX18_solve_18 : decode cX18_solve 18 = .ok (.ifCond .eq 52, 3) := dk_153 0 52 (dk_at dksX18_solve_0 18 rfl rfl)
theorem dX18_solve_21 : decode cX18_solve 21 = .ok (.aload_n 0, 1) := dk_42 (dk_at dksX18_solve_0 21 rfl rfl)
theorem dX18_solve_22 : decode cX18_solve 22 = .ok (.iconst 0, 1) := dk_3 (dk_at dksX18_solve_0 22 rfl rfl)
theorem dX18_solve_23 : decode cX18_solve 23 = .ok (.putfield 58, 3) := dk_181 0 58 (dk_at dksX18_solve_1 0 rfl rfl)
theorem dX18_solve_26 : decode cX18_solve 26 = .ok (.iconst 0, 1) := dk_3 (dk_at dksX18_solve_1 3 rfl rfl)
theorem dX18_solve_27 : decode cX18_solve 27 = .ok (.istore 5, 2) := dk_54 5 (dk_at dksX18_solve_1 4 rfl rfl)
theorem dX18_solve_29 : decode cX18_solve 29 = .ok (.iload 5, 2) := dk_21 5 (dk_at dksX18_solve_1 6 rfl rfl)
theorem dX18_solve_31 : decode cX18_solve 31 = .ok (.aload_n 0, 1) := dk_42 (dk_at dksX18_solve_1 8 rfl rfl)
theorem dX18_solve_32 : decode cX18_solve 32 = .ok (.getfield 12, 3) := dk_180 0 12 (dk_at dksX18_solve_1 9 rfl rfl)
theorem dX18_solve_35 : decode cX18_solve 35 = .ok (.invokeinterface 87 1, 5) := by decide +kernel
theorem dX18_solve_40 : decode cX18_solve 40 = .ok (.if_icmp .ge 27, 3) := dk_162 0 27 (dk_at dksX18_solve_1 17 rfl rfl)
theorem dX18_solve_43 : decode cX18_solve 43 = .ok (.aload_n 0, 1) := dk_42 (dk_at dksX18_solve_1 20 rfl rfl)
theorem dX18_solve_44 : decode cX18_solve 44 = .ok (.aload_n 0, 1) := dk_42 (dk_at dksX18_solve_1 21 rfl rfl)
theorem dX18_solve_45 : decode cX18_solve 45 = .ok (.getfield 12, 3) := dk_180 0 12 (dk_at dksX18_solve_2 0 rfl rfl)
theorem dX18_solve_48 : decode cX18_solve 48 = .ok (.iload 5, 2) := dk_21 5 (dk_at dksX18_solve_2 3 rfl rfl)
theorem dX18_solve_50 : decode cX18_solve 50 = .ok (.invokeinterface 91 2, 5) := by decide +kernel
theorem dX18_solve_55 : decode cX18_solve 55 = .ok (.checkcast 45, 3) := dk_192 0 45 (dk_at dksX18_solve_2 10 rfl rfl)
theorem dX18_solve_58 : decode cX18_solve 58 = .ok (.invokevirtual 95, 3) := dk_182 0 95 (dk_at dksX18_solve_2 13 rfl rfl)
theorem dX18_solve_61 : decode cX18_solve 61 = .ok (.iinc 5 1, 3) := dk_132 5 1 (dk_at dksX18_solve_2 16 rfl rfl)
theorem dX18_solve_64 : decode cX18_solve 64 = .ok (.goto (-35), 3) := dk_167 255 221 (dk_at dksX18_solve_2 19 rfl rfl)
theorem dX18_solve_67 : decode cX18_solve 67 = .ok (.goto (-53), 3) := dk_167 255 203 (dk_at dksX18_solve_3 0 rfl rfl)
theorem dX18_solve_70 : decode cX18_solve 70 = .ok (.aload 4, 2) := dk_25 4 (dk_at dksX18_solve_3 3 rfl rfl)
theorem dX18_solve_72 : decode cX18_solve 72 = .ok (.getfield 75, 3) := dk_180 0 75 (dk_at dksX18_solve_3 5 rfl rfl)
theorem dX18_solve_75 : decode cX18_solve 75 = .ok (.areturn, 1) := dk_176 (dk_at dksX18_solve_3 8 rfl rfl)
abbrev cX18_goal : ByteArray := prog_11_method_2_code
def yX18_goal : MethodName := ⟨RX18, "goal", "(III)LBrambleLogic$Goal;"⟩
def dkwX18_goal_5 : List UInt8 := [153, 0, 15, 25, 4, 180, 0, 75, 21, 5, 182, 0, 79, 54, 6, 132, 5, 1, 167, 255, 208, 25, 4, 176]
abbrev dktX18_goal_5 : List UInt8 := dkwX18_goal_5 ++ []
def dkwX18_goal_4 : List UInt8 := [180, 0, 25, 180, 0, 62, 27, 21, 5, 182, 0, 67, 153, 0, 25, 25, 4, 21, 5, 182, 0, 71]
abbrev dktX18_goal_4 : List UInt8 := dkwX18_goal_4 ++ dktX18_goal_5
def dkwX18_goal_3 : List UInt8 := [185, 0, 54, 2, 0, 87, 42, 4, 181, 0, 58, 3, 54, 5, 21, 5, 16, 100, 162, 0, 47, 42]
abbrev dktX18_goal_3 : List UInt8 := dkwX18_goal_3 ++ dktX18_goal_4
def dkwX18_goal_2 : List UInt8 := [167, 255, 220, 187, 0, 45, 89, 27, 28, 29, 183, 0, 51, 58, 4, 42, 180, 0, 12, 25, 4]
abbrev dktX18_goal_2 : List UInt8 := dkwX18_goal_2 ++ dktX18_goal_3
def dkwX18_goal_1 : List UInt8 := [185, 0, 41, 1, 0, 192, 0, 45, 58, 5, 25, 5, 27, 28, 29, 182, 0, 47, 153, 0, 6, 25, 5, 176]
abbrev dktX18_goal_1 : List UInt8 := dkwX18_goal_1 ++ dktX18_goal_2
def dkwX18_goal_0 : List UInt8 := [42, 180, 0, 12, 185, 0, 29, 1, 0, 58, 4, 25, 4, 185, 0, 35, 1, 0, 153, 0, 32, 25, 4]
abbrev dktX18_goal_0 : List UInt8 := dkwX18_goal_0 ++ dktX18_goal_1
theorem dksX18_goal_0 : cX18_goal.data.toList.drop 0 = dktX18_goal_0 := by decide +kernel
theorem dksX18_goal_1 : cX18_goal.data.toList.drop 23 = dktX18_goal_1 := dk_seg dksX18_goal_0 23 rfl rfl
theorem dksX18_goal_2 : cX18_goal.data.toList.drop 47 = dktX18_goal_2 := dk_seg dksX18_goal_1 24 rfl rfl
theorem dksX18_goal_3 : cX18_goal.data.toList.drop 68 = dktX18_goal_3 := dk_seg dksX18_goal_2 21 rfl rfl
theorem dksX18_goal_4 : cX18_goal.data.toList.drop 90 = dktX18_goal_4 := dk_seg dksX18_goal_3 22 rfl rfl
theorem dksX18_goal_5 : cX18_goal.data.toList.drop 112 = dktX18_goal_5 := dk_seg dksX18_goal_4 22 rfl rfl
theorem dX18_goal_0 : decode cX18_goal 0 = .ok (.aload_n 0, 1) := dk_42 (dk_at dksX18_goal_0 0 rfl rfl)
theorem dX18_goal_1 : decode cX18_goal 1 = .ok (.getfield 12, 3) := dk_180 0 12 (dk_at dksX18_goal_0 1 rfl rfl)
theorem dX18_goal_4 : decode cX18_goal 4 = .ok (.invokeinterface 29 1, 5) := by decide +kernel
theorem dX18_goal_9 : decode cX18_goal 9 = .ok (.astore 4, 2) := dk_58 4 (dk_at dksX18_goal_0 9 rfl rfl)
theorem dX18_goal_11 : decode cX18_goal 11 = .ok (.aload 4, 2) := dk_25 4 (dk_at dksX18_goal_0 11 rfl rfl)
theorem dX18_goal_13 : decode cX18_goal 13 = .ok (.invokeinterface 35 1, 5) := by decide +kernel
theorem dX18_goal_18 : decode cX18_goal 18 = .ok (.ifCond .eq 32, 3) := dk_153 0 32 (dk_at dksX18_goal_0 18 rfl rfl)
theorem dX18_goal_21 : decode cX18_goal 21 = .ok (.aload 4, 2) := dk_25 4 (dk_at dksX18_goal_0 21 rfl rfl)
theorem dX18_goal_23 : decode cX18_goal 23 = .ok (.invokeinterface 41 1, 5) := by decide +kernel
theorem dX18_goal_28 : decode cX18_goal 28 = .ok (.checkcast 45, 3) := dk_192 0 45 (dk_at dksX18_goal_1 5 rfl rfl)
theorem dX18_goal_31 : decode cX18_goal 31 = .ok (.astore 5, 2) := dk_58 5 (dk_at dksX18_goal_1 8 rfl rfl)
theorem dX18_goal_33 : decode cX18_goal 33 = .ok (.aload 5, 2) := dk_25 5 (dk_at dksX18_goal_1 10 rfl rfl)
theorem dX18_goal_35 : decode cX18_goal 35 = .ok (.iload_n 1, 1) := dk_27 (dk_at dksX18_goal_1 12 rfl rfl)
theorem dX18_goal_36 : decode cX18_goal 36 = .ok (.iload_n 2, 1) := dk_28 (dk_at dksX18_goal_1 13 rfl rfl)
theorem dX18_goal_37 : decode cX18_goal 37 = .ok (.iload_n 3, 1) := dk_29 (dk_at dksX18_goal_1 14 rfl rfl)
theorem dX18_goal_38 : decode cX18_goal 38 = .ok (.invokevirtual 47, 3) := dk_182 0 47 (dk_at dksX18_goal_1 15 rfl rfl)
theorem dX18_goal_41 : decode cX18_goal 41 = .ok (.ifCond .eq 6, 3) := dk_153 0 6 (dk_at dksX18_goal_1 18 rfl rfl)
theorem dX18_goal_44 : decode cX18_goal 44 = .ok (.aload 5, 2) := dk_25 5 (dk_at dksX18_goal_1 21 rfl rfl)
theorem dX18_goal_46 : decode cX18_goal 46 = .ok (.areturn, 1) := dk_176 (dk_at dksX18_goal_1 23 rfl rfl)
theorem dX18_goal_47 : decode cX18_goal 47 = .ok (.goto (-36), 3) := dk_167 255 220 (dk_at dksX18_goal_2 0 rfl rfl)
theorem dX18_goal_50 : decode cX18_goal 50 = .ok (.new 45, 3) := dk_187 0 45 (dk_at dksX18_goal_2 3 rfl rfl)
theorem dX18_goal_53 : decode cX18_goal 53 = .ok (.dup, 1) := dk_89 (dk_at dksX18_goal_2 6 rfl rfl)
theorem dX18_goal_54 : decode cX18_goal 54 = .ok (.iload_n 1, 1) := dk_27 (dk_at dksX18_goal_2 7 rfl rfl)
theorem dX18_goal_55 : decode cX18_goal 55 = .ok (.iload_n 2, 1) := dk_28 (dk_at dksX18_goal_2 8 rfl rfl)
theorem dX18_goal_56 : decode cX18_goal 56 = .ok (.iload_n 3, 1) := dk_29 (dk_at dksX18_goal_2 9 rfl rfl)
theorem dX18_goal_57 : decode cX18_goal 57 = .ok (.invokespecial 51, 3) := dk_183 0 51 (dk_at dksX18_goal_2 10 rfl rfl)
theorem dX18_goal_60 : decode cX18_goal 60 = .ok (.astore 4, 2) := dk_58 4 (dk_at dksX18_goal_2 13 rfl rfl)
theorem dX18_goal_62 : decode cX18_goal 62 = .ok (.aload_n 0, 1) := dk_42 (dk_at dksX18_goal_2 15 rfl rfl)
theorem dX18_goal_63 : decode cX18_goal 63 = .ok (.getfield 12, 3) := dk_180 0 12 (dk_at dksX18_goal_2 16 rfl rfl)
theorem dX18_goal_66 : decode cX18_goal 66 = .ok (.aload 4, 2) := dk_25 4 (dk_at dksX18_goal_2 19 rfl rfl)
theorem dX18_goal_68 : decode cX18_goal 68 = .ok (.invokeinterface 54 2, 5) := by decide +kernel
theorem dX18_goal_73 : decode cX18_goal 73 = .ok (.pop, 1) := dk_87 (dk_at dksX18_goal_3 5 rfl rfl)
theorem dX18_goal_74 : decode cX18_goal 74 = .ok (.aload_n 0, 1) := dk_42 (dk_at dksX18_goal_3 6 rfl rfl)
theorem dX18_goal_75 : decode cX18_goal 75 = .ok (.iconst 1, 1) := dk_4 (dk_at dksX18_goal_3 7 rfl rfl)
theorem dX18_goal_76 : decode cX18_goal 76 = .ok (.putfield 58, 3) := dk_181 0 58 (dk_at dksX18_goal_3 8 rfl rfl)
theorem dX18_goal_79 : decode cX18_goal 79 = .ok (.iconst 0, 1) := dk_3 (dk_at dksX18_goal_3 11 rfl rfl)
theorem dX18_goal_80 : decode cX18_goal 80 = .ok (.istore 5, 2) := dk_54 5 (dk_at dksX18_goal_3 12 rfl rfl)
theorem dX18_goal_82 : decode cX18_goal 82 = .ok (.iload 5, 2) := dk_21 5 (dk_at dksX18_goal_3 14 rfl rfl)
theorem dX18_goal_84 : decode cX18_goal 84 = .ok (.bipush 100, 2) := dk_16 100 (dk_at dksX18_goal_3 16 rfl rfl)
theorem dX18_goal_86 : decode cX18_goal 86 = .ok (.if_icmp .ge 47, 3) := dk_162 0 47 (dk_at dksX18_goal_3 18 rfl rfl)
theorem dX18_goal_89 : decode cX18_goal 89 = .ok (.aload_n 0, 1) := dk_42 (dk_at dksX18_goal_3 21 rfl rfl)
theorem dX18_goal_90 : decode cX18_goal 90 = .ok (.getfield 25, 3) := dk_180 0 25 (dk_at dksX18_goal_4 0 rfl rfl)
theorem dX18_goal_93 : decode cX18_goal 93 = .ok (.getfield 62, 3) := dk_180 0 62 (dk_at dksX18_goal_4 3 rfl rfl)
theorem dX18_goal_96 : decode cX18_goal 96 = .ok (.iload_n 1, 1) := dk_27 (dk_at dksX18_goal_4 6 rfl rfl)
theorem dX18_goal_97 : decode cX18_goal 97 = .ok (.iload 5, 2) := dk_21 5 (dk_at dksX18_goal_4 7 rfl rfl)
theorem dX18_goal_99 : decode cX18_goal 99 = .ok (.invokevirtual 67, 3) := dk_182 0 67 (dk_at dksX18_goal_4 9 rfl rfl)
theorem dX18_goal_102 : decode cX18_goal 102 = .ok (.ifCond .eq 25, 3) := dk_153 0 25 (dk_at dksX18_goal_4 12 rfl rfl)
theorem dX18_goal_105 : decode cX18_goal 105 = .ok (.aload 4, 2) := dk_25 4 (dk_at dksX18_goal_4 15 rfl rfl)
theorem dX18_goal_107 : decode cX18_goal 107 = .ok (.iload 5, 2) := dk_21 5 (dk_at dksX18_goal_4 17 rfl rfl)
theorem dX18_goal_109 : decode cX18_goal 109 = .ok (.invokevirtual 71, 3) := dk_182 0 71 (dk_at dksX18_goal_4 19 rfl rfl)
theorem dX18_goal_112 : decode cX18_goal 112 = .ok (.ifCond .eq 15, 3) := dk_153 0 15 (dk_at dksX18_goal_5 0 rfl rfl)
theorem dX18_goal_115 : decode cX18_goal 115 = .ok (.aload 4, 2) := dk_25 4 (dk_at dksX18_goal_5 3 rfl rfl)
theorem dX18_goal_117 : decode cX18_goal 117 = .ok (.getfield 75, 3) := dk_180 0 75 (dk_at dksX18_goal_5 5 rfl rfl)
theorem dX18_goal_120 : decode cX18_goal 120 = .ok (.iload 5, 2) := dk_21 5 (dk_at dksX18_goal_5 8 rfl rfl)
theorem dX18_goal_122 : decode cX18_goal 122 = .ok (.invokevirtual 79, 3) := dk_182 0 79 (dk_at dksX18_goal_5 10 rfl rfl)
theorem dX18_goal_125 : decode cX18_goal 125 = .ok (.istore 6, 2) := dk_54 6 (dk_at dksX18_goal_5 13 rfl rfl)
theorem dX18_goal_127 : decode cX18_goal 127 = .ok (.iinc 5 1, 3) := dk_132 5 1 (dk_at dksX18_goal_5 15 rfl rfl)
theorem dX18_goal_130 : decode cX18_goal 130 = .ok (.goto (-48), 3) := dk_167 255 208 (dk_at dksX18_goal_5 18 rfl rfl)
theorem dX18_goal_133 : decode cX18_goal 133 = .ok (.aload 4, 2) := dk_25 4 (dk_at dksX18_goal_5 21 rfl rfl)
theorem dX18_goal_135 : decode cX18_goal 135 = .ok (.areturn, 1) := dk_176 (dk_at dksX18_goal_5 23 rfl rfl)
abbrev cX18_work : ByteArray := prog_11_method_4_code
def yX18_work : MethodName := ⟨RX18, "work", "(LBrambleLogic$Goal;)V"⟩
def dkwX18_work_3 : List UInt8 := [25, 4, 182, 0, 125, 167, 255, 196, 177]
abbrev dktX18_work_3 : List UInt8 := dkwX18_work_3 ++ []
def dkwX18_work_2 : List UInt8 := [180, 0, 120, 160, 0, 25, 45, 180, 0, 110, 43, 25, 4, 184, 0, 121, 153, 0, 12, 42, 43, 45, 3]
abbrev dktX18_work_2 : List UInt8 := dkwX18_work_2 ++ dktX18_work_3
def dkwX18_work_1 : List UInt8 := [185, 0, 41, 1, 0, 192, 0, 102, 78, 184, 0, 104, 58, 4, 45, 180, 0, 110, 180, 0, 114, 43]
abbrev dktX18_work_1 : List UInt8 := dkwX18_work_1 ++ dktX18_work_2
def dkwX18_work_0 : List UInt8 := [42, 180, 0, 25, 180, 0, 99, 185, 0, 29, 1, 0, 77, 44, 185, 0, 35, 1, 0, 153, 0, 57, 44]
abbrev dktX18_work_0 : List UInt8 := dkwX18_work_0 ++ dktX18_work_1
theorem dksX18_work_0 : cX18_work.data.toList.drop 0 = dktX18_work_0 := by decide +kernel
theorem dksX18_work_1 : cX18_work.data.toList.drop 23 = dktX18_work_1 := dk_seg dksX18_work_0 23 rfl rfl
theorem dksX18_work_2 : cX18_work.data.toList.drop 45 = dktX18_work_2 := dk_seg dksX18_work_1 22 rfl rfl
theorem dksX18_work_3 : cX18_work.data.toList.drop 68 = dktX18_work_3 := dk_seg dksX18_work_2 23 rfl rfl
theorem dX18_work_0 : decode cX18_work 0 = .ok (.aload_n 0, 1) := dk_42 (dk_at dksX18_work_0 0 rfl rfl)
theorem dX18_work_1 : decode cX18_work 1 = .ok (.getfield 25, 3) := dk_180 0 25 (dk_at dksX18_work_0 1 rfl rfl)
theorem dX18_work_4 : decode cX18_work 4 = .ok (.getfield 99, 3) := dk_180 0 99 (dk_at dksX18_work_0 4 rfl rfl)
theorem dX18_work_7 : decode cX18_work 7 = .ok (.invokeinterface 29 1, 5) := by decide +kernel
theorem dX18_work_12 : decode cX18_work 12 = .ok (.astore_n 2, 1) := dk_77 (dk_at dksX18_work_0 12 rfl rfl)
theorem dX18_work_13 : decode cX18_work 13 = .ok (.aload_n 2, 1) := dk_44 (dk_at dksX18_work_0 13 rfl rfl)
theorem dX18_work_14 : decode cX18_work 14 = .ok (.invokeinterface 35 1, 5) := by decide +kernel
theorem dX18_work_19 : decode cX18_work 19 = .ok (.ifCond .eq 57, 3) := dk_153 0 57 (dk_at dksX18_work_0 19 rfl rfl)
theorem dX18_work_22 : decode cX18_work 22 = .ok (.aload_n 2, 1) := dk_44 (dk_at dksX18_work_0 22 rfl rfl)
theorem dX18_work_23 : decode cX18_work 23 = .ok (.invokeinterface 41 1, 5) := by decide +kernel
theorem dX18_work_28 : decode cX18_work 28 = .ok (.checkcast 102, 3) := dk_192 0 102 (dk_at dksX18_work_1 5 rfl rfl)
theorem dX18_work_31 : decode cX18_work 31 = .ok (.astore_n 3, 1) := dk_78 (dk_at dksX18_work_1 8 rfl rfl)
theorem dX18_work_32 : decode cX18_work 32 = .ok (.invokestatic 104, 3) := dk_184 0 104 (dk_at dksX18_work_1 9 rfl rfl)
theorem dX18_work_35 : decode cX18_work 35 = .ok (.astore 4, 2) := dk_58 4 (dk_at dksX18_work_1 12 rfl rfl)
theorem dX18_work_37 : decode cX18_work 37 = .ok (.aload_n 3, 1) := dk_45 (dk_at dksX18_work_1 14 rfl rfl)
theorem dX18_work_38 : decode cX18_work 38 = .ok (.getfield 110, 3) := dk_180 0 110 (dk_at dksX18_work_1 15 rfl rfl)
theorem dX18_work_41 : decode cX18_work 41 = .ok (.getfield 114, 3) := dk_180 0 114 (dk_at dksX18_work_1 18 rfl rfl)
theorem dX18_work_44 : decode cX18_work 44 = .ok (.aload_n 1, 1) := dk_43 (dk_at dksX18_work_1 21 rfl rfl)
theorem dX18_work_45 : decode cX18_work 45 = .ok (.getfield 120, 3) := dk_180 0 120 (dk_at dksX18_work_2 0 rfl rfl)
theorem dX18_work_48 : decode cX18_work 48 = .ok (.if_icmp .ne 25, 3) := dk_160 0 25 (dk_at dksX18_work_2 3 rfl rfl)
theorem dX18_work_51 : decode cX18_work 51 = .ok (.aload_n 3, 1) := dk_45 (dk_at dksX18_work_2 6 rfl rfl)
theorem dX18_work_52 : decode cX18_work 52 = .ok (.getfield 110, 3) := dk_180 0 110 (dk_at dksX18_work_2 7 rfl rfl)
theorem dX18_work_55 : decode cX18_work 55 = .ok (.aload_n 1, 1) := dk_43 (dk_at dksX18_work_2 10 rfl rfl)
theorem dX18_work_56 : decode cX18_work 56 = .ok (.aload 4, 2) := dk_25 4 (dk_at dksX18_work_2 11 rfl rfl)
theorem dX18_work_58 : decode cX18_work 58 = .ok (.invokestatic 121, 3) := dk_184 0 121 (dk_at dksX18_work_2 13 rfl rfl)
theorem dX18_work_61 : decode cX18_work 61 = .ok (.ifCond .eq 12, 3) := dk_153 0 12 (dk_at dksX18_work_2 16 rfl rfl)
theorem dX18_work_64 : decode cX18_work 64 = .ok (.aload_n 0, 1) := dk_42 (dk_at dksX18_work_2 19 rfl rfl)
theorem dX18_work_65 : decode cX18_work 65 = .ok (.aload_n 1, 1) := dk_43 (dk_at dksX18_work_2 20 rfl rfl)
theorem dX18_work_66 : decode cX18_work 66 = .ok (.aload_n 3, 1) := dk_45 (dk_at dksX18_work_2 21 rfl rfl)
theorem dX18_work_67 : decode cX18_work 67 = .ok (.iconst 0, 1) := dk_3 (dk_at dksX18_work_2 22 rfl rfl)
theorem dX18_work_68 : decode cX18_work 68 = .ok (.aload 4, 2) := dk_25 4 (dk_at dksX18_work_3 0 rfl rfl)
theorem dX18_work_70 : decode cX18_work 70 = .ok (.invokevirtual 125, 3) := dk_182 0 125 (dk_at dksX18_work_3 2 rfl rfl)
theorem dX18_work_73 : decode cX18_work 73 = .ok (.goto (-60), 3) := dk_167 255 196 (dk_at dksX18_work_3 5 rfl rfl)
theorem dX18_work_76 : decode cX18_work 76 = .ok (.return_, 1) := dk_177 (dk_at dksX18_work_3 8 rfl rfl)
abbrev cX18_bindHead : ByteArray := prog_11_method_5_code
def yX18_bindHead : MethodName := ⟨RX18, "bindHead", "(LBrambleLogic$Atom;LBrambleLogic$Goal;[I)Z"⟩
def dkwX18_bindHead_2 : List UInt8 := [180, 0, 137, 44, 184, 0, 133, 153, 0, 7, 4, 167, 0, 4, 3, 172]
abbrev dktX18_bindHead_2 : List UInt8 := dkwX18_bindHead_2 ++ []
def dkwX18_bindHead_1 : List UInt8 := [167, 0, 4, 3, 62, 29, 153, 0, 30, 43, 180, 0, 137, 2, 159, 0, 18, 42, 180, 0, 140, 43]
abbrev dktX18_bindHead_1 : List UInt8 := dkwX18_bindHead_1 ++ dktX18_bindHead_2
def dkwX18_bindHead_0 : List UInt8 := [43, 180, 0, 129, 2, 159, 0, 18, 42, 180, 0, 132, 43, 180, 0, 129, 44, 184, 0, 133, 153, 0, 7, 4]
abbrev dktX18_bindHead_0 : List UInt8 := dkwX18_bindHead_0 ++ dktX18_bindHead_1
theorem dksX18_bindHead_0 : cX18_bindHead.data.toList.drop 0 = dktX18_bindHead_0 := by decide +kernel
theorem dksX18_bindHead_1 : cX18_bindHead.data.toList.drop 24 = dktX18_bindHead_1 := dk_seg dksX18_bindHead_0 24 rfl rfl
theorem dksX18_bindHead_2 : cX18_bindHead.data.toList.drop 46 = dktX18_bindHead_2 := dk_seg dksX18_bindHead_1 22 rfl rfl
theorem dX18_bindHead_0 : decode cX18_bindHead 0 = .ok (.aload_n 1, 1) := dk_43 (dk_at dksX18_bindHead_0 0 rfl rfl)
theorem dX18_bindHead_1 : decode cX18_bindHead 1 = .ok (.getfield 129, 3) := dk_180 0 129 (dk_at dksX18_bindHead_0 1 rfl rfl)
theorem dX18_bindHead_4 : decode cX18_bindHead 4 = .ok (.iconst (-1), 1) := dk_2 (dk_at dksX18_bindHead_0 4 rfl rfl)
theorem dX18_bindHead_5 : decode cX18_bindHead 5 = .ok (.if_icmp .eq 18, 3) := dk_159 0 18 (dk_at dksX18_bindHead_0 5 rfl rfl)
theorem dX18_bindHead_8 : decode cX18_bindHead 8 = .ok (.aload_n 0, 1) := dk_42 (dk_at dksX18_bindHead_0 8 rfl rfl)
theorem dX18_bindHead_9 : decode cX18_bindHead 9 = .ok (.getfield 132, 3) := dk_180 0 132 (dk_at dksX18_bindHead_0 9 rfl rfl)
theorem dX18_bindHead_12 : decode cX18_bindHead 12 = .ok (.aload_n 1, 1) := dk_43 (dk_at dksX18_bindHead_0 12 rfl rfl)
theorem dX18_bindHead_13 : decode cX18_bindHead 13 = .ok (.getfield 129, 3) := dk_180 0 129 (dk_at dksX18_bindHead_0 13 rfl rfl)
theorem dX18_bindHead_16 : decode cX18_bindHead 16 = .ok (.aload_n 2, 1) := dk_44 (dk_at dksX18_bindHead_0 16 rfl rfl)
theorem dX18_bindHead_17 : decode cX18_bindHead 17 = .ok (.invokestatic 133, 3) := dk_184 0 133 (dk_at dksX18_bindHead_0 17 rfl rfl)
theorem dX18_bindHead_20 : decode cX18_bindHead 20 = .ok (.ifCond .eq 7, 3) := dk_153 0 7 (dk_at dksX18_bindHead_0 20 rfl rfl)
theorem dX18_bindHead_23 : decode cX18_bindHead 23 = .ok (.iconst 1, 1) := dk_4 (dk_at dksX18_bindHead_0 23 rfl rfl)
theorem dX18_bindHead_24 : decode cX18_bindHead 24 = .ok (.goto 4, 3) := dk_167 0 4 (dk_at dksX18_bindHead_1 0 rfl rfl)
theorem dX18_bindHead_27 : decode cX18_bindHead 27 = .ok (.iconst 0, 1) := dk_3 (dk_at dksX18_bindHead_1 3 rfl rfl)
theorem dX18_bindHead_28 : decode cX18_bindHead 28 = .ok (.istore_n 3, 1) := dk_62 (dk_at dksX18_bindHead_1 4 rfl rfl)
theorem dX18_bindHead_29 : decode cX18_bindHead 29 = .ok (.iload_n 3, 1) := dk_29 (dk_at dksX18_bindHead_1 5 rfl rfl)
theorem dX18_bindHead_30 : decode cX18_bindHead 30 = .ok (.ifCond .eq 30, 3) := dk_153 0 30 (dk_at dksX18_bindHead_1 6 rfl rfl)
theorem dX18_bindHead_33 : decode cX18_bindHead 33 = .ok (.aload_n 1, 1) := dk_43 (dk_at dksX18_bindHead_1 9 rfl rfl)
theorem dX18_bindHead_34 : decode cX18_bindHead 34 = .ok (.getfield 137, 3) := dk_180 0 137 (dk_at dksX18_bindHead_1 10 rfl rfl)
theorem dX18_bindHead_37 : decode cX18_bindHead 37 = .ok (.iconst (-1), 1) := dk_2 (dk_at dksX18_bindHead_1 13 rfl rfl)
theorem dX18_bindHead_38 : decode cX18_bindHead 38 = .ok (.if_icmp .eq 18, 3) := dk_159 0 18 (dk_at dksX18_bindHead_1 14 rfl rfl)
theorem dX18_bindHead_41 : decode cX18_bindHead 41 = .ok (.aload_n 0, 1) := dk_42 (dk_at dksX18_bindHead_1 17 rfl rfl)
theorem dX18_bindHead_42 : decode cX18_bindHead 42 = .ok (.getfield 140, 3) := dk_180 0 140 (dk_at dksX18_bindHead_1 18 rfl rfl)
theorem dX18_bindHead_45 : decode cX18_bindHead 45 = .ok (.aload_n 1, 1) := dk_43 (dk_at dksX18_bindHead_1 21 rfl rfl)
theorem dX18_bindHead_46 : decode cX18_bindHead 46 = .ok (.getfield 137, 3) := dk_180 0 137 (dk_at dksX18_bindHead_2 0 rfl rfl)
theorem dX18_bindHead_49 : decode cX18_bindHead 49 = .ok (.aload_n 2, 1) := dk_44 (dk_at dksX18_bindHead_2 3 rfl rfl)
theorem dX18_bindHead_50 : decode cX18_bindHead 50 = .ok (.invokestatic 133, 3) := dk_184 0 133 (dk_at dksX18_bindHead_2 4 rfl rfl)
theorem dX18_bindHead_53 : decode cX18_bindHead 53 = .ok (.ifCond .eq 7, 3) := dk_153 0 7 (dk_at dksX18_bindHead_2 7 rfl rfl)
theorem dX18_bindHead_56 : decode cX18_bindHead 56 = .ok (.iconst 1, 1) := dk_4 (dk_at dksX18_bindHead_2 10 rfl rfl)
theorem dX18_bindHead_57 : decode cX18_bindHead 57 = .ok (.goto 4, 3) := dk_167 0 4 (dk_at dksX18_bindHead_2 11 rfl rfl)
theorem dX18_bindHead_60 : decode cX18_bindHead 60 = .ok (.iconst 0, 1) := dk_3 (dk_at dksX18_bindHead_2 14 rfl rfl)
theorem dX18_bindHead_61 : decode cX18_bindHead 61 = .ok (.ireturn, 1) := dk_172 (dk_at dksX18_bindHead_2 15 rfl rfl)
abbrev cX18_join : ByteArray := prog_11_method_6_code
def yX18_join : MethodName := ⟨RX18, "join", "(LBrambleLogic$Goal;LBrambleLogic$Rule;I[I)V"⟩
def dkwX18_join_7 : List UInt8 := [182, 0, 125, 132, 7, 1, 167, 255, 200, 177]
abbrev dktX18_join_7 : List UInt8 := dkwX18_join_7 ++ []
def dkwX18_join_6 : List UInt8 := [153, 0, 26, 25, 5, 21, 7, 25, 8, 182, 0, 169, 153, 0, 14, 42, 43, 44, 29, 4, 96, 25, 8]
abbrev dktX18_join_6 : List UInt8 := dkwX18_join_6 ++ dktX18_join_7
def dkwX18_join_5 : List UInt8 := [162, 0, 55, 25, 4, 182, 0, 162, 192, 0, 163, 58, 8, 25, 6, 180, 0, 75, 21, 7, 182, 0, 167]
abbrev dktX18_join_5 : List UInt8 := dkwX18_join_5 ++ dktX18_join_6
def dkwX18_join_4 : List UInt8 := [25, 4, 182, 0, 156, 25, 5, 25, 4, 182, 0, 159, 182, 0, 83, 58, 6, 3, 54, 7, 21, 7, 16, 100]
abbrev dktX18_join_4 : List UInt8 := dkwX18_join_4 ++ dktX18_join_5
def dkwX18_join_3 : List UInt8 := [44, 180, 0, 141, 29, 185, 0, 91, 2, 0, 192, 0, 115, 58, 5, 42, 25, 5, 180, 0, 114, 25, 5]
abbrev dktX18_join_3 : List UInt8 := dkwX18_join_3 ++ dktX18_join_4
def dkwX18_join_2 : List UInt8 := [180, 0, 58, 43, 180, 0, 75, 44, 180, 0, 110, 25, 5, 182, 0, 152, 182, 0, 79, 128, 181, 0, 58, 177]
abbrev dktX18_join_2 : List UInt8 := dkwX18_join_2 ++ dktX18_join_3
def dkwX18_join_1 : List UInt8 := [182, 0, 148, 153, 0, 44, 43, 44, 180, 0, 110, 25, 5, 182, 0, 152, 182, 0, 71, 153, 0, 28, 42, 89]
abbrev dktX18_join_1 : List UInt8 := dkwX18_join_1 ++ dktX18_join_2
def dkwX18_join_0 : List UInt8 := [29, 44, 180, 0, 141, 185, 0, 87, 1, 0, 160, 0, 62, 25, 4, 184, 0, 144, 58, 5, 42, 44, 25, 5]
abbrev dktX18_join_0 : List UInt8 := dkwX18_join_0 ++ dktX18_join_1
theorem dksX18_join_0 : cX18_join.data.toList.drop 0 = dktX18_join_0 := by decide +kernel
theorem dksX18_join_1 : cX18_join.data.toList.drop 24 = dktX18_join_1 := dk_seg dksX18_join_0 24 rfl rfl
theorem dksX18_join_2 : cX18_join.data.toList.drop 48 = dktX18_join_2 := dk_seg dksX18_join_1 24 rfl rfl
theorem dksX18_join_3 : cX18_join.data.toList.drop 72 = dktX18_join_3 := dk_seg dksX18_join_2 24 rfl rfl
theorem dksX18_join_4 : cX18_join.data.toList.drop 95 = dktX18_join_4 := dk_seg dksX18_join_3 23 rfl rfl
theorem dksX18_join_5 : cX18_join.data.toList.drop 119 = dktX18_join_5 := dk_seg dksX18_join_4 24 rfl rfl
theorem dksX18_join_6 : cX18_join.data.toList.drop 142 = dktX18_join_6 := dk_seg dksX18_join_5 23 rfl rfl
theorem dksX18_join_7 : cX18_join.data.toList.drop 165 = dktX18_join_7 := dk_seg dksX18_join_6 23 rfl rfl
theorem dX18_join_0 : decode cX18_join 0 = .ok (.iload_n 3, 1) := dk_29 (dk_at dksX18_join_0 0 rfl rfl)
theorem dX18_join_1 : decode cX18_join 1 = .ok (.aload_n 2, 1) := dk_44 (dk_at dksX18_join_0 1 rfl rfl)
theorem dX18_join_2 : decode cX18_join 2 = .ok (.getfield 141, 3) := dk_180 0 141 (dk_at dksX18_join_0 2 rfl rfl)
theorem dX18_join_5 : decode cX18_join 5 = .ok (.invokeinterface 87 1, 5) := by decide +kernel
theorem dX18_join_10 : decode cX18_join 10 = .ok (.if_icmp .ne 62, 3) := dk_160 0 62 (dk_at dksX18_join_0 10 rfl rfl)
theorem dX18_join_13 : decode cX18_join 13 = .ok (.aload 4, 2) := dk_25 4 (dk_at dksX18_join_0 13 rfl rfl)
theorem dX18_join_15 : decode cX18_join 15 = .ok (.invokestatic 144, 3) := dk_184 0 144 (dk_at dksX18_join_0 15 rfl rfl)
theorem dX18_join_18 : decode cX18_join 18 = .ok (.astore 5, 2) := dk_58 5 (dk_at dksX18_join_0 18 rfl rfl)
theorem dX18_join_20 : decode cX18_join 20 = .ok (.aload_n 0, 1) := dk_42 (dk_at dksX18_join_0 20 rfl rfl)
theorem dX18_join_21 : decode cX18_join 21 = .ok (.aload_n 2, 1) := dk_44 (dk_at dksX18_join_0 21 rfl rfl)
theorem dX18_join_22 : decode cX18_join 22 = .ok (.aload 5, 2) := dk_25 5 (dk_at dksX18_join_0 22 rfl rfl)
theorem dX18_join_24 : decode cX18_join 24 = .ok (.invokevirtual 148, 3) := dk_182 0 148 (dk_at dksX18_join_1 0 rfl rfl)
theorem dX18_join_27 : decode cX18_join 27 = .ok (.ifCond .eq 44, 3) := dk_153 0 44 (dk_at dksX18_join_1 3 rfl rfl)
theorem dX18_join_30 : decode cX18_join 30 = .ok (.aload_n 1, 1) := dk_43 (dk_at dksX18_join_1 6 rfl rfl)
theorem dX18_join_31 : decode cX18_join 31 = .ok (.aload_n 2, 1) := dk_44 (dk_at dksX18_join_1 7 rfl rfl)
theorem dX18_join_32 : decode cX18_join 32 = .ok (.getfield 110, 3) := dk_180 0 110 (dk_at dksX18_join_1 8 rfl rfl)
theorem dX18_join_35 : decode cX18_join 35 = .ok (.aload 5, 2) := dk_25 5 (dk_at dksX18_join_1 11 rfl rfl)
theorem dX18_join_37 : decode cX18_join 37 = .ok (.invokevirtual 152, 3) := dk_182 0 152 (dk_at dksX18_join_1 13 rfl rfl)
theorem dX18_join_40 : decode cX18_join 40 = .ok (.invokevirtual 71, 3) := dk_182 0 71 (dk_at dksX18_join_1 16 rfl rfl)
theorem dX18_join_43 : decode cX18_join 43 = .ok (.ifCond .eq 28, 3) := dk_153 0 28 (dk_at dksX18_join_1 19 rfl rfl)
theorem dX18_join_46 : decode cX18_join 46 = .ok (.aload_n 0, 1) := dk_42 (dk_at dksX18_join_1 22 rfl rfl)
theorem dX18_join_47 : decode cX18_join 47 = .ok (.dup, 1) := dk_89 (dk_at dksX18_join_1 23 rfl rfl)
theorem dX18_join_48 : decode cX18_join 48 = .ok (.getfield 58, 3) := dk_180 0 58 (dk_at dksX18_join_2 0 rfl rfl)
theorem dX18_join_51 : decode cX18_join 51 = .ok (.aload_n 1, 1) := dk_43 (dk_at dksX18_join_2 3 rfl rfl)
theorem dX18_join_52 : decode cX18_join 52 = .ok (.getfield 75, 3) := dk_180 0 75 (dk_at dksX18_join_2 4 rfl rfl)
theorem dX18_join_55 : decode cX18_join 55 = .ok (.aload_n 2, 1) := dk_44 (dk_at dksX18_join_2 7 rfl rfl)
theorem dX18_join_56 : decode cX18_join 56 = .ok (.getfield 110, 3) := dk_180 0 110 (dk_at dksX18_join_2 8 rfl rfl)
theorem dX18_join_59 : decode cX18_join 59 = .ok (.aload 5, 2) := dk_25 5 (dk_at dksX18_join_2 11 rfl rfl)
theorem dX18_join_61 : decode cX18_join 61 = .ok (.invokevirtual 152, 3) := dk_182 0 152 (dk_at dksX18_join_2 13 rfl rfl)
theorem dX18_join_64 : decode cX18_join 64 = .ok (.invokevirtual 79, 3) := dk_182 0 79 (dk_at dksX18_join_2 16 rfl rfl)
theorem dX18_join_67 : decode cX18_join 67 = .ok (.ior, 1) := dk_128 (dk_at dksX18_join_2 19 rfl rfl)
theorem dX18_join_68 : decode cX18_join 68 = .ok (.putfield 58, 3) := dk_181 0 58 (dk_at dksX18_join_2 20 rfl rfl)
theorem dX18_join_71 : decode cX18_join 71 = .ok (.return_, 1) := dk_177 (dk_at dksX18_join_2 23 rfl rfl)
theorem dX18_join_72 : decode cX18_join 72 = .ok (.aload_n 2, 1) := dk_44 (dk_at dksX18_join_3 0 rfl rfl)
theorem dX18_join_73 : decode cX18_join 73 = .ok (.getfield 141, 3) := dk_180 0 141 (dk_at dksX18_join_3 1 rfl rfl)
theorem dX18_join_76 : decode cX18_join 76 = .ok (.iload_n 3, 1) := dk_29 (dk_at dksX18_join_3 4 rfl rfl)
theorem dX18_join_77 : decode cX18_join 77 = .ok (.invokeinterface 91 2, 5) := by decide +kernel
theorem dX18_join_82 : decode cX18_join 82 = .ok (.checkcast 115, 3) := dk_192 0 115 (dk_at dksX18_join_3 10 rfl rfl)
theorem dX18_join_85 : decode cX18_join 85 = .ok (.astore 5, 2) := dk_58 5 (dk_at dksX18_join_3 13 rfl rfl)
theorem dX18_join_87 : decode cX18_join 87 = .ok (.aload_n 0, 1) := dk_42 (dk_at dksX18_join_3 15 rfl rfl)
theorem dX18_join_88 : decode cX18_join 88 = .ok (.aload 5, 2) := dk_25 5 (dk_at dksX18_join_3 16 rfl rfl)
theorem dX18_join_90 : decode cX18_join 90 = .ok (.getfield 114, 3) := dk_180 0 114 (dk_at dksX18_join_3 18 rfl rfl)
theorem dX18_join_93 : decode cX18_join 93 = .ok (.aload 5, 2) := dk_25 5 (dk_at dksX18_join_3 21 rfl rfl)
theorem dX18_join_95 : decode cX18_join 95 = .ok (.aload 4, 2) := dk_25 4 (dk_at dksX18_join_4 0 rfl rfl)
theorem dX18_join_97 : decode cX18_join 97 = .ok (.invokevirtual 156, 3) := dk_182 0 156 (dk_at dksX18_join_4 2 rfl rfl)
theorem dX18_join_100 : decode cX18_join 100 = .ok (.aload 5, 2) := dk_25 5 (dk_at dksX18_join_4 5 rfl rfl)
theorem dX18_join_102 : decode cX18_join 102 = .ok (.aload 4, 2) := dk_25 4 (dk_at dksX18_join_4 7 rfl rfl)
theorem dX18_join_104 : decode cX18_join 104 = .ok (.invokevirtual 159, 3) := dk_182 0 159 (dk_at dksX18_join_4 9 rfl rfl)
theorem dX18_join_107 : decode cX18_join 107 = .ok (.invokevirtual 83, 3) := dk_182 0 83 (dk_at dksX18_join_4 12 rfl rfl)
theorem dX18_join_110 : decode cX18_join 110 = .ok (.astore 6, 2) := dk_58 6 (dk_at dksX18_join_4 15 rfl rfl)
theorem dX18_join_112 : decode cX18_join 112 = .ok (.iconst 0, 1) := dk_3 (dk_at dksX18_join_4 17 rfl rfl)
theorem dX18_join_113 : decode cX18_join 113 = .ok (.istore 7, 2) := dk_54 7 (dk_at dksX18_join_4 18 rfl rfl)
theorem dX18_join_115 : decode cX18_join 115 = .ok (.iload 7, 2) := dk_21 7 (dk_at dksX18_join_4 20 rfl rfl)
theorem dX18_join_117 : decode cX18_join 117 = .ok (.bipush 100, 2) := dk_16 100 (dk_at dksX18_join_4 22 rfl rfl)
theorem dX18_join_119 : decode cX18_join 119 = .ok (.if_icmp .ge 55, 3) := dk_162 0 55 (dk_at dksX18_join_5 0 rfl rfl)
theorem dX18_join_122 : decode cX18_join 122 = .ok (.aload 4, 2) := dk_25 4 (dk_at dksX18_join_5 3 rfl rfl)
theorem dX18_join_124 : decode cX18_join 124 = .ok (.invokevirtual 162, 3) := dk_182 0 162 (dk_at dksX18_join_5 5 rfl rfl)
theorem dX18_join_127 : decode cX18_join 127 = .ok (.checkcast 163, 3) := dk_192 0 163 (dk_at dksX18_join_5 8 rfl rfl)
theorem dX18_join_130 : decode cX18_join 130 = .ok (.astore 8, 2) := dk_58 8 (dk_at dksX18_join_5 11 rfl rfl)
theorem dX18_join_132 : decode cX18_join 132 = .ok (.aload 6, 2) := dk_25 6 (dk_at dksX18_join_5 13 rfl rfl)
theorem dX18_join_134 : decode cX18_join 134 = .ok (.getfield 75, 3) := dk_180 0 75 (dk_at dksX18_join_5 15 rfl rfl)
theorem dX18_join_137 : decode cX18_join 137 = .ok (.iload 7, 2) := dk_21 7 (dk_at dksX18_join_5 18 rfl rfl)
theorem dX18_join_139 : decode cX18_join 139 = .ok (.invokevirtual 167, 3) := dk_182 0 167 (dk_at dksX18_join_5 20 rfl rfl)
theorem dX18_join_142 : decode cX18_join 142 = .ok (.ifCond .eq 26, 3) := dk_153 0 26 (dk_at dksX18_join_6 0 rfl rfl)
theorem dX18_join_145 : decode cX18_join 145 = .ok (.aload 5, 2) := dk_25 5 (dk_at dksX18_join_6 3 rfl rfl)
theorem dX18_join_147 : decode cX18_join 147 = .ok (.iload 7, 2) := dk_21 7 (dk_at dksX18_join_6 5 rfl rfl)
theorem dX18_join_149 : decode cX18_join 149 = .ok (.aload 8, 2) := dk_25 8 (dk_at dksX18_join_6 7 rfl rfl)
theorem dX18_join_151 : decode cX18_join 151 = .ok (.invokevirtual 169, 3) := dk_182 0 169 (dk_at dksX18_join_6 9 rfl rfl)
theorem dX18_join_154 : decode cX18_join 154 = .ok (.ifCond .eq 14, 3) := dk_153 0 14 (dk_at dksX18_join_6 12 rfl rfl)
theorem dX18_join_157 : decode cX18_join 157 = .ok (.aload_n 0, 1) := dk_42 (dk_at dksX18_join_6 15 rfl rfl)
theorem dX18_join_158 : decode cX18_join 158 = .ok (.aload_n 1, 1) := dk_43 (dk_at dksX18_join_6 16 rfl rfl)
theorem dX18_join_159 : decode cX18_join 159 = .ok (.aload_n 2, 1) := dk_44 (dk_at dksX18_join_6 17 rfl rfl)
theorem dX18_join_160 : decode cX18_join 160 = .ok (.iload_n 3, 1) := dk_29 (dk_at dksX18_join_6 18 rfl rfl)
theorem dX18_join_161 : decode cX18_join 161 = .ok (.iconst 1, 1) := dk_4 (dk_at dksX18_join_6 19 rfl rfl)
theorem dX18_join_162 : decode cX18_join 162 = .ok (.iadd, 1) := dk_96 (dk_at dksX18_join_6 20 rfl rfl)
theorem dX18_join_163 : decode cX18_join 163 = .ok (.aload 8, 2) := dk_25 8 (dk_at dksX18_join_6 21 rfl rfl)
theorem dX18_join_165 : decode cX18_join 165 = .ok (.invokevirtual 125, 3) := dk_182 0 125 (dk_at dksX18_join_7 0 rfl rfl)
theorem dX18_join_168 : decode cX18_join 168 = .ok (.iinc 7 1, 3) := dk_132 7 1 (dk_at dksX18_join_7 3 rfl rfl)
theorem dX18_join_171 : decode cX18_join 171 = .ok (.goto (-56), 3) := dk_167 255 200 (dk_at dksX18_join_7 6 rfl rfl)
theorem dX18_join_174 : decode cX18_join 174 = .ok (.return_, 1) := dk_177 (dk_at dksX18_join_7 9 rfl rfl)
abbrev cX18_holdsRest : ByteArray := prog_11_method_7_code
def yX18_holdsRest : MethodName := ⟨RX18, "holdsRest", "(LBrambleLogic$Rule;[I)Z"⟩
def dkwX18_holdsRest_4 : List UInt8 := [167, 255, 177, 29, 172]
abbrev dktX18_holdsRest_4 : List UInt8 := dkwX18_holdsRest_4 ++ []
def dkwX18_holdsRest_3 : List UInt8 := [192, 0, 115, 180, 0, 114, 182, 0, 192, 25, 5, 42, 180, 0, 21, 44, 185, 0, 196, 3, 0, 62]
abbrev dktX18_holdsRest_3 : List UInt8 := dkwX18_holdsRest_3 ++ dktX18_holdsRest_4
def dkwX18_holdsRest_2 : List UInt8 := [154, 0, 46, 25, 5, 185, 0, 181, 1, 0, 153, 0, 23, 42, 25, 5, 185, 0, 184, 1, 0, 182, 0, 188]
abbrev dktX18_holdsRest_2 : List UInt8 := dkwX18_holdsRest_2 ++ dktX18_holdsRest_3
def dkwX18_holdsRest_1 : List UInt8 := [25, 4, 185, 0, 41, 1, 0, 192, 0, 176, 58, 5, 29, 153, 0, 56, 25, 5, 185, 0, 178, 1, 0]
abbrev dktX18_holdsRest_1 : List UInt8 := dkwX18_holdsRest_1 ++ dktX18_holdsRest_2
def dkwX18_holdsRest_0 : List UInt8 := [4, 62, 43, 180, 0, 173, 185, 0, 29, 1, 0, 58, 4, 25, 4, 185, 0, 35, 1, 0, 153, 0, 75]
abbrev dktX18_holdsRest_0 : List UInt8 := dkwX18_holdsRest_0 ++ dktX18_holdsRest_1
theorem dksX18_holdsRest_0 : cX18_holdsRest.data.toList.drop 0 = dktX18_holdsRest_0 := by decide +kernel
theorem dksX18_holdsRest_1 : cX18_holdsRest.data.toList.drop 23 = dktX18_holdsRest_1 := dk_seg dksX18_holdsRest_0 23 rfl rfl
theorem dksX18_holdsRest_2 : cX18_holdsRest.data.toList.drop 46 = dktX18_holdsRest_2 := dk_seg dksX18_holdsRest_1 23 rfl rfl
theorem dksX18_holdsRest_3 : cX18_holdsRest.data.toList.drop 70 = dktX18_holdsRest_3 := dk_seg dksX18_holdsRest_2 24 rfl rfl
theorem dksX18_holdsRest_4 : cX18_holdsRest.data.toList.drop 92 = dktX18_holdsRest_4 := dk_seg dksX18_holdsRest_3 22 rfl rfl
theorem dX18_holdsRest_0 : decode cX18_holdsRest 0 = .ok (.iconst 1, 1) := dk_4 (dk_at dksX18_holdsRest_0 0 rfl rfl)
theorem dX18_holdsRest_1 : decode cX18_holdsRest 1 = .ok (.istore_n 3, 1) := dk_62 (dk_at dksX18_holdsRest_0 1 rfl rfl)
theorem dX18_holdsRest_2 : decode cX18_holdsRest 2 = .ok (.aload_n 1, 1) := dk_43 (dk_at dksX18_holdsRest_0 2 rfl rfl)
theorem dX18_holdsRest_3 : decode cX18_holdsRest 3 = .ok (.getfield 173, 3) := dk_180 0 173 (dk_at dksX18_holdsRest_0 3 rfl rfl)
theorem dX18_holdsRest_6 : decode cX18_holdsRest 6 = .ok (.invokeinterface 29 1, 5) := by decide +kernel
theorem dX18_holdsRest_11 : decode cX18_holdsRest 11 = .ok (.astore 4, 2) := dk_58 4 (dk_at dksX18_holdsRest_0 11 rfl rfl)
theorem dX18_holdsRest_13 : decode cX18_holdsRest 13 = .ok (.aload 4, 2) := dk_25 4 (dk_at dksX18_holdsRest_0 13 rfl rfl)
theorem dX18_holdsRest_15 : decode cX18_holdsRest 15 = .ok (.invokeinterface 35 1, 5) := by decide +kernel
theorem dX18_holdsRest_20 : decode cX18_holdsRest 20 = .ok (.ifCond .eq 75, 3) := dk_153 0 75 (dk_at dksX18_holdsRest_0 20 rfl rfl)
theorem dX18_holdsRest_23 : decode cX18_holdsRest 23 = .ok (.aload 4, 2) := dk_25 4 (dk_at dksX18_holdsRest_1 0 rfl rfl)
theorem dX18_holdsRest_25 : decode cX18_holdsRest 25 = .ok (.invokeinterface 41 1, 5) := by decide +kernel
theorem dX18_holdsRest_30 : decode cX18_holdsRest 30 = .ok (.checkcast 176, 3) := dk_192 0 176 (dk_at dksX18_holdsRest_1 7 rfl rfl)
theorem dX18_holdsRest_33 : decode cX18_holdsRest 33 = .ok (.astore 5, 2) := dk_58 5 (dk_at dksX18_holdsRest_1 10 rfl rfl)
theorem dX18_holdsRest_35 : decode cX18_holdsRest 35 = .ok (.iload_n 3, 1) := dk_29 (dk_at dksX18_holdsRest_1 12 rfl rfl)
theorem dX18_holdsRest_36 : decode cX18_holdsRest 36 = .ok (.ifCond .eq 56, 3) := dk_153 0 56 (dk_at dksX18_holdsRest_1 13 rfl rfl)
theorem dX18_holdsRest_39 : decode cX18_holdsRest 39 = .ok (.aload 5, 2) := dk_25 5 (dk_at dksX18_holdsRest_1 16 rfl rfl)
theorem dX18_holdsRest_41 : decode cX18_holdsRest 41 = .ok (.invokeinterface 178 1, 5) := by decide +kernel
theorem dX18_holdsRest_46 : decode cX18_holdsRest 46 = .ok (.ifCond .ne 46, 3) := dk_154 0 46 (dk_at dksX18_holdsRest_2 0 rfl rfl)
theorem dX18_holdsRest_49 : decode cX18_holdsRest 49 = .ok (.aload 5, 2) := dk_25 5 (dk_at dksX18_holdsRest_2 3 rfl rfl)
theorem dX18_holdsRest_51 : decode cX18_holdsRest 51 = .ok (.invokeinterface 181 1, 5) := by decide +kernel
theorem dX18_holdsRest_56 : decode cX18_holdsRest 56 = .ok (.ifCond .eq 23, 3) := dk_153 0 23 (dk_at dksX18_holdsRest_2 10 rfl rfl)
theorem dX18_holdsRest_59 : decode cX18_holdsRest 59 = .ok (.aload_n 0, 1) := dk_42 (dk_at dksX18_holdsRest_2 13 rfl rfl)
theorem dX18_holdsRest_60 : decode cX18_holdsRest 60 = .ok (.aload 5, 2) := dk_25 5 (dk_at dksX18_holdsRest_2 14 rfl rfl)
theorem dX18_holdsRest_62 : decode cX18_holdsRest 62 = .ok (.invokeinterface 184 1, 5) := by decide +kernel
theorem dX18_holdsRest_67 : decode cX18_holdsRest 67 = .ok (.invokevirtual 188, 3) := dk_182 0 188 (dk_at dksX18_holdsRest_2 21 rfl rfl)
theorem dX18_holdsRest_70 : decode cX18_holdsRest 70 = .ok (.checkcast 115, 3) := dk_192 0 115 (dk_at dksX18_holdsRest_3 0 rfl rfl)
theorem dX18_holdsRest_73 : decode cX18_holdsRest 73 = .ok (.getfield 114, 3) := dk_180 0 114 (dk_at dksX18_holdsRest_3 3 rfl rfl)
theorem dX18_holdsRest_76 : decode cX18_holdsRest 76 = .ok (.invokevirtual 192, 3) := dk_182 0 192 (dk_at dksX18_holdsRest_3 6 rfl rfl)
theorem dX18_holdsRest_79 : decode cX18_holdsRest 79 = .ok (.aload 5, 2) := dk_25 5 (dk_at dksX18_holdsRest_3 9 rfl rfl)
theorem dX18_holdsRest_81 : decode cX18_holdsRest 81 = .ok (.aload_n 0, 1) := dk_42 (dk_at dksX18_holdsRest_3 11 rfl rfl)
theorem dX18_holdsRest_82 : decode cX18_holdsRest 82 = .ok (.getfield 21, 3) := dk_180 0 21 (dk_at dksX18_holdsRest_3 12 rfl rfl)
theorem dX18_holdsRest_85 : decode cX18_holdsRest 85 = .ok (.aload_n 2, 1) := dk_44 (dk_at dksX18_holdsRest_3 15 rfl rfl)
theorem dX18_holdsRest_86 : decode cX18_holdsRest 86 = .ok (.invokeinterface 196 3, 5) := by decide +kernel
theorem dX18_holdsRest_91 : decode cX18_holdsRest 91 = .ok (.istore_n 3, 1) := dk_62 (dk_at dksX18_holdsRest_3 21 rfl rfl)
theorem dX18_holdsRest_92 : decode cX18_holdsRest 92 = .ok (.goto (-79), 3) := dk_167 255 177 (dk_at dksX18_holdsRest_4 0 rfl rfl)
theorem dX18_holdsRest_95 : decode cX18_holdsRest 95 = .ok (.iload_n 3, 1) := dk_29 (dk_at dksX18_holdsRest_4 3 rfl rfl)
theorem dX18_holdsRest_96 : decode cX18_holdsRest 96 = .ok (.ireturn, 1) := dk_172 (dk_at dksX18_holdsRest_4 4 rfl rfl)
abbrev cX18_solveNegated : ByteArray := prog_11_method_8_code
def yX18_solveNegated : MethodName := ⟨RX18, "solveNegated", "(I)V"⟩
def dkwX18_solveNegated_3 : List UInt8 := [132, 3, 1, 167, 255, 228, 177]
abbrev dktX18_solveNegated_3 : List UInt8 := dkwX18_solveNegated_3 ++ []
def dkwX18_solveNegated_2 : List UInt8 := [162, 0, 28, 44, 29, 182, 0, 167, 153, 0, 14, 42, 180, 0, 21, 27, 29, 182, 0, 210, 54, 4]
abbrev dktX18_solveNegated_2 : List UInt8 := dkwX18_solveNegated_2 ++ dktX18_solveNegated_3
def dkwX18_solveNegated_1 : List UInt8 := [187, 0, 13, 89, 42, 180, 0, 25, 183, 0, 203, 27, 2, 2, 182, 0, 206, 77, 3, 62, 29, 16, 100]
abbrev dktX18_solveNegated_1 : List UInt8 := dkwX18_solveNegated_1 ++ dktX18_solveNegated_2
def dkwX18_solveNegated_0 : List UInt8 := [42, 180, 0, 200, 27, 122, 4, 126, 154, 0, 66, 42, 89, 180, 0, 200, 4, 27, 120, 128, 181, 0, 200]
abbrev dktX18_solveNegated_0 : List UInt8 := dkwX18_solveNegated_0 ++ dktX18_solveNegated_1
theorem dksX18_solveNegated_0 : cX18_solveNegated.data.toList.drop 0 = dktX18_solveNegated_0 := by decide +kernel
theorem dksX18_solveNegated_1 : cX18_solveNegated.data.toList.drop 23 = dktX18_solveNegated_1 := dk_seg dksX18_solveNegated_0 23 rfl rfl
theorem dksX18_solveNegated_2 : cX18_solveNegated.data.toList.drop 46 = dktX18_solveNegated_2 := dk_seg dksX18_solveNegated_1 23 rfl rfl
theorem dksX18_solveNegated_3 : cX18_solveNegated.data.toList.drop 68 = dktX18_solveNegated_3 := dk_seg dksX18_solveNegated_2 22 rfl rfl
theorem dX18_solveNegated_0 : decode cX18_solveNegated 0 = .ok (.aload_n 0, 1) := dk_42 (dk_at dksX18_solveNegated_0 0 rfl rfl)
theorem dX18_solveNegated_1 : decode cX18_solveNegated 1 = .ok (.getfield 200, 3) := dk_180 0 200 (dk_at dksX18_solveNegated_0 1 rfl rfl)
theorem dX18_solveNegated_4 : decode cX18_solveNegated 4 = .ok (.iload_n 1, 1) := dk_27 (dk_at dksX18_solveNegated_0 4 rfl rfl)
theorem dX18_solveNegated_5 : decode cX18_solveNegated 5 = .ok (.ishr, 1) := dk_122 (dk_at dksX18_solveNegated_0 5 rfl rfl)
theorem dX18_solveNegated_6 : decode cX18_solveNegated 6 = .ok (.iconst 1, 1) := dk_4 (dk_at dksX18_solveNegated_0 6 rfl rfl)
theorem dX18_solveNegated_7 : decode cX18_solveNegated 7 = .ok (.iand, 1) := dk_126 (dk_at dksX18_solveNegated_0 7 rfl rfl)
theorem dX18_solveNegated_8 : decode cX18_solveNegated 8 = .ok (.ifCond .ne 66, 3) := dk_154 0 66 (dk_at dksX18_solveNegated_0 8 rfl rfl)
theorem dX18_solveNegated_11 : decode cX18_solveNegated 11 = .ok (.aload_n 0, 1) := dk_42 (dk_at dksX18_solveNegated_0 11 rfl rfl)
theorem dX18_solveNegated_12 : decode cX18_solveNegated 12 = .ok (.dup, 1) := dk_89 (dk_at dksX18_solveNegated_0 12 rfl rfl)
theorem dX18_solveNegated_13 : decode cX18_solveNegated 13 = .ok (.getfield 200, 3) := dk_180 0 200 (dk_at dksX18_solveNegated_0 13 rfl rfl)
theorem dX18_solveNegated_16 : decode cX18_solveNegated 16 = .ok (.iconst 1, 1) := dk_4 (dk_at dksX18_solveNegated_0 16 rfl rfl)
theorem dX18_solveNegated_17 : decode cX18_solveNegated 17 = .ok (.iload_n 1, 1) := dk_27 (dk_at dksX18_solveNegated_0 17 rfl rfl)
theorem dX18_solveNegated_18 : decode cX18_solveNegated 18 = .ok (.ishl, 1) := dk_120 (dk_at dksX18_solveNegated_0 18 rfl rfl)
theorem dX18_solveNegated_19 : decode cX18_solveNegated 19 = .ok (.ior, 1) := dk_128 (dk_at dksX18_solveNegated_0 19 rfl rfl)
theorem dX18_solveNegated_20 : decode cX18_solveNegated 20 = .ok (.putfield 200, 3) := dk_181 0 200 (dk_at dksX18_solveNegated_0 20 rfl rfl)
theorem dX18_solveNegated_23 : decode cX18_solveNegated 23 = .ok (.new 13, 3) := dk_187 0 13 (dk_at dksX18_solveNegated_1 0 rfl rfl)
theorem dX18_solveNegated_26 : decode cX18_solveNegated 26 = .ok (.dup, 1) := dk_89 (dk_at dksX18_solveNegated_1 3 rfl rfl)
theorem dX18_solveNegated_27 : decode cX18_solveNegated 27 = .ok (.aload_n 0, 1) := dk_42 (dk_at dksX18_solveNegated_1 4 rfl rfl)
theorem dX18_solveNegated_28 : decode cX18_solveNegated 28 = .ok (.getfield 25, 3) := dk_180 0 25 (dk_at dksX18_solveNegated_1 5 rfl rfl)
theorem dX18_solveNegated_31 : decode cX18_solveNegated 31 = .ok (.invokespecial 203, 3) := dk_183 0 203 (dk_at dksX18_solveNegated_1 8 rfl rfl)
theorem dX18_solveNegated_34 : decode cX18_solveNegated 34 = .ok (.iload_n 1, 1) := dk_27 (dk_at dksX18_solveNegated_1 11 rfl rfl)
theorem dX18_solveNegated_35 : decode cX18_solveNegated 35 = .ok (.iconst (-1), 1) := dk_2 (dk_at dksX18_solveNegated_1 12 rfl rfl)
theorem dX18_solveNegated_36 : decode cX18_solveNegated 36 = .ok (.iconst (-1), 1) := dk_2 (dk_at dksX18_solveNegated_1 13 rfl rfl)
theorem dX18_solveNegated_37 : decode cX18_solveNegated 37 = .ok (.invokevirtual 206, 3) := dk_182 0 206 (dk_at dksX18_solveNegated_1 14 rfl rfl)
theorem dX18_solveNegated_40 : decode cX18_solveNegated 40 = .ok (.astore_n 2, 1) := dk_77 (dk_at dksX18_solveNegated_1 17 rfl rfl)
theorem dX18_solveNegated_41 : decode cX18_solveNegated 41 = .ok (.iconst 0, 1) := dk_3 (dk_at dksX18_solveNegated_1 18 rfl rfl)
theorem dX18_solveNegated_42 : decode cX18_solveNegated 42 = .ok (.istore_n 3, 1) := dk_62 (dk_at dksX18_solveNegated_1 19 rfl rfl)
theorem dX18_solveNegated_43 : decode cX18_solveNegated 43 = .ok (.iload_n 3, 1) := dk_29 (dk_at dksX18_solveNegated_1 20 rfl rfl)
theorem dX18_solveNegated_44 : decode cX18_solveNegated 44 = .ok (.bipush 100, 2) := dk_16 100 (dk_at dksX18_solveNegated_1 21 rfl rfl)
theorem dX18_solveNegated_46 : decode cX18_solveNegated 46 = .ok (.if_icmp .ge 28, 3) := dk_162 0 28 (dk_at dksX18_solveNegated_2 0 rfl rfl)
theorem dX18_solveNegated_49 : decode cX18_solveNegated 49 = .ok (.aload_n 2, 1) := dk_44 (dk_at dksX18_solveNegated_2 3 rfl rfl)
theorem dX18_solveNegated_50 : decode cX18_solveNegated 50 = .ok (.iload_n 3, 1) := dk_29 (dk_at dksX18_solveNegated_2 4 rfl rfl)
theorem dX18_solveNegated_51 : decode cX18_solveNegated 51 = .ok (.invokevirtual 167, 3) := dk_182 0 167 (dk_at dksX18_solveNegated_2 5 rfl rfl)
theorem dX18_solveNegated_54 : decode cX18_solveNegated 54 = .ok (.ifCond .eq 14, 3) := dk_153 0 14 (dk_at dksX18_solveNegated_2 8 rfl rfl)
theorem dX18_solveNegated_57 : decode cX18_solveNegated 57 = .ok (.aload_n 0, 1) := dk_42 (dk_at dksX18_solveNegated_2 11 rfl rfl)
theorem dX18_solveNegated_58 : decode cX18_solveNegated 58 = .ok (.getfield 21, 3) := dk_180 0 21 (dk_at dksX18_solveNegated_2 12 rfl rfl)
theorem dX18_solveNegated_61 : decode cX18_solveNegated 61 = .ok (.iload_n 1, 1) := dk_27 (dk_at dksX18_solveNegated_2 15 rfl rfl)
theorem dX18_solveNegated_62 : decode cX18_solveNegated 62 = .ok (.iload_n 3, 1) := dk_29 (dk_at dksX18_solveNegated_2 16 rfl rfl)
theorem dX18_solveNegated_63 : decode cX18_solveNegated 63 = .ok (.invokevirtual 210, 3) := dk_182 0 210 (dk_at dksX18_solveNegated_2 17 rfl rfl)
theorem dX18_solveNegated_66 : decode cX18_solveNegated 66 = .ok (.istore 4, 2) := dk_54 4 (dk_at dksX18_solveNegated_2 20 rfl rfl)
theorem dX18_solveNegated_68 : decode cX18_solveNegated 68 = .ok (.iinc 3 1, 3) := dk_132 3 1 (dk_at dksX18_solveNegated_3 0 rfl rfl)
theorem dX18_solveNegated_71 : decode cX18_solveNegated 71 = .ok (.goto (-28), 3) := dk_167 255 228 (dk_at dksX18_solveNegated_3 3 rfl rfl)
theorem dX18_solveNegated_74 : decode cX18_solveNegated 74 = .ok (.return_, 1) := dk_177 (dk_at dksX18_solveNegated_3 6 rfl rfl)
theorem q154 : (Jvm.Cond.initialized "BrambleLogic$Goals") ∈ lw_all := lw_g (lw_at lw_m1 47 rfl) rfl
theorem q250 : (Jvm.Cond.fieldLinkNest "BrambleLogic$Goals" (62 : Nat) "BrambleLogic$Logic" "given" "LBrambleLogic$Facts;" "BrambleLogic") ∈ lw_tbl := lw_at lw_m1 143 rfl
theorem q254 : (Jvm.Cond.fieldLinkNest "BrambleLogic$Goals" (99 : Nat) "BrambleLogic$Logic" "rules" "Ljava/util/List;" "BrambleLogic") ∈ lw_tbl := lw_at lw_m1 147 rfl
theorem q702 : (Jvm.Cond.selects "BrambleLogic$Goals" ({ cls := "java/lang/Object", name := "getClass", desc := "()Ljava/lang/Class;" } : Jvm.MethodName) ({ cls := "java/lang/Object", name := "getClass", desc := "()Ljava/lang/Class;" } : Jvm.MethodName)) ∈ lw_all := lw_g (lw_at lw_m3 115 rfl) rfl
theorem q1064 : (Jvm.Cond.instantiable "BrambleLogic$Goals" (5 : Nat)) ∈ lw_all := lw_g (lw_at lw_m4 237 rfl) rfl
theorem q1066 : (Jvm.Cond.instanceMethod ({ cls := "BrambleLogic$Goals", name := "<init>", desc := "(LBrambleLogic$Logic;)V" } : Jvm.MethodName)) ∈ lw_all := lw_g (lw_at lw_m4 239 rfl) rfl
theorem q1067 : (Jvm.Cond.code ({ cls := "BrambleLogic$Goals", name := "<init>", desc := "(LBrambleLogic$Logic;)V" } : Jvm.MethodName) prog_11_method_1_code (2 : Nat) (Option.none : Option Jvm.ClassFile.FieldType)) ∈ lw_all := lw_g (lw_at lw_m5 0 rfl) rfl
theorem q1068 : (Jvm.Cond.methodLink "BrambleLogic$Goals" (3 : Nat) ({ cls := "java/lang/Object", name := "<init>", desc := "()V" } : Jvm.MethodName)) ∈ lw_all := lw_g (lw_at lw_m5 1 rfl) rfl
theorem q1069 : (Jvm.Cond.classLink "BrambleLogic$Goals" (9 : Nat) "java/util/ArrayList") ∈ lw_all := lw_g (lw_at lw_m5 2 rfl) rfl
theorem q1070 : (Jvm.Cond.methodLink "BrambleLogic$Goals" (11 : Nat) ({ cls := "java/util/ArrayList", name := "<init>", desc := "()V" } : Jvm.MethodName)) ∈ lw_all := lw_g (lw_at lw_m5 3 rfl) rfl
theorem q1071 : (Jvm.Cond.classLink "BrambleLogic$Goals" (18 : Nat) "BrambleLogic$Facts") ∈ lw_all := lw_g (lw_at lw_m5 4 rfl) rfl
theorem q1072 : (Jvm.Cond.methodLink "BrambleLogic$Goals" (20 : Nat) ({ cls := "BrambleLogic$Facts", name := "<init>", desc := "()V" } : Jvm.MethodName)) ∈ lw_all := lw_g (lw_at lw_m5 5 rfl) rfl
theorem q1073 : (Jvm.Cond.fieldLink "BrambleLogic$Goals" (25 : Nat) "BrambleLogic$Goals" "logic" "LBrambleLogic$Logic;") ∈ lw_all := lw_g (lw_at lw_m5 6 rfl) rfl
theorem q1074 : (Jvm.Cond.fieldLink "BrambleLogic$Goals" (12 : Nat) "BrambleLogic$Goals" "goals" "Ljava/util/List;") ∈ lw_all := lw_g (lw_at lw_m5 7 rfl) rfl
theorem q1075 : (Jvm.Cond.fieldLink "BrambleLogic$Goals" (21 : Nat) "BrambleLogic$Goals" "negated" "LBrambleLogic$Facts;") ∈ lw_all := lw_g (lw_at lw_m5 8 rfl) rfl
theorem q1076 : (Jvm.Cond.fieldLink "BrambleLogic$Goals" (200 : Nat) "BrambleLogic$Goals" "solved" "I") ∈ lw_all := lw_g (lw_at lw_m5 9 rfl) rfl
theorem q1077 : (Jvm.Cond.fieldLink "BrambleLogic$Goals" (58 : Nat) "BrambleLogic$Goals" "isNew" "Z") ∈ lw_all := lw_g (lw_at lw_m5 10 rfl) rfl
theorem q1078 : (Jvm.Cond.laysFinal "BrambleLogic$Goals" "BrambleLogic$Goals" "logic" "LBrambleLogic$Logic;") ∈ lw_all := lw_g (lw_at lw_m5 11 rfl) rfl
theorem q1079 : (Jvm.Cond.soleField "BrambleLogic$Goals" "logic") ∈ lw_all := lw_g (lw_at lw_m5 12 rfl) rfl
theorem q1080 : (Jvm.Cond.laysFinal "BrambleLogic$Goals" "BrambleLogic$Goals" "goals" "Ljava/util/List;") ∈ lw_all := lw_g (lw_at lw_m5 13 rfl) rfl
theorem q1081 : (Jvm.Cond.soleField "BrambleLogic$Goals" "goals") ∈ lw_all := lw_g (lw_at lw_m5 14 rfl) rfl
theorem q1082 : (Jvm.Cond.laysFinal "BrambleLogic$Goals" "BrambleLogic$Goals" "negated" "LBrambleLogic$Facts;") ∈ lw_all := lw_g (lw_at lw_m5 15 rfl) rfl
theorem q1083 : (Jvm.Cond.soleField "BrambleLogic$Goals" "negated") ∈ lw_all := lw_g (lw_at lw_m5 16 rfl) rfl
theorem q1084 : (Jvm.Cond.lays "BrambleLogic$Goals" "BrambleLogic$Goals" "solved" "I") ∈ lw_all := lw_g (lw_at lw_m5 17 rfl) rfl
theorem q1085 : (Jvm.Cond.soleField "BrambleLogic$Goals" "solved") ∈ lw_all := lw_g (lw_at lw_m5 18 rfl) rfl
theorem q1086 : (Jvm.Cond.lays "BrambleLogic$Goals" "BrambleLogic$Goals" "isNew" "Z") ∈ lw_all := lw_g (lw_at lw_m5 19 rfl) rfl
theorem q1087 : (Jvm.Cond.soleField "BrambleLogic$Goals" "isNew") ∈ lw_all := lw_g (lw_at lw_m5 20 rfl) rfl
theorem q1088 : (Jvm.Cond.superclass "BrambleLogic$Goals" "java/lang/Object") ∈ lw_all := lw_g (lw_at lw_m5 21 rfl) rfl
theorem q1090 : (Jvm.Cond.instanceMethod ({ cls := "BrambleLogic$Goals", name := "solve", desc := "(III)LBrambleLogic$Codes;" } : Jvm.MethodName)) ∈ lw_all := lw_g (lw_at lw_m5 23 rfl) rfl
theorem q1091 : (Jvm.Cond.selects "BrambleLogic$Goals" ({ cls := "BrambleLogic$Goals", name := "solve", desc := "(III)LBrambleLogic$Codes;" } : Jvm.MethodName) ({ cls := "BrambleLogic$Goals", name := "solve", desc := "(III)LBrambleLogic$Codes;" } : Jvm.MethodName)) ∈ lw_all := lw_g (lw_at lw_m5 24 rfl) rfl
theorem q1092 : (Jvm.Cond.code ({ cls := "BrambleLogic$Goals", name := "solve", desc := "(III)LBrambleLogic$Codes;" } : Jvm.MethodName) prog_11_method_3_code (6 : Nat) (Option.some (Jvm.ClassFile.FieldType.object "BrambleLogic$Codes"))) ∈ lw_all := lw_g (lw_at lw_m5 25 rfl) rfl
theorem q1093 : (Jvm.Cond.methodLink "BrambleLogic$Goals" (83 : Nat) ({ cls := "BrambleLogic$Goals", name := "goal", desc := "(III)LBrambleLogic$Goal;" } : Jvm.MethodName)) ∈ lw_all := lw_g (lw_at lw_m5 26 rfl) rfl
theorem q1094 : (Jvm.Cond.privateMethod ({ cls := "BrambleLogic$Goals", name := "goal", desc := "(III)LBrambleLogic$Goal;" } : Jvm.MethodName)) ∈ lw_tbl := lw_at lw_m5 27 rfl
theorem q1095 : (Jvm.Cond.instanceMethod ({ cls := "BrambleLogic$Goals", name := "goal", desc := "(III)LBrambleLogic$Goal;" } : Jvm.MethodName)) ∈ lw_all := lw_g (lw_at lw_m5 28 rfl) rfl
theorem q1096 : (Jvm.Cond.code ({ cls := "BrambleLogic$Goals", name := "goal", desc := "(III)LBrambleLogic$Goal;" } : Jvm.MethodName) prog_11_method_2_code (7 : Nat) (Option.some (Jvm.ClassFile.FieldType.object "BrambleLogic$Goal"))) ∈ lw_all := lw_g (lw_at lw_m5 29 rfl) rfl
theorem q1097 : (Jvm.Cond.interfaceEntry "BrambleLogic$Goals" (29 : Nat)) ∈ lw_tbl := lw_at lw_m5 30 rfl
theorem q1098 : (Jvm.Cond.methodLink "BrambleLogic$Goals" (29 : Nat) ({ cls := "java/util/List", name := "iterator", desc := "()Ljava/util/Iterator;" } : Jvm.MethodName)) ∈ lw_all := lw_g (lw_at lw_m5 31 rfl) rfl
theorem q1099 : (Jvm.Cond.interfaceEntry "BrambleLogic$Goals" (35 : Nat)) ∈ lw_tbl := lw_at lw_m5 32 rfl
theorem q1100 : (Jvm.Cond.methodLink "BrambleLogic$Goals" (35 : Nat) ({ cls := "java/util/Iterator", name := "hasNext", desc := "()Z" } : Jvm.MethodName)) ∈ lw_all := lw_g (lw_at lw_m5 33 rfl) rfl
theorem q1101 : (Jvm.Cond.interfaceEntry "BrambleLogic$Goals" (41 : Nat)) ∈ lw_tbl := lw_at lw_m5 34 rfl
theorem q1102 : (Jvm.Cond.methodLink "BrambleLogic$Goals" (41 : Nat) ({ cls := "java/util/Iterator", name := "next", desc := "()Ljava/lang/Object;" } : Jvm.MethodName)) ∈ lw_all := lw_g (lw_at lw_m5 35 rfl) rfl
theorem q1103 : (Jvm.Cond.classLink "BrambleLogic$Goals" (45 : Nat) "BrambleLogic$Goal") ∈ lw_all := lw_g (lw_at lw_m5 36 rfl) rfl
theorem q1104 : (Jvm.Cond.methodLink "BrambleLogic$Goals" (47 : Nat) ({ cls := "BrambleLogic$Goal", name := "isSameAs", desc := "(III)Z" } : Jvm.MethodName)) ∈ lw_all := lw_g (lw_at lw_m5 37 rfl) rfl
theorem q1109 : (Jvm.Cond.methodLink "BrambleLogic$Goals" (51 : Nat) ({ cls := "BrambleLogic$Goal", name := "<init>", desc := "(III)V" } : Jvm.MethodName)) ∈ lw_all := lw_g (lw_at lw_m5 42 rfl) rfl
theorem q1116 : (Jvm.Cond.fieldLinkNest "BrambleLogic$Goals" (120 : Nat) "BrambleLogic$Goal" "predicate" "I" "BrambleLogic") ∈ lw_tbl := lw_at lw_m5 49 rfl
theorem q1119 : (Jvm.Cond.fieldLinkNest "BrambleLogic$Goals" (129 : Nat) "BrambleLogic$Goal" "first" "I" "BrambleLogic") ∈ lw_tbl := lw_at lw_m5 52 rfl
theorem q1121 : (Jvm.Cond.fieldLinkNest "BrambleLogic$Goals" (137 : Nat) "BrambleLogic$Goal" "second" "I" "BrambleLogic") ∈ lw_tbl := lw_at lw_m5 54 rfl
theorem q1123 : (Jvm.Cond.fieldLinkNest "BrambleLogic$Goals" (75 : Nat) "BrambleLogic$Goal" "answers" "LBrambleLogic$Codes;" "BrambleLogic") ∈ lw_tbl := lw_at lw_m5 56 rfl
theorem q1133 : (Jvm.Cond.interfaceEntry "BrambleLogic$Goals" (54 : Nat)) ∈ lw_tbl := lw_at lw_m5 66 rfl
theorem q1134 : (Jvm.Cond.methodLink "BrambleLogic$Goals" (54 : Nat) ({ cls := "java/util/List", name := "add", desc := "(Ljava/lang/Object;)Z" } : Jvm.MethodName)) ∈ lw_all := lw_g (lw_at lw_m5 67 rfl) rfl
theorem q1135 : (Jvm.Cond.methodLink "BrambleLogic$Goals" (67 : Nat) ({ cls := "BrambleLogic$Facts", name := "has", desc := "(II)Z" } : Jvm.MethodName)) ∈ lw_all := lw_g (lw_at lw_m5 68 rfl) rfl
theorem q1136 : (Jvm.Cond.methodLink "BrambleLogic$Goals" (71 : Nat) ({ cls := "BrambleLogic$Goal", name := "fits", desc := "(I)Z" } : Jvm.MethodName)) ∈ lw_all := lw_g (lw_at lw_m5 69 rfl) rfl
theorem q1141 : (Jvm.Cond.methodLink "BrambleLogic$Goals" (79 : Nat) ({ cls := "BrambleLogic$Codes", name := "add", desc := "(I)Z" } : Jvm.MethodName)) ∈ lw_all := lw_g (lw_at lw_m5 74 rfl) rfl
theorem q1142 : (Jvm.Cond.interfaceEntry "BrambleLogic$Goals" (87 : Nat)) ∈ lw_tbl := lw_at lw_m5 75 rfl
theorem q1143 : (Jvm.Cond.methodLink "BrambleLogic$Goals" (87 : Nat) ({ cls := "java/util/List", name := "size", desc := "()I" } : Jvm.MethodName)) ∈ lw_all := lw_g (lw_at lw_m5 76 rfl) rfl
theorem q1144 : (Jvm.Cond.interfaceEntry "BrambleLogic$Goals" (91 : Nat)) ∈ lw_tbl := lw_at lw_m5 77 rfl
theorem q1145 : (Jvm.Cond.methodLink "BrambleLogic$Goals" (91 : Nat) ({ cls := "java/util/List", name := "get", desc := "(I)Ljava/lang/Object;" } : Jvm.MethodName)) ∈ lw_all := lw_g (lw_at lw_m5 78 rfl) rfl
theorem q1146 : (Jvm.Cond.methodLink "BrambleLogic$Goals" (95 : Nat) ({ cls := "BrambleLogic$Goals", name := "work", desc := "(LBrambleLogic$Goal;)V" } : Jvm.MethodName)) ∈ lw_all := lw_g (lw_at lw_m5 79 rfl) rfl
theorem q1147 : (Jvm.Cond.privateMethod ({ cls := "BrambleLogic$Goals", name := "work", desc := "(LBrambleLogic$Goal;)V" } : Jvm.MethodName)) ∈ lw_tbl := lw_at lw_m5 80 rfl
theorem q1148 : (Jvm.Cond.instanceMethod ({ cls := "BrambleLogic$Goals", name := "work", desc := "(LBrambleLogic$Goal;)V" } : Jvm.MethodName)) ∈ lw_all := lw_g (lw_at lw_m5 81 rfl) rfl
theorem q1149 : (Jvm.Cond.code ({ cls := "BrambleLogic$Goals", name := "work", desc := "(LBrambleLogic$Goal;)V" } : Jvm.MethodName) prog_11_method_4_code (5 : Nat) (Option.none : Option Jvm.ClassFile.FieldType)) ∈ lw_all := lw_g (lw_at lw_m5 82 rfl) rfl
theorem q1150 : (Jvm.Cond.classLink "BrambleLogic$Goals" (102 : Nat) "BrambleLogic$Rule") ∈ lw_all := lw_g (lw_at lw_m5 83 rfl) rfl
theorem q1151 : (Jvm.Cond.methodLinkNest "BrambleLogic$Goals" (104 : Nat) ({ cls := "BrambleLogic$Changing", name := "unknown", desc := "()[I" } : Jvm.MethodName) "BrambleLogic") ∈ lw_tbl := lw_at lw_m5 84 rfl
theorem q1152 : (Jvm.Cond.methodLink "BrambleLogic$Goals" (121 : Nat) ({ cls := "BrambleLogic$Goals", name := "bindHead", desc := "(LBrambleLogic$Atom;LBrambleLogic$Goal;[I)Z" } : Jvm.MethodName)) ∈ lw_all := lw_g (lw_at lw_m5 85 rfl) rfl
theorem q1153 : (Jvm.Cond.static ({ cls := "BrambleLogic$Goals", name := "bindHead", desc := "(LBrambleLogic$Atom;LBrambleLogic$Goal;[I)Z" } : Jvm.MethodName)) ∈ lw_all := lw_g (lw_at lw_m5 86 rfl) rfl
theorem q1154 : (Jvm.Cond.code ({ cls := "BrambleLogic$Goals", name := "bindHead", desc := "(LBrambleLogic$Atom;LBrambleLogic$Goal;[I)Z" } : Jvm.MethodName) prog_11_method_5_code (4 : Nat) (Option.some Jvm.ClassFile.FieldType.boolean)) ∈ lw_all := lw_g (lw_at lw_m5 87 rfl) rfl
theorem q1155 : (Jvm.Cond.methodLinkNest "BrambleLogic$Goals" (133 : Nat) ({ cls := "BrambleLogic$Atom", name := "bind", desc := "(II[I)Z" } : Jvm.MethodName) "BrambleLogic") ∈ lw_tbl := lw_at lw_m5 88 rfl
theorem q1156 : (Jvm.Cond.methodLink "BrambleLogic$Goals" (125 : Nat) ({ cls := "BrambleLogic$Goals", name := "join", desc := "(LBrambleLogic$Goal;LBrambleLogic$Rule;I[I)V" } : Jvm.MethodName)) ∈ lw_all := lw_g (lw_at lw_m5 89 rfl) rfl
theorem q1157 : (Jvm.Cond.privateMethod ({ cls := "BrambleLogic$Goals", name := "join", desc := "(LBrambleLogic$Goal;LBrambleLogic$Rule;I[I)V" } : Jvm.MethodName)) ∈ lw_tbl := lw_at lw_m5 90 rfl
theorem q1158 : (Jvm.Cond.instanceMethod ({ cls := "BrambleLogic$Goals", name := "join", desc := "(LBrambleLogic$Goal;LBrambleLogic$Rule;I[I)V" } : Jvm.MethodName)) ∈ lw_all := lw_g (lw_at lw_m5 91 rfl) rfl
theorem q1159 : (Jvm.Cond.code ({ cls := "BrambleLogic$Goals", name := "join", desc := "(LBrambleLogic$Goal;LBrambleLogic$Rule;I[I)V" } : Jvm.MethodName) prog_11_method_6_code (9 : Nat) (Option.none : Option Jvm.ClassFile.FieldType)) ∈ lw_all := lw_g (lw_at lw_m5 92 rfl) rfl
theorem q1160 : (Jvm.Cond.methodLinkNest "BrambleLogic$Goals" (144 : Nat) ({ cls := "BrambleLogic$Changing", name := "known", desc := "([I)[I" } : Jvm.MethodName) "BrambleLogic") ∈ lw_tbl := lw_at lw_m5 93 rfl
theorem q1161 : (Jvm.Cond.methodLink "BrambleLogic$Goals" (148 : Nat) ({ cls := "BrambleLogic$Goals", name := "holdsRest", desc := "(LBrambleLogic$Rule;[I)Z" } : Jvm.MethodName)) ∈ lw_all := lw_g (lw_at lw_m5 94 rfl) rfl
theorem q1162 : (Jvm.Cond.privateMethod ({ cls := "BrambleLogic$Goals", name := "holdsRest", desc := "(LBrambleLogic$Rule;[I)Z" } : Jvm.MethodName)) ∈ lw_tbl := lw_at lw_m5 95 rfl
theorem q1163 : (Jvm.Cond.instanceMethod ({ cls := "BrambleLogic$Goals", name := "holdsRest", desc := "(LBrambleLogic$Rule;[I)Z" } : Jvm.MethodName)) ∈ lw_all := lw_g (lw_at lw_m5 96 rfl) rfl
theorem q1164 : (Jvm.Cond.code ({ cls := "BrambleLogic$Goals", name := "holdsRest", desc := "(LBrambleLogic$Rule;[I)Z" } : Jvm.MethodName) prog_11_method_7_code (6 : Nat) (Option.some Jvm.ClassFile.FieldType.boolean)) ∈ lw_all := lw_g (lw_at lw_m5 97 rfl) rfl
theorem q1165 : (Jvm.Cond.classLink "BrambleLogic$Goals" (176 : Nat) "BrambleLogic$Literal") ∈ lw_all := lw_g (lw_at lw_m5 98 rfl) rfl
theorem q1166 : (Jvm.Cond.interfaceEntry "BrambleLogic$Goals" (178 : Nat)) ∈ lw_tbl := lw_at lw_m5 99 rfl
theorem q1167 : (Jvm.Cond.methodLink "BrambleLogic$Goals" (178 : Nat) ({ cls := "BrambleLogic$Literal", name := "isPositive", desc := "()Z" } : Jvm.MethodName)) ∈ lw_all := lw_g (lw_at lw_m5 100 rfl) rfl
theorem q1168 : (Jvm.Cond.interfaceEntry "BrambleLogic$Goals" (181 : Nat)) ∈ lw_tbl := lw_at lw_m5 101 rfl
theorem q1169 : (Jvm.Cond.methodLink "BrambleLogic$Goals" (181 : Nat) ({ cls := "BrambleLogic$Literal", name := "isNegative", desc := "()Z" } : Jvm.MethodName)) ∈ lw_all := lw_g (lw_at lw_m5 102 rfl) rfl
theorem q1170 : (Jvm.Cond.interfaceEntry "BrambleLogic$Goals" (184 : Nat)) ∈ lw_tbl := lw_at lw_m5 103 rfl
theorem q1171 : (Jvm.Cond.methodLink "BrambleLogic$Goals" (184 : Nat) ({ cls := "BrambleLogic$Literal", name := "atom", desc := "()Ljava/util/Optional;" } : Jvm.MethodName)) ∈ lw_all := lw_g (lw_at lw_m5 104 rfl) rfl
theorem q1172 : (Jvm.Cond.methodLink "BrambleLogic$Goals" (188 : Nat) ({ cls := "java/util/Optional", name := "get", desc := "()Ljava/lang/Object;" } : Jvm.MethodName)) ∈ lw_all := lw_g (lw_at lw_m5 105 rfl) rfl
theorem q1173 : (Jvm.Cond.classLink "BrambleLogic$Goals" (115 : Nat) "BrambleLogic$Atom") ∈ lw_all := lw_g (lw_at lw_m5 106 rfl) rfl
theorem q1174 : (Jvm.Cond.methodLink "BrambleLogic$Goals" (192 : Nat) ({ cls := "BrambleLogic$Goals", name := "solveNegated", desc := "(I)V" } : Jvm.MethodName)) ∈ lw_all := lw_g (lw_at lw_m5 107 rfl) rfl
theorem q1175 : (Jvm.Cond.privateMethod ({ cls := "BrambleLogic$Goals", name := "solveNegated", desc := "(I)V" } : Jvm.MethodName)) ∈ lw_tbl := lw_at lw_m5 108 rfl
theorem q1176 : (Jvm.Cond.instanceMethod ({ cls := "BrambleLogic$Goals", name := "solveNegated", desc := "(I)V" } : Jvm.MethodName)) ∈ lw_all := lw_g (lw_at lw_m5 109 rfl) rfl
theorem q1177 : (Jvm.Cond.code ({ cls := "BrambleLogic$Goals", name := "solveNegated", desc := "(I)V" } : Jvm.MethodName) prog_11_method_8_code (5 : Nat) (Option.none : Option Jvm.ClassFile.FieldType)) ∈ lw_all := lw_g (lw_at lw_m5 110 rfl) rfl
theorem q1178 : (Jvm.Cond.classLink "BrambleLogic$Goals" (13 : Nat) "BrambleLogic$Goals") ∈ lw_all := lw_g (lw_at lw_m5 111 rfl) rfl
theorem q1179 : (Jvm.Cond.methodLink "BrambleLogic$Goals" (203 : Nat) ({ cls := "BrambleLogic$Goals", name := "<init>", desc := "(LBrambleLogic$Logic;)V" } : Jvm.MethodName)) ∈ lw_all := lw_g (lw_at lw_m5 112 rfl) rfl
theorem q1180 : (Jvm.Cond.methodLink "BrambleLogic$Goals" (206 : Nat) ({ cls := "BrambleLogic$Goals", name := "solve", desc := "(III)LBrambleLogic$Codes;" } : Jvm.MethodName)) ∈ lw_all := lw_g (lw_at lw_m5 113 rfl) rfl
theorem q1181 : (Jvm.Cond.methodLink "BrambleLogic$Goals" (167 : Nat) ({ cls := "BrambleLogic$Codes", name := "has", desc := "(I)Z" } : Jvm.MethodName)) ∈ lw_all := lw_g (lw_at lw_m5 114 rfl) rfl
theorem q1182 : (Jvm.Cond.methodLink "BrambleLogic$Goals" (210 : Nat) ({ cls := "BrambleLogic$Facts", name := "add", desc := "(II)Z" } : Jvm.MethodName)) ∈ lw_all := lw_g (lw_at lw_m5 115 rfl) rfl
theorem q1183 : (Jvm.Cond.interfaceEntry "BrambleLogic$Goals" (196 : Nat)) ∈ lw_tbl := lw_at lw_m5 116 rfl
theorem q1184 : (Jvm.Cond.methodLink "BrambleLogic$Goals" (196 : Nat) ({ cls := "BrambleLogic$Literal", name := "holds", desc := "(LBrambleLogic$Facts;[I)Z" } : Jvm.MethodName)) ∈ lw_all := lw_g (lw_at lw_m5 117 rfl) rfl
theorem q1185 : (Jvm.Cond.methodLink "BrambleLogic$Goals" (152 : Nat) ({ cls := "BrambleLogic$Atom", name := "code", desc := "([I)I" } : Jvm.MethodName)) ∈ lw_all := lw_g (lw_at lw_m5 118 rfl) rfl
theorem q1186 : (Jvm.Cond.methodLink "BrambleLogic$Goals" (156 : Nat) ({ cls := "BrambleLogic$Atom", name := "firstKnown", desc := "([I)I" } : Jvm.MethodName)) ∈ lw_all := lw_g (lw_at lw_m5 119 rfl) rfl
theorem q1190 : (Jvm.Cond.methodLink "BrambleLogic$Goals" (159 : Nat) ({ cls := "BrambleLogic$Atom", name := "secondKnown", desc := "([I)I" } : Jvm.MethodName)) ∈ lw_all := lw_g (lw_at lw_m5 123 rfl) rfl
theorem q1194 : (Jvm.Cond.methodLink "BrambleLogic$Goals" (162 : Nat) ({ cls := "[I", name := "clone", desc := "()Ljava/lang/Object;" } : Jvm.MethodName)) ∈ lw_all := lw_g (lw_at lw_m5 127 rfl) rfl
theorem q1195 : (Jvm.Cond.classLink "BrambleLogic$Goals" (163 : Nat) "[I") ∈ lw_all := lw_g (lw_at lw_m5 128 rfl) rfl
theorem q1196 : (Jvm.Cond.methodLink "BrambleLogic$Goals" (169 : Nat) ({ cls := "BrambleLogic$Atom", name := "match", desc := "(I[I)Z" } : Jvm.MethodName)) ∈ lw_all := lw_g (lw_at lw_m5 129 rfl) rfl
theorem q2368 : (Jvm.Cond.fieldLinkNest "BrambleLogic$Goals" (114 : Nat) "BrambleLogic$Atom" "predicate" "I" "BrambleLogic") ∈ lw_tbl := lw_at lw_m10 101 rfl
theorem q2370 : (Jvm.Cond.fieldLinkNest "BrambleLogic$Goals" (132 : Nat) "BrambleLogic$Atom" "first" "I" "BrambleLogic") ∈ lw_tbl := lw_at lw_m10 103 rfl
theorem q2372 : (Jvm.Cond.fieldLinkNest "BrambleLogic$Goals" (140 : Nat) "BrambleLogic$Atom" "second" "I" "BrambleLogic") ∈ lw_tbl := lw_at lw_m10 105 rfl
theorem q2500 : (Jvm.Cond.fieldLinkNest "BrambleLogic$Goals" (110 : Nat) "BrambleLogic$Rule" "head" "LBrambleLogic$Atom;" "BrambleLogic") ∈ lw_tbl := lw_at lw_m10 233 rfl
theorem q2504 : (Jvm.Cond.fieldLinkNest "BrambleLogic$Goals" (173 : Nat) "BrambleLogic$Rule" "literals" "Ljava/util/List;" "BrambleLogic") ∈ lw_tbl := lw_at lw_m10 237 rfl
theorem q2510 : (Jvm.Cond.fieldLinkNest "BrambleLogic$Goals" (141 : Nat) "BrambleLogic$Rule" "premises" "Ljava/util/List;" "BrambleLogic") ∈ lw_tbl := lw_at lw_m11 3 rfl
theorem q3391 : (Jvm.Cond.castable "BrambleLogic$Goals" "java/lang/Object") ∈ lw_tbl := lw_at lw_m14 164 rfl
theorem in_X18 : ∀ w ∈ wsX180, w ∈ lw_all := lw_in wsX180 [1078, 1080, 1082, 1084, 1086] (by decide +kernel) (by decide +kernel)
/-! BrambleLogic$Logic$Counting -/
set_option maxRecDepth 100000
def RX19 : String := "BrambleLogic$Logic$Counting"
def TX19 : u_T := fun k => match k with
  | _ => ("BrambleLogic$Logic$Counting", "count", "I", false)
def tyX19 : Nat → FieldType := fun k => match k with
  | _ => .int
abbrev wsX190 : List Cond := u_ws RX19 TX19 1
theorem nmX19 : ∀ a, a < 1 → ∀ b, b < 1 → a ≠ b → (TX19 a).2.1 ≠ (TX19 b).2.1 := by decide +kernel
theorem tyX19_ok : ∀ k, k < 1 → parseFieldDescriptor (TX19 k).2.2.1 = some (tyX19 k) := by decide +kernel
abbrev cX19_meet : ByteArray := prog_18_method_2_code
def yX19_meet : MethodName := ⟨RX19, "meet", "(LBrambleLogic$Rule;[I)V"⟩
def dkwX19_meet_0 : List UInt8 := [42, 89, 180, 0, 7, 4, 96, 181, 0, 7, 177]
abbrev dktX19_meet_0 : List UInt8 := dkwX19_meet_0 ++ []
theorem dksX19_meet_0 : cX19_meet.data.toList.drop 0 = dktX19_meet_0 := by decide +kernel
theorem dX19_meet_0 : decode cX19_meet 0 = .ok (.aload_n 0, 1) := dk_42 (dk_at dksX19_meet_0 0 rfl rfl)
theorem dX19_meet_1 : decode cX19_meet 1 = .ok (.dup, 1) := dk_89 (dk_at dksX19_meet_0 1 rfl rfl)
theorem dX19_meet_2 : decode cX19_meet 2 = .ok (.getfield 7, 3) := dk_180 0 7 (dk_at dksX19_meet_0 2 rfl rfl)
theorem dX19_meet_5 : decode cX19_meet 5 = .ok (.iconst 1, 1) := dk_4 (dk_at dksX19_meet_0 5 rfl rfl)
theorem dX19_meet_6 : decode cX19_meet 6 = .ok (.iadd, 1) := dk_96 (dk_at dksX19_meet_0 6 rfl rfl)
theorem dX19_meet_7 : decode cX19_meet 7 = .ok (.putfield 7, 3) := dk_181 0 7 (dk_at dksX19_meet_0 7 rfl rfl)
theorem dX19_meet_10 : decode cX19_meet 10 = .ok (.return_, 1) := dk_177 (dk_at dksX19_meet_0 10 rfl rfl)
abbrev cX19_init : ByteArray := prog_18_method_1_code
def yX19_init : MethodName := ⟨RX19, "<init>", "()V"⟩
theorem dX19_init_0 : decode cX19_init 0 = .ok (.aload_n 0, 1) := by decide +kernel
theorem dX19_init_1 : decode cX19_init 1 = .ok (.invokespecial 1, 3) := by decide +kernel
theorem dX19_init_4 : decode cX19_init 4 = .ok (.return_, 1) := by decide +kernel
theorem q156 : (Jvm.Cond.initialized "BrambleLogic$Logic$Counting") ∈ lw_all := lw_g (lw_at lw_m1 49 rfl) rfl
theorem q708 : (Jvm.Cond.selects "BrambleLogic$Logic$Counting" ({ cls := "java/lang/Object", name := "getClass", desc := "()Ljava/lang/Class;" } : Jvm.MethodName) ({ cls := "java/lang/Object", name := "getClass", desc := "()Ljava/lang/Class;" } : Jvm.MethodName)) ∈ lw_all := lw_g (lw_at lw_m3 121 rfl) rfl
theorem q974 : (Jvm.Cond.selects "BrambleLogic$Logic$Counting" ({ cls := "BrambleLogic$Steps", name := "meet", desc := "(LBrambleLogic$Rule;[I)V" } : Jvm.MethodName) ({ cls := "BrambleLogic$Logic$Counting", name := "meet", desc := "(LBrambleLogic$Rule;[I)V" } : Jvm.MethodName)) ∈ lw_all := lw_g (lw_at lw_m4 147 rfl) rfl
theorem q975 : (Jvm.Cond.instanceMethod ({ cls := "BrambleLogic$Logic$Counting", name := "meet", desc := "(LBrambleLogic$Rule;[I)V" } : Jvm.MethodName)) ∈ lw_all := lw_g (lw_at lw_m4 148 rfl) rfl
theorem q976 : (Jvm.Cond.code ({ cls := "BrambleLogic$Logic$Counting", name := "meet", desc := "(LBrambleLogic$Rule;[I)V" } : Jvm.MethodName) prog_18_method_2_code (3 : Nat) (Option.none : Option Jvm.ClassFile.FieldType)) ∈ lw_all := lw_g (lw_at lw_m4 149 rfl) rfl
theorem q2043 : (Jvm.Cond.instantiable "BrambleLogic$Logic$Counting" (1 : Nat)) ∈ lw_all := lw_g (lw_at lw_m9 16 rfl) rfl
theorem q2045 : (Jvm.Cond.instanceMethod ({ cls := "BrambleLogic$Logic$Counting", name := "<init>", desc := "()V" } : Jvm.MethodName)) ∈ lw_all := lw_g (lw_at lw_m9 18 rfl) rfl
theorem q2046 : (Jvm.Cond.code ({ cls := "BrambleLogic$Logic$Counting", name := "<init>", desc := "()V" } : Jvm.MethodName) prog_18_method_1_code (1 : Nat) (Option.none : Option Jvm.ClassFile.FieldType)) ∈ lw_all := lw_g (lw_at lw_m9 19 rfl) rfl
theorem q2047 : (Jvm.Cond.methodLinkNest "BrambleLogic$Logic$Counting" (1 : Nat) ({ cls := "BrambleLogic$Steps", name := "<init>", desc := "()V" } : Jvm.MethodName) "BrambleLogic") ∈ lw_tbl := lw_at lw_m9 20 rfl
theorem q2048 : (Jvm.Cond.fieldLink "BrambleLogic$Logic$Counting" (7 : Nat) "BrambleLogic$Logic$Counting" "count" "I") ∈ lw_all := lw_g (lw_at lw_m9 21 rfl) rfl
theorem q2050 : (Jvm.Cond.lays "BrambleLogic$Logic$Counting" "BrambleLogic$Logic$Counting" "count" "I") ∈ lw_all := lw_g (lw_at lw_m9 23 rfl) rfl
theorem q2051 : (Jvm.Cond.soleField "BrambleLogic$Logic$Counting" "count") ∈ lw_all := lw_g (lw_at lw_m9 24 rfl) rfl
theorem q2052 : (Jvm.Cond.superclass "BrambleLogic$Logic$Counting" "BrambleLogic$Steps") ∈ lw_all := lw_g (lw_at lw_m9 25 rfl) rfl
theorem q2054 : (Jvm.Cond.sameMethod "BrambleLogic$Logic$Counting" "BrambleLogic$Steps" "take" "(LBrambleLogic$Rule;LBrambleLogic$Facts;)V") ∈ lw_all := lw_g (lw_at lw_m9 27 rfl) rfl
theorem q2055 : (Jvm.Cond.selects "BrambleLogic$Logic$Counting" ({ cls := "BrambleLogic$Logic$Counting", name := "take", desc := "(LBrambleLogic$Rule;LBrambleLogic$Facts;)V" } : Jvm.MethodName) ({ cls := "BrambleLogic$Steps", name := "take", desc := "(LBrambleLogic$Rule;LBrambleLogic$Facts;)V" } : Jvm.MethodName)) ∈ lw_all := lw_g (lw_at lw_m9 28 rfl) rfl
theorem q3347 : (Jvm.Cond.selects "BrambleLogic$Logic$Counting" ({ cls := "BrambleLogic$Steps", name := "take", desc := "(LBrambleLogic$Rule;LBrambleLogic$Facts;)V" } : Jvm.MethodName) ({ cls := "BrambleLogic$Steps", name := "take", desc := "(LBrambleLogic$Rule;LBrambleLogic$Facts;)V" } : Jvm.MethodName)) ∈ lw_all := lw_g (lw_at lw_m14 120 rfl) rfl
theorem q3393 : (Jvm.Cond.castable "BrambleLogic$Logic$Counting" "java/lang/Object") ∈ lw_tbl := lw_at lw_m14 166 rfl
theorem in_X19 : ∀ w ∈ wsX190, w ∈ lw_all := lw_in wsX190 [2050] (by decide +kernel) (by decide +kernel)
/-! BrambleLogic$Parser -/
set_option maxRecDepth 100000
def RX20 : String := "BrambleLogic$Parser"
def TX20 : u_T := fun k => match k with
  | 0 => ("BrambleLogic$Parser", "text", "Ljava/lang/String;", true)
  | 1 => ("BrambleLogic$Parser", "position", "I", false)
  | _ => ("BrambleLogic$Parser", "this$0", "LBrambleLogic;", true)
def tyX20 : Nat → FieldType := fun k => match k with
  | 0 => .object "java/lang/String"
  | 1 => .int
  | _ => .object "BrambleLogic"
abbrev wsX200 : List Cond := u_ws RX20 TX20 3
theorem nmX20 : ∀ a, a < 3 → ∀ b, b < 3 → a ≠ b → (TX20 a).2.1 ≠ (TX20 b).2.1 := by decide +kernel
theorem tyX20_ok : ∀ k, k < 3 → parseFieldDescriptor (TX20 k).2.2.1 = some (tyX20 k) := by decide +kernel
abbrev cX20_init : ByteArray := prog_20_method_1_code
def yX20_init : MethodName := ⟨RX20, "<init>", "(LBrambleLogic;)V"⟩
def dkwX20_init_0 : List UInt8 := [42, 43, 181, 0, 3, 42, 183, 0, 9, 42, 42, 180, 0, 3, 180, 0, 15, 182, 0, 19, 181, 0, 25, 177]
abbrev dktX20_init_0 : List UInt8 := dkwX20_init_0 ++ []
theorem dksX20_init_0 : cX20_init.data.toList.drop 0 = dktX20_init_0 := by decide +kernel
theorem dX20_init_0 : decode cX20_init 0 = .ok (.aload_n 0, 1) := dk_42 (dk_at dksX20_init_0 0 rfl rfl)
theorem dX20_init_1 : decode cX20_init 1 = .ok (.aload_n 1, 1) := dk_43 (dk_at dksX20_init_0 1 rfl rfl)
theorem dX20_init_2 : decode cX20_init 2 = .ok (.putfield 3, 3) := dk_181 0 3 (dk_at dksX20_init_0 2 rfl rfl)
theorem dX20_init_5 : decode cX20_init 5 = .ok (.aload_n 0, 1) := dk_42 (dk_at dksX20_init_0 5 rfl rfl)
theorem dX20_init_6 : decode cX20_init 6 = .ok (.invokespecial 9, 3) := dk_183 0 9 (dk_at dksX20_init_0 6 rfl rfl)
theorem dX20_init_9 : decode cX20_init 9 = .ok (.aload_n 0, 1) := dk_42 (dk_at dksX20_init_0 9 rfl rfl)
theorem dX20_init_10 : decode cX20_init 10 = .ok (.aload_n 0, 1) := dk_42 (dk_at dksX20_init_0 10 rfl rfl)
theorem dX20_init_11 : decode cX20_init 11 = .ok (.getfield 3, 3) := dk_180 0 3 (dk_at dksX20_init_0 11 rfl rfl)
theorem dX20_init_14 : decode cX20_init 14 = .ok (.getfield 15, 3) := dk_180 0 15 (dk_at dksX20_init_0 14 rfl rfl)
theorem dX20_init_17 : decode cX20_init 17 = .ok (.invokevirtual 19, 3) := dk_182 0 19 (dk_at dksX20_init_0 17 rfl rfl)
theorem dX20_init_20 : decode cX20_init 20 = .ok (.putfield 25, 3) := dk_181 0 25 (dk_at dksX20_init_0 20 rfl rfl)
theorem dX20_init_23 : decode cX20_init 23 = .ok (.return_, 1) := dk_177 (dk_at dksX20_init_0 23 rfl rfl)
abbrev cX20_parseProgram : ByteArray := prog_20_method_15_code
def yX20_parseProgram : MethodName := ⟨RX20, "parseProgram", "()Ljava/util/List;"⟩
def dkwX20_parseProgram_2 : List UInt8 := [167, 0, 4, 3, 182, 0, 56, 43, 176]
abbrev dktX20_parseProgram_2 : List UInt8 := dkwX20_parseProgram_2 ++ []
def dkwX20_parseProgram_1 : List UInt8 := [182, 0, 52, 154, 255, 239, 42, 42, 180, 0, 29, 42, 180, 0, 25, 182, 0, 33, 160, 0, 7, 4]
abbrev dktX20_parseProgram_1 : List UInt8 := dkwX20_parseProgram_1 ++ dktX20_parseProgram_2
def dkwX20_parseProgram_0 : List UInt8 := [187, 0, 114, 89, 183, 0, 116, 76, 43, 42, 182, 0, 166, 185, 0, 121, 2, 0, 87, 42, 16, 59]
abbrev dktX20_parseProgram_0 : List UInt8 := dkwX20_parseProgram_0 ++ dktX20_parseProgram_1
theorem dksX20_parseProgram_0 : cX20_parseProgram.data.toList.drop 0 = dktX20_parseProgram_0 := by decide +kernel
theorem dksX20_parseProgram_1 : cX20_parseProgram.data.toList.drop 22 = dktX20_parseProgram_1 := dk_seg dksX20_parseProgram_0 22 rfl rfl
theorem dksX20_parseProgram_2 : cX20_parseProgram.data.toList.drop 44 = dktX20_parseProgram_2 := dk_seg dksX20_parseProgram_1 22 rfl rfl
theorem dX20_parseProgram_0 : decode cX20_parseProgram 0 = .ok (.new 114, 3) := dk_187 0 114 (dk_at dksX20_parseProgram_0 0 rfl rfl)
theorem dX20_parseProgram_3 : decode cX20_parseProgram 3 = .ok (.dup, 1) := dk_89 (dk_at dksX20_parseProgram_0 3 rfl rfl)
theorem dX20_parseProgram_4 : decode cX20_parseProgram 4 = .ok (.invokespecial 116, 3) := dk_183 0 116 (dk_at dksX20_parseProgram_0 4 rfl rfl)
theorem dX20_parseProgram_7 : decode cX20_parseProgram 7 = .ok (.astore_n 1, 1) := dk_76 (dk_at dksX20_parseProgram_0 7 rfl rfl)
theorem dX20_parseProgram_8 : decode cX20_parseProgram 8 = .ok (.aload_n 1, 1) := dk_43 (dk_at dksX20_parseProgram_0 8 rfl rfl)
theorem dX20_parseProgram_9 : decode cX20_parseProgram 9 = .ok (.aload_n 0, 1) := dk_42 (dk_at dksX20_parseProgram_0 9 rfl rfl)
theorem dX20_parseProgram_10 : decode cX20_parseProgram 10 = .ok (.invokevirtual 166, 3) := dk_182 0 166 (dk_at dksX20_parseProgram_0 10 rfl rfl)
theorem dX20_parseProgram_13 : decode cX20_parseProgram 13 = .ok (.invokeinterface 121 2, 5) := by decide +kernel
theorem dX20_parseProgram_18 : decode cX20_parseProgram 18 = .ok (.pop, 1) := dk_87 (dk_at dksX20_parseProgram_0 18 rfl rfl)
theorem dX20_parseProgram_19 : decode cX20_parseProgram 19 = .ok (.aload_n 0, 1) := dk_42 (dk_at dksX20_parseProgram_0 19 rfl rfl)
theorem dX20_parseProgram_20 : decode cX20_parseProgram 20 = .ok (.bipush 59, 2) := dk_16 59 (dk_at dksX20_parseProgram_0 20 rfl rfl)
theorem dX20_parseProgram_22 : decode cX20_parseProgram 22 = .ok (.invokevirtual 52, 3) := dk_182 0 52 (dk_at dksX20_parseProgram_1 0 rfl rfl)
theorem dX20_parseProgram_25 : decode cX20_parseProgram 25 = .ok (.ifCond .ne (-17), 3) := dk_154 255 239 (dk_at dksX20_parseProgram_1 3 rfl rfl)
theorem dX20_parseProgram_28 : decode cX20_parseProgram 28 = .ok (.aload_n 0, 1) := dk_42 (dk_at dksX20_parseProgram_1 6 rfl rfl)
theorem dX20_parseProgram_29 : decode cX20_parseProgram 29 = .ok (.aload_n 0, 1) := dk_42 (dk_at dksX20_parseProgram_1 7 rfl rfl)
theorem dX20_parseProgram_30 : decode cX20_parseProgram 30 = .ok (.getfield 29, 3) := dk_180 0 29 (dk_at dksX20_parseProgram_1 8 rfl rfl)
theorem dX20_parseProgram_33 : decode cX20_parseProgram 33 = .ok (.aload_n 0, 1) := dk_42 (dk_at dksX20_parseProgram_1 11 rfl rfl)
theorem dX20_parseProgram_34 : decode cX20_parseProgram 34 = .ok (.getfield 25, 3) := dk_180 0 25 (dk_at dksX20_parseProgram_1 12 rfl rfl)
theorem dX20_parseProgram_37 : decode cX20_parseProgram 37 = .ok (.invokevirtual 33, 3) := dk_182 0 33 (dk_at dksX20_parseProgram_1 15 rfl rfl)
theorem dX20_parseProgram_40 : decode cX20_parseProgram 40 = .ok (.if_icmp .ne 7, 3) := dk_160 0 7 (dk_at dksX20_parseProgram_1 18 rfl rfl)
theorem dX20_parseProgram_43 : decode cX20_parseProgram 43 = .ok (.iconst 1, 1) := dk_4 (dk_at dksX20_parseProgram_1 21 rfl rfl)
theorem dX20_parseProgram_44 : decode cX20_parseProgram 44 = .ok (.goto 4, 3) := dk_167 0 4 (dk_at dksX20_parseProgram_2 0 rfl rfl)
theorem dX20_parseProgram_47 : decode cX20_parseProgram 47 = .ok (.iconst 0, 1) := dk_3 (dk_at dksX20_parseProgram_2 3 rfl rfl)
theorem dX20_parseProgram_48 : decode cX20_parseProgram 48 = .ok (.invokevirtual 56, 3) := dk_182 0 56 (dk_at dksX20_parseProgram_2 4 rfl rfl)
theorem dX20_parseProgram_51 : decode cX20_parseProgram 51 = .ok (.aload_n 1, 1) := dk_43 (dk_at dksX20_parseProgram_2 7 rfl rfl)
theorem dX20_parseProgram_52 : decode cX20_parseProgram 52 = .ok (.areturn, 1) := dk_176 (dk_at dksX20_parseProgram_2 8 rfl rfl)
abbrev cX20_parseCommand : ByteArray := prog_20_method_14_code
def yX20_parseCommand : MethodName := ⟨RX20, "parseCommand", "()LBrambleLogic$Command;"⟩
def dkwX20_parseCommand_6 : List UInt8 := [183, 0, 49, 191]
abbrev dktX20_parseCommand_6 : List UInt8 := dkwX20_parseCommand_6 ++ []
def dkwX20_parseCommand_5 : List UInt8 := [89, 18, 164, 16, 97, 42, 182, 0, 74, 2, 183, 0, 87, 176, 187, 0, 47, 89, 42, 180, 0, 29, 4, 100]
abbrev dktX20_parseCommand_5 : List UInt8 := dkwX20_parseCommand_5 ++ dktX20_parseCommand_6
def dkwX20_parseCommand_4 : List UInt8 := [182, 0, 148, 176, 42, 18, 156, 182, 0, 70, 42, 182, 0, 158, 176, 42, 18, 162, 182, 0, 70, 187, 0, 85]
abbrev dktX20_parseCommand_4 : List UInt8 := dkwX20_parseCommand_4 ++ dktX20_parseCommand_5
def dkwX20_parseCommand_3 : List UInt8 := [42, 18, 144, 182, 0, 70, 42, 18, 146, 182, 0, 148, 176, 42, 18, 152, 182, 0, 70, 42, 18, 154]
abbrev dktX20_parseCommand_3 : List UInt8 := dkwX20_parseCommand_3 ++ dktX20_parseCommand_4
def dkwX20_parseCommand_2 : List UInt8 := [171, 0, 0, 0, 101, 0, 0, 0, 4, 0, 0, 0, 100, 0, 0, 0, 78, 0, 0, 0, 102, 0, 0, 0, 41, 0, 0, 0, 114, 0, 0, 0, 67, 0, 0, 0, 116, 0, 0, 0, 54]
abbrev dktX20_parseCommand_2 : List UInt8 := dkwX20_parseCommand_2 ++ dktX20_parseCommand_3
def dkwX20_parseCommand_1 : List UInt8 := [180, 0, 25, 42, 180, 0, 29, 4, 100, 182, 0, 39]
abbrev dktX20_parseCommand_1 : List UInt8 := dkwX20_parseCommand_1 ++ dktX20_parseCommand_2
def dkwX20_parseCommand_0 : List UInt8 := [42, 42, 16, 97, 16, 122, 182, 0, 43, 182, 0, 56, 42, 89, 180, 0, 29, 4, 96, 181, 0, 29, 42]
abbrev dktX20_parseCommand_0 : List UInt8 := dkwX20_parseCommand_0 ++ dktX20_parseCommand_1
theorem dksX20_parseCommand_0 : cX20_parseCommand.data.toList.drop 0 = dktX20_parseCommand_0 := by decide +kernel
theorem dksX20_parseCommand_1 : cX20_parseCommand.data.toList.drop 23 = dktX20_parseCommand_1 := dk_seg dksX20_parseCommand_0 23 rfl rfl
theorem dksX20_parseCommand_2 : cX20_parseCommand.data.toList.drop 35 = dktX20_parseCommand_2 := dk_seg dksX20_parseCommand_1 12 rfl rfl
theorem dksX20_parseCommand_3 : cX20_parseCommand.data.toList.drop 76 = dktX20_parseCommand_3 := dk_seg dksX20_parseCommand_2 41 rfl rfl
theorem dksX20_parseCommand_4 : cX20_parseCommand.data.toList.drop 98 = dktX20_parseCommand_4 := dk_seg dksX20_parseCommand_3 22 rfl rfl
theorem dksX20_parseCommand_5 : cX20_parseCommand.data.toList.drop 122 = dktX20_parseCommand_5 := dk_seg dksX20_parseCommand_4 24 rfl rfl
theorem dksX20_parseCommand_6 : cX20_parseCommand.data.toList.drop 146 = dktX20_parseCommand_6 := dk_seg dksX20_parseCommand_5 24 rfl rfl
theorem dX20_parseCommand_0 : decode cX20_parseCommand 0 = .ok (.aload_n 0, 1) := dk_42 (dk_at dksX20_parseCommand_0 0 rfl rfl)
theorem dX20_parseCommand_1 : decode cX20_parseCommand 1 = .ok (.aload_n 0, 1) := dk_42 (dk_at dksX20_parseCommand_0 1 rfl rfl)
theorem dX20_parseCommand_2 : decode cX20_parseCommand 2 = .ok (.bipush 97, 2) := dk_16 97 (dk_at dksX20_parseCommand_0 2 rfl rfl)
theorem dX20_parseCommand_4 : decode cX20_parseCommand 4 = .ok (.bipush 122, 2) := dk_16 122 (dk_at dksX20_parseCommand_0 4 rfl rfl)
theorem dX20_parseCommand_6 : decode cX20_parseCommand 6 = .ok (.invokevirtual 43, 3) := dk_182 0 43 (dk_at dksX20_parseCommand_0 6 rfl rfl)
theorem dX20_parseCommand_9 : decode cX20_parseCommand 9 = .ok (.invokevirtual 56, 3) := dk_182 0 56 (dk_at dksX20_parseCommand_0 9 rfl rfl)
theorem dX20_parseCommand_12 : decode cX20_parseCommand 12 = .ok (.aload_n 0, 1) := dk_42 (dk_at dksX20_parseCommand_0 12 rfl rfl)
theorem dX20_parseCommand_13 : decode cX20_parseCommand 13 = .ok (.dup, 1) := dk_89 (dk_at dksX20_parseCommand_0 13 rfl rfl)
theorem dX20_parseCommand_14 : decode cX20_parseCommand 14 = .ok (.getfield 29, 3) := dk_180 0 29 (dk_at dksX20_parseCommand_0 14 rfl rfl)
theorem dX20_parseCommand_17 : decode cX20_parseCommand 17 = .ok (.iconst 1, 1) := dk_4 (dk_at dksX20_parseCommand_0 17 rfl rfl)
theorem dX20_parseCommand_18 : decode cX20_parseCommand 18 = .ok (.iadd, 1) := dk_96 (dk_at dksX20_parseCommand_0 18 rfl rfl)
theorem dX20_parseCommand_19 : decode cX20_parseCommand 19 = .ok (.putfield 29, 3) := dk_181 0 29 (dk_at dksX20_parseCommand_0 19 rfl rfl)
theorem dX20_parseCommand_22 : decode cX20_parseCommand 22 = .ok (.aload_n 0, 1) := dk_42 (dk_at dksX20_parseCommand_0 22 rfl rfl)
theorem dX20_parseCommand_23 : decode cX20_parseCommand 23 = .ok (.getfield 25, 3) := dk_180 0 25 (dk_at dksX20_parseCommand_1 0 rfl rfl)
theorem dX20_parseCommand_26 : decode cX20_parseCommand 26 = .ok (.aload_n 0, 1) := dk_42 (dk_at dksX20_parseCommand_1 3 rfl rfl)
theorem dX20_parseCommand_27 : decode cX20_parseCommand 27 = .ok (.getfield 29, 3) := dk_180 0 29 (dk_at dksX20_parseCommand_1 4 rfl rfl)
theorem dX20_parseCommand_30 : decode cX20_parseCommand 30 = .ok (.iconst 1, 1) := dk_4 (dk_at dksX20_parseCommand_1 7 rfl rfl)
theorem dX20_parseCommand_31 : decode cX20_parseCommand 31 = .ok (.isub, 1) := dk_100 (dk_at dksX20_parseCommand_1 8 rfl rfl)
theorem dX20_parseCommand_32 : decode cX20_parseCommand 32 = .ok (.invokevirtual 39, 3) := dk_182 0 39 (dk_at dksX20_parseCommand_1 9 rfl rfl)
theorem dX20_parseCommand_35 : decode cX20_parseCommand 35 = .ok (.lookupswitch 101 #[(100, 78), (102, 41), (114, 67), (116, 54)], 41) := by decide +kernel
theorem dX20_parseCommand_76 : decode cX20_parseCommand 76 = .ok (.aload_n 0, 1) := dk_42 (dk_at dksX20_parseCommand_3 0 rfl rfl)
theorem dX20_parseCommand_77 : decode cX20_parseCommand 77 = .ok (.ldc 144, 2) := dk_18 144 (dk_at dksX20_parseCommand_3 1 rfl rfl)
theorem dX20_parseCommand_79 : decode cX20_parseCommand 79 = .ok (.invokevirtual 70, 3) := dk_182 0 70 (dk_at dksX20_parseCommand_3 3 rfl rfl)
theorem dX20_parseCommand_82 : decode cX20_parseCommand 82 = .ok (.aload_n 0, 1) := dk_42 (dk_at dksX20_parseCommand_3 6 rfl rfl)
theorem dX20_parseCommand_83 : decode cX20_parseCommand 83 = .ok (.ldc 146, 2) := dk_18 146 (dk_at dksX20_parseCommand_3 7 rfl rfl)
theorem dX20_parseCommand_85 : decode cX20_parseCommand 85 = .ok (.invokevirtual 148, 3) := dk_182 0 148 (dk_at dksX20_parseCommand_3 9 rfl rfl)
theorem dX20_parseCommand_88 : decode cX20_parseCommand 88 = .ok (.areturn, 1) := dk_176 (dk_at dksX20_parseCommand_3 12 rfl rfl)
theorem dX20_parseCommand_89 : decode cX20_parseCommand 89 = .ok (.aload_n 0, 1) := dk_42 (dk_at dksX20_parseCommand_3 13 rfl rfl)
theorem dX20_parseCommand_90 : decode cX20_parseCommand 90 = .ok (.ldc 152, 2) := dk_18 152 (dk_at dksX20_parseCommand_3 14 rfl rfl)
theorem dX20_parseCommand_92 : decode cX20_parseCommand 92 = .ok (.invokevirtual 70, 3) := dk_182 0 70 (dk_at dksX20_parseCommand_3 16 rfl rfl)
theorem dX20_parseCommand_95 : decode cX20_parseCommand 95 = .ok (.aload_n 0, 1) := dk_42 (dk_at dksX20_parseCommand_3 19 rfl rfl)
theorem dX20_parseCommand_96 : decode cX20_parseCommand 96 = .ok (.ldc 154, 2) := dk_18 154 (dk_at dksX20_parseCommand_3 20 rfl rfl)
theorem dX20_parseCommand_98 : decode cX20_parseCommand 98 = .ok (.invokevirtual 148, 3) := dk_182 0 148 (dk_at dksX20_parseCommand_4 0 rfl rfl)
theorem dX20_parseCommand_101 : decode cX20_parseCommand 101 = .ok (.areturn, 1) := dk_176 (dk_at dksX20_parseCommand_4 3 rfl rfl)
theorem dX20_parseCommand_102 : decode cX20_parseCommand 102 = .ok (.aload_n 0, 1) := dk_42 (dk_at dksX20_parseCommand_4 4 rfl rfl)
theorem dX20_parseCommand_103 : decode cX20_parseCommand 103 = .ok (.ldc 156, 2) := dk_18 156 (dk_at dksX20_parseCommand_4 5 rfl rfl)
theorem dX20_parseCommand_105 : decode cX20_parseCommand 105 = .ok (.invokevirtual 70, 3) := dk_182 0 70 (dk_at dksX20_parseCommand_4 7 rfl rfl)
theorem dX20_parseCommand_108 : decode cX20_parseCommand 108 = .ok (.aload_n 0, 1) := dk_42 (dk_at dksX20_parseCommand_4 10 rfl rfl)
theorem dX20_parseCommand_109 : decode cX20_parseCommand 109 = .ok (.invokevirtual 158, 3) := dk_182 0 158 (dk_at dksX20_parseCommand_4 11 rfl rfl)
theorem dX20_parseCommand_112 : decode cX20_parseCommand 112 = .ok (.areturn, 1) := dk_176 (dk_at dksX20_parseCommand_4 14 rfl rfl)
theorem dX20_parseCommand_113 : decode cX20_parseCommand 113 = .ok (.aload_n 0, 1) := dk_42 (dk_at dksX20_parseCommand_4 15 rfl rfl)
theorem dX20_parseCommand_114 : decode cX20_parseCommand 114 = .ok (.ldc 162, 2) := dk_18 162 (dk_at dksX20_parseCommand_4 16 rfl rfl)
theorem dX20_parseCommand_116 : decode cX20_parseCommand 116 = .ok (.invokevirtual 70, 3) := dk_182 0 70 (dk_at dksX20_parseCommand_4 18 rfl rfl)
theorem dX20_parseCommand_119 : decode cX20_parseCommand 119 = .ok (.new 85, 3) := dk_187 0 85 (dk_at dksX20_parseCommand_4 21 rfl rfl)
theorem dX20_parseCommand_122 : decode cX20_parseCommand 122 = .ok (.dup, 1) := dk_89 (dk_at dksX20_parseCommand_5 0 rfl rfl)
theorem dX20_parseCommand_123 : decode cX20_parseCommand 123 = .ok (.ldc 164, 2) := dk_18 164 (dk_at dksX20_parseCommand_5 1 rfl rfl)
theorem dX20_parseCommand_125 : decode cX20_parseCommand 125 = .ok (.bipush 97, 2) := dk_16 97 (dk_at dksX20_parseCommand_5 3 rfl rfl)
theorem dX20_parseCommand_127 : decode cX20_parseCommand 127 = .ok (.aload_n 0, 1) := dk_42 (dk_at dksX20_parseCommand_5 5 rfl rfl)
theorem dX20_parseCommand_128 : decode cX20_parseCommand 128 = .ok (.invokevirtual 74, 3) := dk_182 0 74 (dk_at dksX20_parseCommand_5 6 rfl rfl)
theorem dX20_parseCommand_131 : decode cX20_parseCommand 131 = .ok (.iconst (-1), 1) := dk_2 (dk_at dksX20_parseCommand_5 9 rfl rfl)
theorem dX20_parseCommand_132 : decode cX20_parseCommand 132 = .ok (.invokespecial 87, 3) := dk_183 0 87 (dk_at dksX20_parseCommand_5 10 rfl rfl)
theorem dX20_parseCommand_135 : decode cX20_parseCommand 135 = .ok (.areturn, 1) := dk_176 (dk_at dksX20_parseCommand_5 13 rfl rfl)
theorem dX20_parseCommand_136 : decode cX20_parseCommand 136 = .ok (.new 47, 3) := dk_187 0 47 (dk_at dksX20_parseCommand_5 14 rfl rfl)
theorem dX20_parseCommand_139 : decode cX20_parseCommand 139 = .ok (.dup, 1) := dk_89 (dk_at dksX20_parseCommand_5 17 rfl rfl)
theorem dX20_parseCommand_140 : decode cX20_parseCommand 140 = .ok (.aload_n 0, 1) := dk_42 (dk_at dksX20_parseCommand_5 18 rfl rfl)
theorem dX20_parseCommand_141 : decode cX20_parseCommand 141 = .ok (.getfield 29, 3) := dk_180 0 29 (dk_at dksX20_parseCommand_5 19 rfl rfl)
theorem dX20_parseCommand_144 : decode cX20_parseCommand 144 = .ok (.iconst 1, 1) := dk_4 (dk_at dksX20_parseCommand_5 22 rfl rfl)
theorem dX20_parseCommand_145 : decode cX20_parseCommand 145 = .ok (.isub, 1) := dk_100 (dk_at dksX20_parseCommand_5 23 rfl rfl)
theorem dX20_parseCommand_146 : decode cX20_parseCommand 146 = .ok (.invokespecial 49, 3) := dk_183 0 49 (dk_at dksX20_parseCommand_6 0 rfl rfl)
theorem dX20_parseCommand_149 : decode cX20_parseCommand 149 = .ok (.athrow, 1) := dk_191 (dk_at dksX20_parseCommand_6 3 rfl rfl)
abbrev cX20_isNextBetween : ByteArray := prog_20_method_2_code
def yX20_isNextBetween : MethodName := ⟨RX20, "isNextBetween", "(CC)Z"⟩
def dkwX20_isNextBetween_2 : List UInt8 := [167, 0, 4, 3, 172]
abbrev dktX20_isNextBetween_2 : List UInt8 := dkwX20_isNextBetween_2 ++ []
def dkwX20_isNextBetween_1 : List UInt8 := [182, 0, 39, 163, 0, 22, 42, 180, 0, 25, 42, 180, 0, 29, 182, 0, 39, 28, 163, 0, 7, 4]
abbrev dktX20_isNextBetween_1 : List UInt8 := dkwX20_isNextBetween_1 ++ dktX20_isNextBetween_2
def dkwX20_isNextBetween_0 : List UInt8 := [42, 180, 0, 29, 42, 180, 0, 25, 182, 0, 33, 162, 0, 37, 27, 42, 180, 0, 25, 42, 180, 0, 29]
abbrev dktX20_isNextBetween_0 : List UInt8 := dkwX20_isNextBetween_0 ++ dktX20_isNextBetween_1
theorem dksX20_isNextBetween_0 : cX20_isNextBetween.data.toList.drop 0 = dktX20_isNextBetween_0 := by decide +kernel
theorem dksX20_isNextBetween_1 : cX20_isNextBetween.data.toList.drop 23 = dktX20_isNextBetween_1 := dk_seg dksX20_isNextBetween_0 23 rfl rfl
theorem dksX20_isNextBetween_2 : cX20_isNextBetween.data.toList.drop 45 = dktX20_isNextBetween_2 := dk_seg dksX20_isNextBetween_1 22 rfl rfl
theorem dX20_isNextBetween_0 : decode cX20_isNextBetween 0 = .ok (.aload_n 0, 1) := dk_42 (dk_at dksX20_isNextBetween_0 0 rfl rfl)
theorem dX20_isNextBetween_1 : decode cX20_isNextBetween 1 = .ok (.getfield 29, 3) := dk_180 0 29 (dk_at dksX20_isNextBetween_0 1 rfl rfl)
theorem dX20_isNextBetween_4 : decode cX20_isNextBetween 4 = .ok (.aload_n 0, 1) := dk_42 (dk_at dksX20_isNextBetween_0 4 rfl rfl)
theorem dX20_isNextBetween_5 : decode cX20_isNextBetween 5 = .ok (.getfield 25, 3) := dk_180 0 25 (dk_at dksX20_isNextBetween_0 5 rfl rfl)
theorem dX20_isNextBetween_8 : decode cX20_isNextBetween 8 = .ok (.invokevirtual 33, 3) := dk_182 0 33 (dk_at dksX20_isNextBetween_0 8 rfl rfl)
theorem dX20_isNextBetween_11 : decode cX20_isNextBetween 11 = .ok (.if_icmp .ge 37, 3) := dk_162 0 37 (dk_at dksX20_isNextBetween_0 11 rfl rfl)
theorem dX20_isNextBetween_14 : decode cX20_isNextBetween 14 = .ok (.iload_n 1, 1) := dk_27 (dk_at dksX20_isNextBetween_0 14 rfl rfl)
theorem dX20_isNextBetween_15 : decode cX20_isNextBetween 15 = .ok (.aload_n 0, 1) := dk_42 (dk_at dksX20_isNextBetween_0 15 rfl rfl)
theorem dX20_isNextBetween_16 : decode cX20_isNextBetween 16 = .ok (.getfield 25, 3) := dk_180 0 25 (dk_at dksX20_isNextBetween_0 16 rfl rfl)
theorem dX20_isNextBetween_19 : decode cX20_isNextBetween 19 = .ok (.aload_n 0, 1) := dk_42 (dk_at dksX20_isNextBetween_0 19 rfl rfl)
theorem dX20_isNextBetween_20 : decode cX20_isNextBetween 20 = .ok (.getfield 29, 3) := dk_180 0 29 (dk_at dksX20_isNextBetween_0 20 rfl rfl)
theorem dX20_isNextBetween_23 : decode cX20_isNextBetween 23 = .ok (.invokevirtual 39, 3) := dk_182 0 39 (dk_at dksX20_isNextBetween_1 0 rfl rfl)
theorem dX20_isNextBetween_26 : decode cX20_isNextBetween 26 = .ok (.if_icmp .gt 22, 3) := dk_163 0 22 (dk_at dksX20_isNextBetween_1 3 rfl rfl)
theorem dX20_isNextBetween_29 : decode cX20_isNextBetween 29 = .ok (.aload_n 0, 1) := dk_42 (dk_at dksX20_isNextBetween_1 6 rfl rfl)
theorem dX20_isNextBetween_30 : decode cX20_isNextBetween 30 = .ok (.getfield 25, 3) := dk_180 0 25 (dk_at dksX20_isNextBetween_1 7 rfl rfl)
theorem dX20_isNextBetween_33 : decode cX20_isNextBetween 33 = .ok (.aload_n 0, 1) := dk_42 (dk_at dksX20_isNextBetween_1 10 rfl rfl)
theorem dX20_isNextBetween_34 : decode cX20_isNextBetween 34 = .ok (.getfield 29, 3) := dk_180 0 29 (dk_at dksX20_isNextBetween_1 11 rfl rfl)
theorem dX20_isNextBetween_37 : decode cX20_isNextBetween 37 = .ok (.invokevirtual 39, 3) := dk_182 0 39 (dk_at dksX20_isNextBetween_1 14 rfl rfl)
theorem dX20_isNextBetween_40 : decode cX20_isNextBetween 40 = .ok (.iload_n 2, 1) := dk_28 (dk_at dksX20_isNextBetween_1 17 rfl rfl)
theorem dX20_isNextBetween_41 : decode cX20_isNextBetween 41 = .ok (.if_icmp .gt 7, 3) := dk_163 0 7 (dk_at dksX20_isNextBetween_1 18 rfl rfl)
theorem dX20_isNextBetween_44 : decode cX20_isNextBetween 44 = .ok (.iconst 1, 1) := dk_4 (dk_at dksX20_isNextBetween_1 21 rfl rfl)
theorem dX20_isNextBetween_45 : decode cX20_isNextBetween 45 = .ok (.goto 4, 3) := dk_167 0 4 (dk_at dksX20_isNextBetween_2 0 rfl rfl)
theorem dX20_isNextBetween_48 : decode cX20_isNextBetween 48 = .ok (.iconst 0, 1) := dk_3 (dk_at dksX20_isNextBetween_2 3 rfl rfl)
theorem dX20_isNextBetween_49 : decode cX20_isNextBetween 49 = .ok (.ireturn, 1) := dk_172 (dk_at dksX20_isNextBetween_2 4 rfl rfl)
abbrev cX20_expect : ByteArray := prog_20_method_4_code
def yX20_expect : MethodName := ⟨RX20, "expect", "(Z)V"⟩
def dkwX20_expect_0 : List UInt8 := [27, 154, 0, 15, 187, 0, 47, 89, 42, 180, 0, 29, 183, 0, 49, 191, 177]
abbrev dktX20_expect_0 : List UInt8 := dkwX20_expect_0 ++ []
theorem dksX20_expect_0 : cX20_expect.data.toList.drop 0 = dktX20_expect_0 := by decide +kernel
theorem dX20_expect_0 : decode cX20_expect 0 = .ok (.iload_n 1, 1) := dk_27 (dk_at dksX20_expect_0 0 rfl rfl)
theorem dX20_expect_1 : decode cX20_expect 1 = .ok (.ifCond .ne 15, 3) := dk_154 0 15 (dk_at dksX20_expect_0 1 rfl rfl)
theorem dX20_expect_4 : decode cX20_expect 4 = .ok (.new 47, 3) := dk_187 0 47 (dk_at dksX20_expect_0 4 rfl rfl)
theorem dX20_expect_7 : decode cX20_expect 7 = .ok (.dup, 1) := dk_89 (dk_at dksX20_expect_0 7 rfl rfl)
theorem dX20_expect_8 : decode cX20_expect 8 = .ok (.aload_n 0, 1) := dk_42 (dk_at dksX20_expect_0 8 rfl rfl)
theorem dX20_expect_9 : decode cX20_expect 9 = .ok (.getfield 29, 3) := dk_180 0 29 (dk_at dksX20_expect_0 9 rfl rfl)
theorem dX20_expect_12 : decode cX20_expect 12 = .ok (.invokespecial 49, 3) := dk_183 0 49 (dk_at dksX20_expect_0 12 rfl rfl)
theorem dX20_expect_15 : decode cX20_expect 15 = .ok (.athrow, 1) := dk_191 (dk_at dksX20_expect_0 15 rfl rfl)
theorem dX20_expect_16 : decode cX20_expect 16 = .ok (.return_, 1) := dk_177 (dk_at dksX20_expect_0 16 rfl rfl)
abbrev cX20_expectText : ByteArray := prog_20_method_5_code
def yX20_expectText : MethodName := ⟨RX20, "expectText", "(Ljava/lang/String;)V"⟩
def dkwX20_expectText_1 : List UInt8 := [132, 2, 1, 167, 255, 232, 177]
abbrev dktX20_expectText_1 : List UInt8 := dkwX20_expectText_1 ++ []
def dkwX20_expectText_0 : List UInt8 := [3, 61, 28, 43, 182, 0, 33, 162, 0, 22, 42, 42, 43, 28, 182, 0, 39, 182, 0, 52, 182, 0, 56]
abbrev dktX20_expectText_0 : List UInt8 := dkwX20_expectText_0 ++ dktX20_expectText_1
theorem dksX20_expectText_0 : cX20_expectText.data.toList.drop 0 = dktX20_expectText_0 := by decide +kernel
theorem dksX20_expectText_1 : cX20_expectText.data.toList.drop 23 = dktX20_expectText_1 := dk_seg dksX20_expectText_0 23 rfl rfl
theorem dX20_expectText_0 : decode cX20_expectText 0 = .ok (.iconst 0, 1) := dk_3 (dk_at dksX20_expectText_0 0 rfl rfl)
theorem dX20_expectText_1 : decode cX20_expectText 1 = .ok (.istore_n 2, 1) := dk_61 (dk_at dksX20_expectText_0 1 rfl rfl)
theorem dX20_expectText_2 : decode cX20_expectText 2 = .ok (.iload_n 2, 1) := dk_28 (dk_at dksX20_expectText_0 2 rfl rfl)
theorem dX20_expectText_3 : decode cX20_expectText 3 = .ok (.aload_n 1, 1) := dk_43 (dk_at dksX20_expectText_0 3 rfl rfl)
theorem dX20_expectText_4 : decode cX20_expectText 4 = .ok (.invokevirtual 33, 3) := dk_182 0 33 (dk_at dksX20_expectText_0 4 rfl rfl)
theorem dX20_expectText_7 : decode cX20_expectText 7 = .ok (.if_icmp .ge 22, 3) := dk_162 0 22 (dk_at dksX20_expectText_0 7 rfl rfl)
theorem dX20_expectText_10 : decode cX20_expectText 10 = .ok (.aload_n 0, 1) := dk_42 (dk_at dksX20_expectText_0 10 rfl rfl)
theorem dX20_expectText_11 : decode cX20_expectText 11 = .ok (.aload_n 0, 1) := dk_42 (dk_at dksX20_expectText_0 11 rfl rfl)
theorem dX20_expectText_12 : decode cX20_expectText 12 = .ok (.aload_n 1, 1) := dk_43 (dk_at dksX20_expectText_0 12 rfl rfl)
theorem dX20_expectText_13 : decode cX20_expectText 13 = .ok (.iload_n 2, 1) := dk_28 (dk_at dksX20_expectText_0 13 rfl rfl)
theorem dX20_expectText_14 : decode cX20_expectText 14 = .ok (.invokevirtual 39, 3) := dk_182 0 39 (dk_at dksX20_expectText_0 14 rfl rfl)
theorem dX20_expectText_17 : decode cX20_expectText 17 = .ok (.invokevirtual 52, 3) := dk_182 0 52 (dk_at dksX20_expectText_0 17 rfl rfl)
theorem dX20_expectText_20 : decode cX20_expectText 20 = .ok (.invokevirtual 56, 3) := dk_182 0 56 (dk_at dksX20_expectText_0 20 rfl rfl)
theorem dX20_expectText_23 : decode cX20_expectText 23 = .ok (.iinc 2 1, 3) := dk_132 2 1 (dk_at dksX20_expectText_1 0 rfl rfl)
theorem dX20_expectText_26 : decode cX20_expectText 26 = .ok (.goto (-24), 3) := dk_167 255 232 (dk_at dksX20_expectText_1 3 rfl rfl)
theorem dX20_expectText_29 : decode cX20_expectText 29 = .ok (.return_, 1) := dk_177 (dk_at dksX20_expectText_1 6 rfl rfl)
abbrev cX20_accept : ByteArray := prog_20_method_3_code
def yX20_accept : MethodName := ⟨RX20, "accept", "(C)Z"⟩
def dkwX20_accept_1 : List UInt8 := [181, 0, 29, 28, 172]
abbrev dktX20_accept_1 : List UInt8 := dkwX20_accept_1 ++ []
def dkwX20_accept_0 : List UInt8 := [42, 27, 27, 182, 0, 43, 61, 42, 89, 180, 0, 29, 28, 153, 0, 7, 4, 167, 0, 4, 3, 96]
abbrev dktX20_accept_0 : List UInt8 := dkwX20_accept_0 ++ dktX20_accept_1
theorem dksX20_accept_0 : cX20_accept.data.toList.drop 0 = dktX20_accept_0 := by decide +kernel
theorem dksX20_accept_1 : cX20_accept.data.toList.drop 22 = dktX20_accept_1 := dk_seg dksX20_accept_0 22 rfl rfl
theorem dX20_accept_0 : decode cX20_accept 0 = .ok (.aload_n 0, 1) := dk_42 (dk_at dksX20_accept_0 0 rfl rfl)
theorem dX20_accept_1 : decode cX20_accept 1 = .ok (.iload_n 1, 1) := dk_27 (dk_at dksX20_accept_0 1 rfl rfl)
theorem dX20_accept_2 : decode cX20_accept 2 = .ok (.iload_n 1, 1) := dk_27 (dk_at dksX20_accept_0 2 rfl rfl)
theorem dX20_accept_3 : decode cX20_accept 3 = .ok (.invokevirtual 43, 3) := dk_182 0 43 (dk_at dksX20_accept_0 3 rfl rfl)
theorem dX20_accept_6 : decode cX20_accept 6 = .ok (.istore_n 2, 1) := dk_61 (dk_at dksX20_accept_0 6 rfl rfl)
theorem dX20_accept_7 : decode cX20_accept 7 = .ok (.aload_n 0, 1) := dk_42 (dk_at dksX20_accept_0 7 rfl rfl)
theorem dX20_accept_8 : decode cX20_accept 8 = .ok (.dup, 1) := dk_89 (dk_at dksX20_accept_0 8 rfl rfl)
theorem dX20_accept_9 : decode cX20_accept 9 = .ok (.getfield 29, 3) := dk_180 0 29 (dk_at dksX20_accept_0 9 rfl rfl)
theorem dX20_accept_12 : decode cX20_accept 12 = .ok (.iload_n 2, 1) := dk_28 (dk_at dksX20_accept_0 12 rfl rfl)
theorem dX20_accept_13 : decode cX20_accept 13 = .ok (.ifCond .eq 7, 3) := dk_153 0 7 (dk_at dksX20_accept_0 13 rfl rfl)
theorem dX20_accept_16 : decode cX20_accept 16 = .ok (.iconst 1, 1) := dk_4 (dk_at dksX20_accept_0 16 rfl rfl)
theorem dX20_accept_17 : decode cX20_accept 17 = .ok (.goto 4, 3) := dk_167 0 4 (dk_at dksX20_accept_0 17 rfl rfl)
theorem dX20_accept_20 : decode cX20_accept 20 = .ok (.iconst 0, 1) := dk_3 (dk_at dksX20_accept_0 20 rfl rfl)
theorem dX20_accept_21 : decode cX20_accept 21 = .ok (.iadd, 1) := dk_96 (dk_at dksX20_accept_0 21 rfl rfl)
theorem dX20_accept_22 : decode cX20_accept 22 = .ok (.putfield 29, 3) := dk_181 0 29 (dk_at dksX20_accept_1 0 rfl rfl)
theorem dX20_accept_25 : decode cX20_accept 25 = .ok (.iload_n 2, 1) := dk_28 (dk_at dksX20_accept_1 3 rfl rfl)
theorem dX20_accept_26 : decode cX20_accept 26 = .ok (.ireturn, 1) := dk_172 (dk_at dksX20_accept_1 4 rfl rfl)
abbrev cX20_parseGround : ByteArray := prog_20_method_10_code
def yX20_parseGround : MethodName := ⟨RX20, "parseGround", "(Ljava/lang/String;)LBrambleLogic$Command;"⟩
def dkwX20_parseGround_2 : List UInt8 := [187, 0, 85, 89, 43, 28, 29, 21, 4, 183, 0, 87, 176]
abbrev dktX20_parseGround_2 : List UInt8 := dkwX20_parseGround_2 ++ []
def dkwX20_parseGround_1 : List UInt8 := [184, 0, 77, 153, 0, 15, 42, 18, 81, 182, 0, 70, 42, 182, 0, 74, 54, 4, 42, 18, 83, 182, 0, 70]
abbrev dktX20_parseGround_1 : List UInt8 := dkwX20_parseGround_1 ++ dktX20_parseGround_2
def dkwX20_parseGround_0 : List UInt8 := [42, 182, 0, 64, 61, 42, 18, 68, 182, 0, 70, 42, 182, 0, 74, 62, 2, 54, 4, 28, 16, 97, 100]
abbrev dktX20_parseGround_0 : List UInt8 := dkwX20_parseGround_0 ++ dktX20_parseGround_1
theorem dksX20_parseGround_0 : cX20_parseGround.data.toList.drop 0 = dktX20_parseGround_0 := by decide +kernel
theorem dksX20_parseGround_1 : cX20_parseGround.data.toList.drop 23 = dktX20_parseGround_1 := dk_seg dksX20_parseGround_0 23 rfl rfl
theorem dksX20_parseGround_2 : cX20_parseGround.data.toList.drop 47 = dktX20_parseGround_2 := dk_seg dksX20_parseGround_1 24 rfl rfl
theorem dX20_parseGround_0 : decode cX20_parseGround 0 = .ok (.aload_n 0, 1) := dk_42 (dk_at dksX20_parseGround_0 0 rfl rfl)
theorem dX20_parseGround_1 : decode cX20_parseGround 1 = .ok (.invokevirtual 64, 3) := dk_182 0 64 (dk_at dksX20_parseGround_0 1 rfl rfl)
theorem dX20_parseGround_4 : decode cX20_parseGround 4 = .ok (.istore_n 2, 1) := dk_61 (dk_at dksX20_parseGround_0 4 rfl rfl)
theorem dX20_parseGround_5 : decode cX20_parseGround 5 = .ok (.aload_n 0, 1) := dk_42 (dk_at dksX20_parseGround_0 5 rfl rfl)
theorem dX20_parseGround_6 : decode cX20_parseGround 6 = .ok (.ldc 68, 2) := dk_18 68 (dk_at dksX20_parseGround_0 6 rfl rfl)
theorem dX20_parseGround_8 : decode cX20_parseGround 8 = .ok (.invokevirtual 70, 3) := dk_182 0 70 (dk_at dksX20_parseGround_0 8 rfl rfl)
theorem dX20_parseGround_11 : decode cX20_parseGround 11 = .ok (.aload_n 0, 1) := dk_42 (dk_at dksX20_parseGround_0 11 rfl rfl)
theorem dX20_parseGround_12 : decode cX20_parseGround 12 = .ok (.invokevirtual 74, 3) := dk_182 0 74 (dk_at dksX20_parseGround_0 12 rfl rfl)
theorem dX20_parseGround_15 : decode cX20_parseGround 15 = .ok (.istore_n 3, 1) := dk_62 (dk_at dksX20_parseGround_0 15 rfl rfl)
theorem dX20_parseGround_16 : decode cX20_parseGround 16 = .ok (.iconst (-1), 1) := dk_2 (dk_at dksX20_parseGround_0 16 rfl rfl)
theorem dX20_parseGround_17 : decode cX20_parseGround 17 = .ok (.istore 4, 2) := dk_54 4 (dk_at dksX20_parseGround_0 17 rfl rfl)
theorem dX20_parseGround_19 : decode cX20_parseGround 19 = .ok (.iload_n 2, 1) := dk_28 (dk_at dksX20_parseGround_0 19 rfl rfl)
theorem dX20_parseGround_20 : decode cX20_parseGround 20 = .ok (.bipush 97, 2) := dk_16 97 (dk_at dksX20_parseGround_0 20 rfl rfl)
theorem dX20_parseGround_22 : decode cX20_parseGround 22 = .ok (.isub, 1) := dk_100 (dk_at dksX20_parseGround_0 22 rfl rfl)
theorem dX20_parseGround_23 : decode cX20_parseGround 23 = .ok (.invokestatic 77, 3) := dk_184 0 77 (dk_at dksX20_parseGround_1 0 rfl rfl)
theorem dX20_parseGround_26 : decode cX20_parseGround 26 = .ok (.ifCond .eq 15, 3) := dk_153 0 15 (dk_at dksX20_parseGround_1 3 rfl rfl)
theorem dX20_parseGround_29 : decode cX20_parseGround 29 = .ok (.aload_n 0, 1) := dk_42 (dk_at dksX20_parseGround_1 6 rfl rfl)
theorem dX20_parseGround_30 : decode cX20_parseGround 30 = .ok (.ldc 81, 2) := dk_18 81 (dk_at dksX20_parseGround_1 7 rfl rfl)
theorem dX20_parseGround_32 : decode cX20_parseGround 32 = .ok (.invokevirtual 70, 3) := dk_182 0 70 (dk_at dksX20_parseGround_1 9 rfl rfl)
theorem dX20_parseGround_35 : decode cX20_parseGround 35 = .ok (.aload_n 0, 1) := dk_42 (dk_at dksX20_parseGround_1 12 rfl rfl)
theorem dX20_parseGround_36 : decode cX20_parseGround 36 = .ok (.invokevirtual 74, 3) := dk_182 0 74 (dk_at dksX20_parseGround_1 13 rfl rfl)
theorem dX20_parseGround_39 : decode cX20_parseGround 39 = .ok (.istore 4, 2) := dk_54 4 (dk_at dksX20_parseGround_1 16 rfl rfl)
theorem dX20_parseGround_41 : decode cX20_parseGround 41 = .ok (.aload_n 0, 1) := dk_42 (dk_at dksX20_parseGround_1 18 rfl rfl)
theorem dX20_parseGround_42 : decode cX20_parseGround 42 = .ok (.ldc 83, 2) := dk_18 83 (dk_at dksX20_parseGround_1 19 rfl rfl)
theorem dX20_parseGround_44 : decode cX20_parseGround 44 = .ok (.invokevirtual 70, 3) := dk_182 0 70 (dk_at dksX20_parseGround_1 21 rfl rfl)
theorem dX20_parseGround_47 : decode cX20_parseGround 47 = .ok (.new 85, 3) := dk_187 0 85 (dk_at dksX20_parseGround_2 0 rfl rfl)
theorem dX20_parseGround_50 : decode cX20_parseGround 50 = .ok (.dup, 1) := dk_89 (dk_at dksX20_parseGround_2 3 rfl rfl)
theorem dX20_parseGround_51 : decode cX20_parseGround 51 = .ok (.aload_n 1, 1) := dk_43 (dk_at dksX20_parseGround_2 4 rfl rfl)
theorem dX20_parseGround_52 : decode cX20_parseGround 52 = .ok (.iload_n 2, 1) := dk_28 (dk_at dksX20_parseGround_2 5 rfl rfl)
theorem dX20_parseGround_53 : decode cX20_parseGround 53 = .ok (.iload_n 3, 1) := dk_29 (dk_at dksX20_parseGround_2 6 rfl rfl)
theorem dX20_parseGround_54 : decode cX20_parseGround 54 = .ok (.iload 4, 2) := dk_21 4 (dk_at dksX20_parseGround_2 7 rfl rfl)
theorem dX20_parseGround_56 : decode cX20_parseGround 56 = .ok (.invokespecial 87, 3) := dk_183 0 87 (dk_at dksX20_parseGround_2 9 rfl rfl)
theorem dX20_parseGround_59 : decode cX20_parseGround 59 = .ok (.areturn, 1) := dk_176 (dk_at dksX20_parseGround_2 12 rfl rfl)
abbrev cX20_parsePredicate : ByteArray := prog_20_method_9_code
def yX20_parsePredicate : MethodName := ⟨RX20, "parsePredicate", "()C"⟩
def dkwX20_parsePredicate_1 : List UInt8 := [180, 0, 25, 42, 180, 0, 29, 4, 100, 182, 0, 39, 172]
abbrev dktX20_parsePredicate_1 : List UInt8 := dkwX20_parsePredicate_1 ++ []
def dkwX20_parsePredicate_0 : List UInt8 := [42, 42, 16, 97, 16, 104, 182, 0, 43, 182, 0, 56, 42, 89, 180, 0, 29, 4, 96, 181, 0, 29, 42]
abbrev dktX20_parsePredicate_0 : List UInt8 := dkwX20_parsePredicate_0 ++ dktX20_parsePredicate_1
theorem dksX20_parsePredicate_0 : cX20_parsePredicate.data.toList.drop 0 = dktX20_parsePredicate_0 := by decide +kernel
theorem dksX20_parsePredicate_1 : cX20_parsePredicate.data.toList.drop 23 = dktX20_parsePredicate_1 := dk_seg dksX20_parsePredicate_0 23 rfl rfl
theorem dX20_parsePredicate_0 : decode cX20_parsePredicate 0 = .ok (.aload_n 0, 1) := dk_42 (dk_at dksX20_parsePredicate_0 0 rfl rfl)
theorem dX20_parsePredicate_1 : decode cX20_parsePredicate 1 = .ok (.aload_n 0, 1) := dk_42 (dk_at dksX20_parsePredicate_0 1 rfl rfl)
theorem dX20_parsePredicate_2 : decode cX20_parsePredicate 2 = .ok (.bipush 97, 2) := dk_16 97 (dk_at dksX20_parsePredicate_0 2 rfl rfl)
theorem dX20_parsePredicate_4 : decode cX20_parsePredicate 4 = .ok (.bipush 104, 2) := dk_16 104 (dk_at dksX20_parsePredicate_0 4 rfl rfl)
theorem dX20_parsePredicate_6 : decode cX20_parsePredicate 6 = .ok (.invokevirtual 43, 3) := dk_182 0 43 (dk_at dksX20_parsePredicate_0 6 rfl rfl)
theorem dX20_parsePredicate_9 : decode cX20_parsePredicate 9 = .ok (.invokevirtual 56, 3) := dk_182 0 56 (dk_at dksX20_parsePredicate_0 9 rfl rfl)
theorem dX20_parsePredicate_12 : decode cX20_parsePredicate 12 = .ok (.aload_n 0, 1) := dk_42 (dk_at dksX20_parsePredicate_0 12 rfl rfl)
theorem dX20_parsePredicate_13 : decode cX20_parsePredicate 13 = .ok (.dup, 1) := dk_89 (dk_at dksX20_parsePredicate_0 13 rfl rfl)
theorem dX20_parsePredicate_14 : decode cX20_parsePredicate 14 = .ok (.getfield 29, 3) := dk_180 0 29 (dk_at dksX20_parsePredicate_0 14 rfl rfl)
theorem dX20_parsePredicate_17 : decode cX20_parsePredicate 17 = .ok (.iconst 1, 1) := dk_4 (dk_at dksX20_parsePredicate_0 17 rfl rfl)
theorem dX20_parsePredicate_18 : decode cX20_parsePredicate 18 = .ok (.iadd, 1) := dk_96 (dk_at dksX20_parsePredicate_0 18 rfl rfl)
theorem dX20_parsePredicate_19 : decode cX20_parsePredicate 19 = .ok (.putfield 29, 3) := dk_181 0 29 (dk_at dksX20_parsePredicate_0 19 rfl rfl)
theorem dX20_parsePredicate_22 : decode cX20_parsePredicate 22 = .ok (.aload_n 0, 1) := dk_42 (dk_at dksX20_parsePredicate_0 22 rfl rfl)
theorem dX20_parsePredicate_23 : decode cX20_parsePredicate 23 = .ok (.getfield 25, 3) := dk_180 0 25 (dk_at dksX20_parsePredicate_1 0 rfl rfl)
theorem dX20_parsePredicate_26 : decode cX20_parsePredicate 26 = .ok (.aload_n 0, 1) := dk_42 (dk_at dksX20_parsePredicate_1 3 rfl rfl)
theorem dX20_parsePredicate_27 : decode cX20_parsePredicate 27 = .ok (.getfield 29, 3) := dk_180 0 29 (dk_at dksX20_parsePredicate_1 4 rfl rfl)
theorem dX20_parsePredicate_30 : decode cX20_parsePredicate 30 = .ok (.iconst 1, 1) := dk_4 (dk_at dksX20_parsePredicate_1 7 rfl rfl)
theorem dX20_parsePredicate_31 : decode cX20_parsePredicate 31 = .ok (.isub, 1) := dk_100 (dk_at dksX20_parsePredicate_1 8 rfl rfl)
theorem dX20_parsePredicate_32 : decode cX20_parsePredicate 32 = .ok (.invokevirtual 39, 3) := dk_182 0 39 (dk_at dksX20_parsePredicate_1 9 rfl rfl)
theorem dX20_parsePredicate_35 : decode cX20_parsePredicate 35 = .ok (.ireturn, 1) := dk_172 (dk_at dksX20_parsePredicate_1 12 rfl rfl)
abbrev cX20_parseDigit : ByteArray := prog_20_method_6_code
def yX20_parseDigit : MethodName := ⟨RX20, "parseDigit", "()I"⟩
def dkwX20_parseDigit_1 : List UInt8 := [180, 0, 25, 42, 180, 0, 29, 4, 100, 182, 0, 39, 16, 48, 100, 172]
abbrev dktX20_parseDigit_1 : List UInt8 := dkwX20_parseDigit_1 ++ []
def dkwX20_parseDigit_0 : List UInt8 := [42, 42, 16, 48, 16, 57, 182, 0, 43, 182, 0, 56, 42, 89, 180, 0, 29, 4, 96, 181, 0, 29, 42]
abbrev dktX20_parseDigit_0 : List UInt8 := dkwX20_parseDigit_0 ++ dktX20_parseDigit_1
theorem dksX20_parseDigit_0 : cX20_parseDigit.data.toList.drop 0 = dktX20_parseDigit_0 := by decide +kernel
theorem dksX20_parseDigit_1 : cX20_parseDigit.data.toList.drop 23 = dktX20_parseDigit_1 := dk_seg dksX20_parseDigit_0 23 rfl rfl
theorem dX20_parseDigit_0 : decode cX20_parseDigit 0 = .ok (.aload_n 0, 1) := dk_42 (dk_at dksX20_parseDigit_0 0 rfl rfl)
theorem dX20_parseDigit_1 : decode cX20_parseDigit 1 = .ok (.aload_n 0, 1) := dk_42 (dk_at dksX20_parseDigit_0 1 rfl rfl)
theorem dX20_parseDigit_2 : decode cX20_parseDigit 2 = .ok (.bipush 48, 2) := dk_16 48 (dk_at dksX20_parseDigit_0 2 rfl rfl)
theorem dX20_parseDigit_4 : decode cX20_parseDigit 4 = .ok (.bipush 57, 2) := dk_16 57 (dk_at dksX20_parseDigit_0 4 rfl rfl)
theorem dX20_parseDigit_6 : decode cX20_parseDigit 6 = .ok (.invokevirtual 43, 3) := dk_182 0 43 (dk_at dksX20_parseDigit_0 6 rfl rfl)
theorem dX20_parseDigit_9 : decode cX20_parseDigit 9 = .ok (.invokevirtual 56, 3) := dk_182 0 56 (dk_at dksX20_parseDigit_0 9 rfl rfl)
theorem dX20_parseDigit_12 : decode cX20_parseDigit 12 = .ok (.aload_n 0, 1) := dk_42 (dk_at dksX20_parseDigit_0 12 rfl rfl)
theorem dX20_parseDigit_13 : decode cX20_parseDigit 13 = .ok (.dup, 1) := dk_89 (dk_at dksX20_parseDigit_0 13 rfl rfl)
theorem dX20_parseDigit_14 : decode cX20_parseDigit 14 = .ok (.getfield 29, 3) := dk_180 0 29 (dk_at dksX20_parseDigit_0 14 rfl rfl)
theorem dX20_parseDigit_17 : decode cX20_parseDigit 17 = .ok (.iconst 1, 1) := dk_4 (dk_at dksX20_parseDigit_0 17 rfl rfl)
theorem dX20_parseDigit_18 : decode cX20_parseDigit 18 = .ok (.iadd, 1) := dk_96 (dk_at dksX20_parseDigit_0 18 rfl rfl)
theorem dX20_parseDigit_19 : decode cX20_parseDigit 19 = .ok (.putfield 29, 3) := dk_181 0 29 (dk_at dksX20_parseDigit_0 19 rfl rfl)
theorem dX20_parseDigit_22 : decode cX20_parseDigit 22 = .ok (.aload_n 0, 1) := dk_42 (dk_at dksX20_parseDigit_0 22 rfl rfl)
theorem dX20_parseDigit_23 : decode cX20_parseDigit 23 = .ok (.getfield 25, 3) := dk_180 0 25 (dk_at dksX20_parseDigit_1 0 rfl rfl)
theorem dX20_parseDigit_26 : decode cX20_parseDigit 26 = .ok (.aload_n 0, 1) := dk_42 (dk_at dksX20_parseDigit_1 3 rfl rfl)
theorem dX20_parseDigit_27 : decode cX20_parseDigit 27 = .ok (.getfield 29, 3) := dk_180 0 29 (dk_at dksX20_parseDigit_1 4 rfl rfl)
theorem dX20_parseDigit_30 : decode cX20_parseDigit 30 = .ok (.iconst 1, 1) := dk_4 (dk_at dksX20_parseDigit_1 7 rfl rfl)
theorem dX20_parseDigit_31 : decode cX20_parseDigit 31 = .ok (.isub, 1) := dk_100 (dk_at dksX20_parseDigit_1 8 rfl rfl)
theorem dX20_parseDigit_32 : decode cX20_parseDigit 32 = .ok (.invokevirtual 39, 3) := dk_182 0 39 (dk_at dksX20_parseDigit_1 9 rfl rfl)
theorem dX20_parseDigit_35 : decode cX20_parseDigit 35 = .ok (.bipush 48, 2) := dk_16 48 (dk_at dksX20_parseDigit_1 12 rfl rfl)
theorem dX20_parseDigit_37 : decode cX20_parseDigit 37 = .ok (.isub, 1) := dk_100 (dk_at dksX20_parseDigit_1 14 rfl rfl)
theorem dX20_parseDigit_38 : decode cX20_parseDigit 38 = .ok (.ireturn, 1) := dk_172 (dk_at dksX20_parseDigit_1 15 rfl rfl)
abbrev cX20_parseRule : ByteArray := prog_20_method_13_code
def yX20_parseRule : MethodName := ⟨RX20, "parseRule", "()LBrambleLogic$Command;"⟩
def dkwX20_parseRule_4 : List UInt8 := [42, 180, 0, 29, 182, 0, 134, 183, 0, 138, 181, 0, 141, 25, 4, 176]
abbrev dktX20_parseRule_4 : List UInt8 := dkwX20_parseRule_4 ++ []
def dkwX20_parseRule_3 : List UInt8 := [18, 130, 16, 97, 2, 2, 183, 0, 87, 58, 4, 25, 4, 187, 0, 132, 89, 44, 45, 42, 180, 0, 25, 27]
abbrev dktX20_parseRule_3 : List UInt8 := dkwX20_parseRule_3 ++ dktX20_parseRule_4
def dkwX20_parseRule_2 : List UInt8 := [182, 0, 52, 153, 0, 17, 45, 42, 182, 0, 117, 185, 0, 121, 2, 0, 87, 167, 255, 226, 187, 0, 85, 89]
abbrev dktX20_parseRule_2 : List UInt8 := dkwX20_parseRule_2 ++ dktX20_parseRule_3
def dkwX20_parseRule_1 : List UInt8 := [45, 42, 182, 0, 117, 185, 0, 121, 2, 0, 87, 45, 185, 0, 127, 1, 0, 6, 162, 0, 26, 42, 16, 44]
abbrev dktX20_parseRule_1 : List UInt8 := dkwX20_parseRule_1 ++ dktX20_parseRule_2
def dkwX20_parseRule_0 : List UInt8 := [42, 180, 0, 29, 60, 42, 182, 0, 100, 77, 42, 18, 112, 182, 0, 70, 187, 0, 114, 89, 183, 0, 116, 78]
abbrev dktX20_parseRule_0 : List UInt8 := dkwX20_parseRule_0 ++ dktX20_parseRule_1
theorem dksX20_parseRule_0 : cX20_parseRule.data.toList.drop 0 = dktX20_parseRule_0 := by decide +kernel
theorem dksX20_parseRule_1 : cX20_parseRule.data.toList.drop 24 = dktX20_parseRule_1 := dk_seg dksX20_parseRule_0 24 rfl rfl
theorem dksX20_parseRule_2 : cX20_parseRule.data.toList.drop 48 = dktX20_parseRule_2 := dk_seg dksX20_parseRule_1 24 rfl rfl
theorem dksX20_parseRule_3 : cX20_parseRule.data.toList.drop 72 = dktX20_parseRule_3 := dk_seg dksX20_parseRule_2 24 rfl rfl
theorem dksX20_parseRule_4 : cX20_parseRule.data.toList.drop 96 = dktX20_parseRule_4 := dk_seg dksX20_parseRule_3 24 rfl rfl
theorem dX20_parseRule_0 : decode cX20_parseRule 0 = .ok (.aload_n 0, 1) := dk_42 (dk_at dksX20_parseRule_0 0 rfl rfl)
theorem dX20_parseRule_1 : decode cX20_parseRule 1 = .ok (.getfield 29, 3) := dk_180 0 29 (dk_at dksX20_parseRule_0 1 rfl rfl)
theorem dX20_parseRule_4 : decode cX20_parseRule 4 = .ok (.istore_n 1, 1) := dk_60 (dk_at dksX20_parseRule_0 4 rfl rfl)
theorem dX20_parseRule_5 : decode cX20_parseRule 5 = .ok (.aload_n 0, 1) := dk_42 (dk_at dksX20_parseRule_0 5 rfl rfl)
theorem dX20_parseRule_6 : decode cX20_parseRule 6 = .ok (.invokevirtual 100, 3) := dk_182 0 100 (dk_at dksX20_parseRule_0 6 rfl rfl)
theorem dX20_parseRule_9 : decode cX20_parseRule 9 = .ok (.astore_n 2, 1) := dk_77 (dk_at dksX20_parseRule_0 9 rfl rfl)
theorem dX20_parseRule_10 : decode cX20_parseRule 10 = .ok (.aload_n 0, 1) := dk_42 (dk_at dksX20_parseRule_0 10 rfl rfl)
theorem dX20_parseRule_11 : decode cX20_parseRule 11 = .ok (.ldc 112, 2) := dk_18 112 (dk_at dksX20_parseRule_0 11 rfl rfl)
theorem dX20_parseRule_13 : decode cX20_parseRule 13 = .ok (.invokevirtual 70, 3) := dk_182 0 70 (dk_at dksX20_parseRule_0 13 rfl rfl)
theorem dX20_parseRule_16 : decode cX20_parseRule 16 = .ok (.new 114, 3) := dk_187 0 114 (dk_at dksX20_parseRule_0 16 rfl rfl)
theorem dX20_parseRule_19 : decode cX20_parseRule 19 = .ok (.dup, 1) := dk_89 (dk_at dksX20_parseRule_0 19 rfl rfl)
theorem dX20_parseRule_20 : decode cX20_parseRule 20 = .ok (.invokespecial 116, 3) := dk_183 0 116 (dk_at dksX20_parseRule_0 20 rfl rfl)
theorem dX20_parseRule_23 : decode cX20_parseRule 23 = .ok (.astore_n 3, 1) := dk_78 (dk_at dksX20_parseRule_0 23 rfl rfl)
theorem dX20_parseRule_24 : decode cX20_parseRule 24 = .ok (.aload_n 3, 1) := dk_45 (dk_at dksX20_parseRule_1 0 rfl rfl)
theorem dX20_parseRule_25 : decode cX20_parseRule 25 = .ok (.aload_n 0, 1) := dk_42 (dk_at dksX20_parseRule_1 1 rfl rfl)
theorem dX20_parseRule_26 : decode cX20_parseRule 26 = .ok (.invokevirtual 117, 3) := dk_182 0 117 (dk_at dksX20_parseRule_1 2 rfl rfl)
theorem dX20_parseRule_29 : decode cX20_parseRule 29 = .ok (.invokeinterface 121 2, 5) := by decide +kernel
theorem dX20_parseRule_34 : decode cX20_parseRule 34 = .ok (.pop, 1) := dk_87 (dk_at dksX20_parseRule_1 10 rfl rfl)
theorem dX20_parseRule_35 : decode cX20_parseRule 35 = .ok (.aload_n 3, 1) := dk_45 (dk_at dksX20_parseRule_1 11 rfl rfl)
theorem dX20_parseRule_36 : decode cX20_parseRule 36 = .ok (.invokeinterface 127 1, 5) := by decide +kernel
theorem dX20_parseRule_41 : decode cX20_parseRule 41 = .ok (.iconst 3, 1) := dk_6 (dk_at dksX20_parseRule_1 17 rfl rfl)
theorem dX20_parseRule_42 : decode cX20_parseRule 42 = .ok (.if_icmp .ge 26, 3) := dk_162 0 26 (dk_at dksX20_parseRule_1 18 rfl rfl)
theorem dX20_parseRule_45 : decode cX20_parseRule 45 = .ok (.aload_n 0, 1) := dk_42 (dk_at dksX20_parseRule_1 21 rfl rfl)
theorem dX20_parseRule_46 : decode cX20_parseRule 46 = .ok (.bipush 44, 2) := dk_16 44 (dk_at dksX20_parseRule_1 22 rfl rfl)
theorem dX20_parseRule_48 : decode cX20_parseRule 48 = .ok (.invokevirtual 52, 3) := dk_182 0 52 (dk_at dksX20_parseRule_2 0 rfl rfl)
theorem dX20_parseRule_51 : decode cX20_parseRule 51 = .ok (.ifCond .eq 17, 3) := dk_153 0 17 (dk_at dksX20_parseRule_2 3 rfl rfl)
theorem dX20_parseRule_54 : decode cX20_parseRule 54 = .ok (.aload_n 3, 1) := dk_45 (dk_at dksX20_parseRule_2 6 rfl rfl)
theorem dX20_parseRule_55 : decode cX20_parseRule 55 = .ok (.aload_n 0, 1) := dk_42 (dk_at dksX20_parseRule_2 7 rfl rfl)
theorem dX20_parseRule_56 : decode cX20_parseRule 56 = .ok (.invokevirtual 117, 3) := dk_182 0 117 (dk_at dksX20_parseRule_2 8 rfl rfl)
theorem dX20_parseRule_59 : decode cX20_parseRule 59 = .ok (.invokeinterface 121 2, 5) := by decide +kernel
theorem dX20_parseRule_64 : decode cX20_parseRule 64 = .ok (.pop, 1) := dk_87 (dk_at dksX20_parseRule_2 16 rfl rfl)
theorem dX20_parseRule_65 : decode cX20_parseRule 65 = .ok (.goto (-30), 3) := dk_167 255 226 (dk_at dksX20_parseRule_2 17 rfl rfl)
theorem dX20_parseRule_68 : decode cX20_parseRule 68 = .ok (.new 85, 3) := dk_187 0 85 (dk_at dksX20_parseRule_2 20 rfl rfl)
theorem dX20_parseRule_71 : decode cX20_parseRule 71 = .ok (.dup, 1) := dk_89 (dk_at dksX20_parseRule_2 23 rfl rfl)
theorem dX20_parseRule_72 : decode cX20_parseRule 72 = .ok (.ldc 130, 2) := dk_18 130 (dk_at dksX20_parseRule_3 0 rfl rfl)
theorem dX20_parseRule_74 : decode cX20_parseRule 74 = .ok (.bipush 97, 2) := dk_16 97 (dk_at dksX20_parseRule_3 2 rfl rfl)
theorem dX20_parseRule_76 : decode cX20_parseRule 76 = .ok (.iconst (-1), 1) := dk_2 (dk_at dksX20_parseRule_3 4 rfl rfl)
theorem dX20_parseRule_77 : decode cX20_parseRule 77 = .ok (.iconst (-1), 1) := dk_2 (dk_at dksX20_parseRule_3 5 rfl rfl)
theorem dX20_parseRule_78 : decode cX20_parseRule 78 = .ok (.invokespecial 87, 3) := dk_183 0 87 (dk_at dksX20_parseRule_3 6 rfl rfl)
theorem dX20_parseRule_81 : decode cX20_parseRule 81 = .ok (.astore 4, 2) := dk_58 4 (dk_at dksX20_parseRule_3 9 rfl rfl)
theorem dX20_parseRule_83 : decode cX20_parseRule 83 = .ok (.aload 4, 2) := dk_25 4 (dk_at dksX20_parseRule_3 11 rfl rfl)
theorem dX20_parseRule_85 : decode cX20_parseRule 85 = .ok (.new 132, 3) := dk_187 0 132 (dk_at dksX20_parseRule_3 13 rfl rfl)
theorem dX20_parseRule_88 : decode cX20_parseRule 88 = .ok (.dup, 1) := dk_89 (dk_at dksX20_parseRule_3 16 rfl rfl)
theorem dX20_parseRule_89 : decode cX20_parseRule 89 = .ok (.aload_n 2, 1) := dk_44 (dk_at dksX20_parseRule_3 17 rfl rfl)
theorem dX20_parseRule_90 : decode cX20_parseRule 90 = .ok (.aload_n 3, 1) := dk_45 (dk_at dksX20_parseRule_3 18 rfl rfl)
theorem dX20_parseRule_91 : decode cX20_parseRule 91 = .ok (.aload_n 0, 1) := dk_42 (dk_at dksX20_parseRule_3 19 rfl rfl)
theorem dX20_parseRule_92 : decode cX20_parseRule 92 = .ok (.getfield 25, 3) := dk_180 0 25 (dk_at dksX20_parseRule_3 20 rfl rfl)
theorem dX20_parseRule_95 : decode cX20_parseRule 95 = .ok (.iload_n 1, 1) := dk_27 (dk_at dksX20_parseRule_3 23 rfl rfl)
theorem dX20_parseRule_96 : decode cX20_parseRule 96 = .ok (.aload_n 0, 1) := dk_42 (dk_at dksX20_parseRule_4 0 rfl rfl)
theorem dX20_parseRule_97 : decode cX20_parseRule 97 = .ok (.getfield 29, 3) := dk_180 0 29 (dk_at dksX20_parseRule_4 1 rfl rfl)
theorem dX20_parseRule_100 : decode cX20_parseRule 100 = .ok (.invokevirtual 134, 3) := dk_182 0 134 (dk_at dksX20_parseRule_4 4 rfl rfl)
theorem dX20_parseRule_103 : decode cX20_parseRule 103 = .ok (.invokespecial 138, 3) := dk_183 0 138 (dk_at dksX20_parseRule_4 7 rfl rfl)
theorem dX20_parseRule_106 : decode cX20_parseRule 106 = .ok (.putfield 141, 3) := dk_181 0 141 (dk_at dksX20_parseRule_4 10 rfl rfl)
theorem dX20_parseRule_109 : decode cX20_parseRule 109 = .ok (.aload 4, 2) := dk_25 4 (dk_at dksX20_parseRule_4 13 rfl rfl)
theorem dX20_parseRule_111 : decode cX20_parseRule 111 = .ok (.areturn, 1) := dk_176 (dk_at dksX20_parseRule_4 15 rfl rfl)
abbrev cX20_parseAtom : ByteArray := prog_20_method_11_code
def yX20_parseAtom : MethodName := ⟨RX20, "parseAtom", "()LBrambleLogic$Atom;"⟩
def dkwX20_parseAtom_2 : List UInt8 := [187, 0, 93, 89, 27, 28, 29, 183, 0, 95, 176]
abbrev dktX20_parseAtom_2 : List UInt8 := dkwX20_parseAtom_2 ++ []
def dkwX20_parseAtom_1 : List UInt8 := [184, 0, 77, 153, 0, 14, 42, 18, 81, 182, 0, 70, 42, 182, 0, 90, 62, 42, 18, 83, 182, 0, 70]
abbrev dktX20_parseAtom_1 : List UInt8 := dkwX20_parseAtom_1 ++ dktX20_parseAtom_2
def dkwX20_parseAtom_0 : List UInt8 := [42, 182, 0, 64, 16, 97, 100, 60, 42, 18, 68, 182, 0, 70, 42, 182, 0, 90, 61, 2, 62, 27]
abbrev dktX20_parseAtom_0 : List UInt8 := dkwX20_parseAtom_0 ++ dktX20_parseAtom_1
theorem dksX20_parseAtom_0 : cX20_parseAtom.data.toList.drop 0 = dktX20_parseAtom_0 := by decide +kernel
theorem dksX20_parseAtom_1 : cX20_parseAtom.data.toList.drop 22 = dktX20_parseAtom_1 := dk_seg dksX20_parseAtom_0 22 rfl rfl
theorem dksX20_parseAtom_2 : cX20_parseAtom.data.toList.drop 45 = dktX20_parseAtom_2 := dk_seg dksX20_parseAtom_1 23 rfl rfl
theorem dX20_parseAtom_0 : decode cX20_parseAtom 0 = .ok (.aload_n 0, 1) := dk_42 (dk_at dksX20_parseAtom_0 0 rfl rfl)
theorem dX20_parseAtom_1 : decode cX20_parseAtom 1 = .ok (.invokevirtual 64, 3) := dk_182 0 64 (dk_at dksX20_parseAtom_0 1 rfl rfl)
theorem dX20_parseAtom_4 : decode cX20_parseAtom 4 = .ok (.bipush 97, 2) := dk_16 97 (dk_at dksX20_parseAtom_0 4 rfl rfl)
theorem dX20_parseAtom_6 : decode cX20_parseAtom 6 = .ok (.isub, 1) := dk_100 (dk_at dksX20_parseAtom_0 6 rfl rfl)
theorem dX20_parseAtom_7 : decode cX20_parseAtom 7 = .ok (.istore_n 1, 1) := dk_60 (dk_at dksX20_parseAtom_0 7 rfl rfl)
theorem dX20_parseAtom_8 : decode cX20_parseAtom 8 = .ok (.aload_n 0, 1) := dk_42 (dk_at dksX20_parseAtom_0 8 rfl rfl)
theorem dX20_parseAtom_9 : decode cX20_parseAtom 9 = .ok (.ldc 68, 2) := dk_18 68 (dk_at dksX20_parseAtom_0 9 rfl rfl)
theorem dX20_parseAtom_11 : decode cX20_parseAtom 11 = .ok (.invokevirtual 70, 3) := dk_182 0 70 (dk_at dksX20_parseAtom_0 11 rfl rfl)
theorem dX20_parseAtom_14 : decode cX20_parseAtom 14 = .ok (.aload_n 0, 1) := dk_42 (dk_at dksX20_parseAtom_0 14 rfl rfl)
theorem dX20_parseAtom_15 : decode cX20_parseAtom 15 = .ok (.invokevirtual 90, 3) := dk_182 0 90 (dk_at dksX20_parseAtom_0 15 rfl rfl)
theorem dX20_parseAtom_18 : decode cX20_parseAtom 18 = .ok (.istore_n 2, 1) := dk_61 (dk_at dksX20_parseAtom_0 18 rfl rfl)
theorem dX20_parseAtom_19 : decode cX20_parseAtom 19 = .ok (.iconst (-1), 1) := dk_2 (dk_at dksX20_parseAtom_0 19 rfl rfl)
theorem dX20_parseAtom_20 : decode cX20_parseAtom 20 = .ok (.istore_n 3, 1) := dk_62 (dk_at dksX20_parseAtom_0 20 rfl rfl)
theorem dX20_parseAtom_21 : decode cX20_parseAtom 21 = .ok (.iload_n 1, 1) := dk_27 (dk_at dksX20_parseAtom_0 21 rfl rfl)
theorem dX20_parseAtom_22 : decode cX20_parseAtom 22 = .ok (.invokestatic 77, 3) := dk_184 0 77 (dk_at dksX20_parseAtom_1 0 rfl rfl)
theorem dX20_parseAtom_25 : decode cX20_parseAtom 25 = .ok (.ifCond .eq 14, 3) := dk_153 0 14 (dk_at dksX20_parseAtom_1 3 rfl rfl)
theorem dX20_parseAtom_28 : decode cX20_parseAtom 28 = .ok (.aload_n 0, 1) := dk_42 (dk_at dksX20_parseAtom_1 6 rfl rfl)
theorem dX20_parseAtom_29 : decode cX20_parseAtom 29 = .ok (.ldc 81, 2) := dk_18 81 (dk_at dksX20_parseAtom_1 7 rfl rfl)
theorem dX20_parseAtom_31 : decode cX20_parseAtom 31 = .ok (.invokevirtual 70, 3) := dk_182 0 70 (dk_at dksX20_parseAtom_1 9 rfl rfl)
theorem dX20_parseAtom_34 : decode cX20_parseAtom 34 = .ok (.aload_n 0, 1) := dk_42 (dk_at dksX20_parseAtom_1 12 rfl rfl)
theorem dX20_parseAtom_35 : decode cX20_parseAtom 35 = .ok (.invokevirtual 90, 3) := dk_182 0 90 (dk_at dksX20_parseAtom_1 13 rfl rfl)
theorem dX20_parseAtom_38 : decode cX20_parseAtom 38 = .ok (.istore_n 3, 1) := dk_62 (dk_at dksX20_parseAtom_1 16 rfl rfl)
theorem dX20_parseAtom_39 : decode cX20_parseAtom 39 = .ok (.aload_n 0, 1) := dk_42 (dk_at dksX20_parseAtom_1 17 rfl rfl)
theorem dX20_parseAtom_40 : decode cX20_parseAtom 40 = .ok (.ldc 83, 2) := dk_18 83 (dk_at dksX20_parseAtom_1 18 rfl rfl)
theorem dX20_parseAtom_42 : decode cX20_parseAtom 42 = .ok (.invokevirtual 70, 3) := dk_182 0 70 (dk_at dksX20_parseAtom_1 20 rfl rfl)
theorem dX20_parseAtom_45 : decode cX20_parseAtom 45 = .ok (.new 93, 3) := dk_187 0 93 (dk_at dksX20_parseAtom_2 0 rfl rfl)
theorem dX20_parseAtom_48 : decode cX20_parseAtom 48 = .ok (.dup, 1) := dk_89 (dk_at dksX20_parseAtom_2 3 rfl rfl)
theorem dX20_parseAtom_49 : decode cX20_parseAtom 49 = .ok (.iload_n 1, 1) := dk_27 (dk_at dksX20_parseAtom_2 4 rfl rfl)
theorem dX20_parseAtom_50 : decode cX20_parseAtom 50 = .ok (.iload_n 2, 1) := dk_28 (dk_at dksX20_parseAtom_2 5 rfl rfl)
theorem dX20_parseAtom_51 : decode cX20_parseAtom 51 = .ok (.iload_n 3, 1) := dk_29 (dk_at dksX20_parseAtom_2 6 rfl rfl)
theorem dX20_parseAtom_52 : decode cX20_parseAtom 52 = .ok (.invokespecial 95, 3) := dk_183 0 95 (dk_at dksX20_parseAtom_2 7 rfl rfl)
theorem dX20_parseAtom_55 : decode cX20_parseAtom 55 = .ok (.areturn, 1) := dk_176 (dk_at dksX20_parseAtom_2 10 rfl rfl)
abbrev cX20_parseTerm : ByteArray := prog_20_method_8_code
def yX20_parseTerm : MethodName := ⟨RX20, "parseTerm", "()I"⟩
def dkwX20_parseTerm_2 : List UInt8 := [27, 96, 16, 88, 100, 172]
abbrev dktX20_parseTerm_2 : List UInt8 := dkwX20_parseTerm_2 ++ []
def dkwX20_parseTerm_1 : List UInt8 := [180, 0, 29, 4, 100, 182, 0, 39, 60, 27, 16, 57, 163, 0, 10, 27, 16, 48, 100, 167, 0, 10, 16, 10]
abbrev dktX20_parseTerm_1 : List UInt8 := dkwX20_parseTerm_1 ++ dktX20_parseTerm_2
def dkwX20_parseTerm_0 : List UInt8 := [42, 42, 182, 0, 60, 182, 0, 56, 42, 89, 180, 0, 29, 4, 96, 181, 0, 29, 42, 180, 0, 25, 42]
abbrev dktX20_parseTerm_0 : List UInt8 := dkwX20_parseTerm_0 ++ dktX20_parseTerm_1
theorem dksX20_parseTerm_0 : cX20_parseTerm.data.toList.drop 0 = dktX20_parseTerm_0 := by decide +kernel
theorem dksX20_parseTerm_1 : cX20_parseTerm.data.toList.drop 23 = dktX20_parseTerm_1 := dk_seg dksX20_parseTerm_0 23 rfl rfl
theorem dksX20_parseTerm_2 : cX20_parseTerm.data.toList.drop 47 = dktX20_parseTerm_2 := dk_seg dksX20_parseTerm_1 24 rfl rfl
theorem dX20_parseTerm_0 : decode cX20_parseTerm 0 = .ok (.aload_n 0, 1) := dk_42 (dk_at dksX20_parseTerm_0 0 rfl rfl)
theorem dX20_parseTerm_1 : decode cX20_parseTerm 1 = .ok (.aload_n 0, 1) := dk_42 (dk_at dksX20_parseTerm_0 1 rfl rfl)
theorem dX20_parseTerm_2 : decode cX20_parseTerm 2 = .ok (.invokevirtual 60, 3) := dk_182 0 60 (dk_at dksX20_parseTerm_0 2 rfl rfl)
theorem dX20_parseTerm_5 : decode cX20_parseTerm 5 = .ok (.invokevirtual 56, 3) := dk_182 0 56 (dk_at dksX20_parseTerm_0 5 rfl rfl)
theorem dX20_parseTerm_8 : decode cX20_parseTerm 8 = .ok (.aload_n 0, 1) := dk_42 (dk_at dksX20_parseTerm_0 8 rfl rfl)
theorem dX20_parseTerm_9 : decode cX20_parseTerm 9 = .ok (.dup, 1) := dk_89 (dk_at dksX20_parseTerm_0 9 rfl rfl)
theorem dX20_parseTerm_10 : decode cX20_parseTerm 10 = .ok (.getfield 29, 3) := dk_180 0 29 (dk_at dksX20_parseTerm_0 10 rfl rfl)
theorem dX20_parseTerm_13 : decode cX20_parseTerm 13 = .ok (.iconst 1, 1) := dk_4 (dk_at dksX20_parseTerm_0 13 rfl rfl)
theorem dX20_parseTerm_14 : decode cX20_parseTerm 14 = .ok (.iadd, 1) := dk_96 (dk_at dksX20_parseTerm_0 14 rfl rfl)
theorem dX20_parseTerm_15 : decode cX20_parseTerm 15 = .ok (.putfield 29, 3) := dk_181 0 29 (dk_at dksX20_parseTerm_0 15 rfl rfl)
theorem dX20_parseTerm_18 : decode cX20_parseTerm 18 = .ok (.aload_n 0, 1) := dk_42 (dk_at dksX20_parseTerm_0 18 rfl rfl)
theorem dX20_parseTerm_19 : decode cX20_parseTerm 19 = .ok (.getfield 25, 3) := dk_180 0 25 (dk_at dksX20_parseTerm_0 19 rfl rfl)
theorem dX20_parseTerm_22 : decode cX20_parseTerm 22 = .ok (.aload_n 0, 1) := dk_42 (dk_at dksX20_parseTerm_0 22 rfl rfl)
theorem dX20_parseTerm_23 : decode cX20_parseTerm 23 = .ok (.getfield 29, 3) := dk_180 0 29 (dk_at dksX20_parseTerm_1 0 rfl rfl)
theorem dX20_parseTerm_26 : decode cX20_parseTerm 26 = .ok (.iconst 1, 1) := dk_4 (dk_at dksX20_parseTerm_1 3 rfl rfl)
theorem dX20_parseTerm_27 : decode cX20_parseTerm 27 = .ok (.isub, 1) := dk_100 (dk_at dksX20_parseTerm_1 4 rfl rfl)
theorem dX20_parseTerm_28 : decode cX20_parseTerm 28 = .ok (.invokevirtual 39, 3) := dk_182 0 39 (dk_at dksX20_parseTerm_1 5 rfl rfl)
theorem dX20_parseTerm_31 : decode cX20_parseTerm 31 = .ok (.istore_n 1, 1) := dk_60 (dk_at dksX20_parseTerm_1 8 rfl rfl)
theorem dX20_parseTerm_32 : decode cX20_parseTerm 32 = .ok (.iload_n 1, 1) := dk_27 (dk_at dksX20_parseTerm_1 9 rfl rfl)
theorem dX20_parseTerm_33 : decode cX20_parseTerm 33 = .ok (.bipush 57, 2) := dk_16 57 (dk_at dksX20_parseTerm_1 10 rfl rfl)
theorem dX20_parseTerm_35 : decode cX20_parseTerm 35 = .ok (.if_icmp .gt 10, 3) := dk_163 0 10 (dk_at dksX20_parseTerm_1 12 rfl rfl)
theorem dX20_parseTerm_38 : decode cX20_parseTerm 38 = .ok (.iload_n 1, 1) := dk_27 (dk_at dksX20_parseTerm_1 15 rfl rfl)
theorem dX20_parseTerm_39 : decode cX20_parseTerm 39 = .ok (.bipush 48, 2) := dk_16 48 (dk_at dksX20_parseTerm_1 16 rfl rfl)
theorem dX20_parseTerm_41 : decode cX20_parseTerm 41 = .ok (.isub, 1) := dk_100 (dk_at dksX20_parseTerm_1 18 rfl rfl)
theorem dX20_parseTerm_42 : decode cX20_parseTerm 42 = .ok (.goto 10, 3) := dk_167 0 10 (dk_at dksX20_parseTerm_1 19 rfl rfl)
theorem dX20_parseTerm_45 : decode cX20_parseTerm 45 = .ok (.bipush 10, 2) := dk_16 10 (dk_at dksX20_parseTerm_1 22 rfl rfl)
theorem dX20_parseTerm_47 : decode cX20_parseTerm 47 = .ok (.iload_n 1, 1) := dk_27 (dk_at dksX20_parseTerm_2 0 rfl rfl)
theorem dX20_parseTerm_48 : decode cX20_parseTerm 48 = .ok (.iadd, 1) := dk_96 (dk_at dksX20_parseTerm_2 1 rfl rfl)
theorem dX20_parseTerm_49 : decode cX20_parseTerm 49 = .ok (.bipush 88, 2) := dk_16 88 (dk_at dksX20_parseTerm_2 2 rfl rfl)
theorem dX20_parseTerm_51 : decode cX20_parseTerm 51 = .ok (.isub, 1) := dk_100 (dk_at dksX20_parseTerm_2 4 rfl rfl)
theorem dX20_parseTerm_52 : decode cX20_parseTerm 52 = .ok (.ireturn, 1) := dk_172 (dk_at dksX20_parseTerm_2 5 rfl rfl)
abbrev cX20_isTerm : ByteArray := prog_20_method_7_code
def yX20_isTerm : MethodName := ⟨RX20, "isTerm", "()Z"⟩
def dkwX20_isTerm_1 : List UInt8 := [167, 0, 4, 3, 172]
abbrev dktX20_isTerm_1 : List UInt8 := dkwX20_isTerm_1 ++ []
def dkwX20_isTerm_0 : List UInt8 := [42, 16, 48, 16, 57, 182, 0, 43, 154, 0, 14, 42, 16, 88, 16, 90, 182, 0, 43, 153, 0, 7, 4]
abbrev dktX20_isTerm_0 : List UInt8 := dkwX20_isTerm_0 ++ dktX20_isTerm_1
theorem dksX20_isTerm_0 : cX20_isTerm.data.toList.drop 0 = dktX20_isTerm_0 := by decide +kernel
theorem dksX20_isTerm_1 : cX20_isTerm.data.toList.drop 23 = dktX20_isTerm_1 := dk_seg dksX20_isTerm_0 23 rfl rfl
theorem dX20_isTerm_0 : decode cX20_isTerm 0 = .ok (.aload_n 0, 1) := dk_42 (dk_at dksX20_isTerm_0 0 rfl rfl)
theorem dX20_isTerm_1 : decode cX20_isTerm 1 = .ok (.bipush 48, 2) := dk_16 48 (dk_at dksX20_isTerm_0 1 rfl rfl)
theorem dX20_isTerm_3 : decode cX20_isTerm 3 = .ok (.bipush 57, 2) := dk_16 57 (dk_at dksX20_isTerm_0 3 rfl rfl)
theorem dX20_isTerm_5 : decode cX20_isTerm 5 = .ok (.invokevirtual 43, 3) := dk_182 0 43 (dk_at dksX20_isTerm_0 5 rfl rfl)
theorem dX20_isTerm_8 : decode cX20_isTerm 8 = .ok (.ifCond .ne 14, 3) := dk_154 0 14 (dk_at dksX20_isTerm_0 8 rfl rfl)
theorem dX20_isTerm_11 : decode cX20_isTerm 11 = .ok (.aload_n 0, 1) := dk_42 (dk_at dksX20_isTerm_0 11 rfl rfl)
theorem dX20_isTerm_12 : decode cX20_isTerm 12 = .ok (.bipush 88, 2) := dk_16 88 (dk_at dksX20_isTerm_0 12 rfl rfl)
theorem dX20_isTerm_14 : decode cX20_isTerm 14 = .ok (.bipush 90, 2) := dk_16 90 (dk_at dksX20_isTerm_0 14 rfl rfl)
theorem dX20_isTerm_16 : decode cX20_isTerm 16 = .ok (.invokevirtual 43, 3) := dk_182 0 43 (dk_at dksX20_isTerm_0 16 rfl rfl)
theorem dX20_isTerm_19 : decode cX20_isTerm 19 = .ok (.ifCond .eq 7, 3) := dk_153 0 7 (dk_at dksX20_isTerm_0 19 rfl rfl)
theorem dX20_isTerm_22 : decode cX20_isTerm 22 = .ok (.iconst 1, 1) := dk_4 (dk_at dksX20_isTerm_0 22 rfl rfl)
theorem dX20_isTerm_23 : decode cX20_isTerm 23 = .ok (.goto 4, 3) := dk_167 0 4 (dk_at dksX20_isTerm_1 0 rfl rfl)
theorem dX20_isTerm_26 : decode cX20_isTerm 26 = .ok (.iconst 0, 1) := dk_3 (dk_at dksX20_isTerm_1 3 rfl rfl)
theorem dX20_isTerm_27 : decode cX20_isTerm 27 = .ok (.ireturn, 1) := dk_172 (dk_at dksX20_isTerm_1 4 rfl rfl)
abbrev cX20_parseLiteral : ByteArray := prog_20_method_12_code
def yX20_parseLiteral : MethodName := ⟨RX20, "parseLiteral", "()LBrambleLogic$Literal;"⟩
def dkwX20_parseLiteral_3 : List UInt8 := [42, 89, 180, 0, 29, 4, 96, 181, 0, 29, 187, 0, 107, 89, 27, 28, 42, 182, 0, 90, 183, 0, 109, 176]
abbrev dktX20_parseLiteral_3 : List UInt8 := dkwX20_parseLiteral_3 ++ []
def dkwX20_parseLiteral_2 : List UInt8 := [42, 42, 16, 60, 16, 61, 182, 0, 43, 182, 0, 56, 42, 180, 0, 25, 42, 180, 0, 29, 182, 0, 39, 61]
abbrev dktX20_parseLiteral_2 : List UInt8 := dkwX20_parseLiteral_2 ++ dktX20_parseLiteral_3
def dkwX20_parseLiteral_1 : List UInt8 := [182, 0, 60, 154, 0, 16, 187, 0, 98, 89, 42, 182, 0, 100, 4, 183, 0, 104, 176, 42, 182, 0, 90, 60]
abbrev dktX20_parseLiteral_1 : List UInt8 := dkwX20_parseLiteral_1 ++ dktX20_parseLiteral_2
def dkwX20_parseLiteral_0 : List UInt8 := [42, 16, 33, 182, 0, 52, 153, 0, 16, 187, 0, 98, 89, 42, 182, 0, 100, 3, 183, 0, 104, 176, 42]
abbrev dktX20_parseLiteral_0 : List UInt8 := dkwX20_parseLiteral_0 ++ dktX20_parseLiteral_1
theorem dksX20_parseLiteral_0 : cX20_parseLiteral.data.toList.drop 0 = dktX20_parseLiteral_0 := by decide +kernel
theorem dksX20_parseLiteral_1 : cX20_parseLiteral.data.toList.drop 23 = dktX20_parseLiteral_1 := dk_seg dksX20_parseLiteral_0 23 rfl rfl
theorem dksX20_parseLiteral_2 : cX20_parseLiteral.data.toList.drop 47 = dktX20_parseLiteral_2 := dk_seg dksX20_parseLiteral_1 24 rfl rfl
theorem dksX20_parseLiteral_3 : cX20_parseLiteral.data.toList.drop 71 = dktX20_parseLiteral_3 := dk_seg dksX20_parseLiteral_2 24 rfl rfl
theorem dX20_parseLiteral_0 : decode cX20_parseLiteral 0 = .ok (.aload_n 0, 1) := dk_42 (dk_at dksX20_parseLiteral_0 0 rfl rfl)
theorem dX20_parseLiteral_1 : decode cX20_parseLiteral 1 = .ok (.bipush 33, 2) := dk_16 33 (dk_at dksX20_parseLiteral_0 1 rfl rfl)
theorem dX20_parseLiteral_3 : decode cX20_parseLiteral 3 = .ok (.invokevirtual 52, 3) := dk_182 0 52 (dk_at dksX20_parseLiteral_0 3 rfl rfl)
theorem dX20_parseLiteral_6 : decode cX20_parseLiteral 6 = .ok (.ifCond .eq 16, 3) := dk_153 0 16 (dk_at dksX20_parseLiteral_0 6 rfl rfl)
theorem dX20_parseLiteral_9 : decode cX20_parseLiteral 9 = .ok (.new 98, 3) := dk_187 0 98 (dk_at dksX20_parseLiteral_0 9 rfl rfl)
theorem dX20_parseLiteral_12 : decode cX20_parseLiteral 12 = .ok (.dup, 1) := dk_89 (dk_at dksX20_parseLiteral_0 12 rfl rfl)
theorem dX20_parseLiteral_13 : decode cX20_parseLiteral 13 = .ok (.aload_n 0, 1) := dk_42 (dk_at dksX20_parseLiteral_0 13 rfl rfl)
theorem dX20_parseLiteral_14 : decode cX20_parseLiteral 14 = .ok (.invokevirtual 100, 3) := dk_182 0 100 (dk_at dksX20_parseLiteral_0 14 rfl rfl)
theorem dX20_parseLiteral_17 : decode cX20_parseLiteral 17 = .ok (.iconst 0, 1) := dk_3 (dk_at dksX20_parseLiteral_0 17 rfl rfl)
theorem dX20_parseLiteral_18 : decode cX20_parseLiteral 18 = .ok (.invokespecial 104, 3) := dk_183 0 104 (dk_at dksX20_parseLiteral_0 18 rfl rfl)
theorem dX20_parseLiteral_21 : decode cX20_parseLiteral 21 = .ok (.areturn, 1) := dk_176 (dk_at dksX20_parseLiteral_0 21 rfl rfl)
theorem dX20_parseLiteral_22 : decode cX20_parseLiteral 22 = .ok (.aload_n 0, 1) := dk_42 (dk_at dksX20_parseLiteral_0 22 rfl rfl)
theorem dX20_parseLiteral_23 : decode cX20_parseLiteral 23 = .ok (.invokevirtual 60, 3) := dk_182 0 60 (dk_at dksX20_parseLiteral_1 0 rfl rfl)
theorem dX20_parseLiteral_26 : decode cX20_parseLiteral 26 = .ok (.ifCond .ne 16, 3) := dk_154 0 16 (dk_at dksX20_parseLiteral_1 3 rfl rfl)
theorem dX20_parseLiteral_29 : decode cX20_parseLiteral 29 = .ok (.new 98, 3) := dk_187 0 98 (dk_at dksX20_parseLiteral_1 6 rfl rfl)
theorem dX20_parseLiteral_32 : decode cX20_parseLiteral 32 = .ok (.dup, 1) := dk_89 (dk_at dksX20_parseLiteral_1 9 rfl rfl)
theorem dX20_parseLiteral_33 : decode cX20_parseLiteral 33 = .ok (.aload_n 0, 1) := dk_42 (dk_at dksX20_parseLiteral_1 10 rfl rfl)
theorem dX20_parseLiteral_34 : decode cX20_parseLiteral 34 = .ok (.invokevirtual 100, 3) := dk_182 0 100 (dk_at dksX20_parseLiteral_1 11 rfl rfl)
theorem dX20_parseLiteral_37 : decode cX20_parseLiteral 37 = .ok (.iconst 1, 1) := dk_4 (dk_at dksX20_parseLiteral_1 14 rfl rfl)
theorem dX20_parseLiteral_38 : decode cX20_parseLiteral 38 = .ok (.invokespecial 104, 3) := dk_183 0 104 (dk_at dksX20_parseLiteral_1 15 rfl rfl)
theorem dX20_parseLiteral_41 : decode cX20_parseLiteral 41 = .ok (.areturn, 1) := dk_176 (dk_at dksX20_parseLiteral_1 18 rfl rfl)
theorem dX20_parseLiteral_42 : decode cX20_parseLiteral 42 = .ok (.aload_n 0, 1) := dk_42 (dk_at dksX20_parseLiteral_1 19 rfl rfl)
theorem dX20_parseLiteral_43 : decode cX20_parseLiteral 43 = .ok (.invokevirtual 90, 3) := dk_182 0 90 (dk_at dksX20_parseLiteral_1 20 rfl rfl)
theorem dX20_parseLiteral_46 : decode cX20_parseLiteral 46 = .ok (.istore_n 1, 1) := dk_60 (dk_at dksX20_parseLiteral_1 23 rfl rfl)
theorem dX20_parseLiteral_47 : decode cX20_parseLiteral 47 = .ok (.aload_n 0, 1) := dk_42 (dk_at dksX20_parseLiteral_2 0 rfl rfl)
theorem dX20_parseLiteral_48 : decode cX20_parseLiteral 48 = .ok (.aload_n 0, 1) := dk_42 (dk_at dksX20_parseLiteral_2 1 rfl rfl)
theorem dX20_parseLiteral_49 : decode cX20_parseLiteral 49 = .ok (.bipush 60, 2) := dk_16 60 (dk_at dksX20_parseLiteral_2 2 rfl rfl)
theorem dX20_parseLiteral_51 : decode cX20_parseLiteral 51 = .ok (.bipush 61, 2) := dk_16 61 (dk_at dksX20_parseLiteral_2 4 rfl rfl)
theorem dX20_parseLiteral_53 : decode cX20_parseLiteral 53 = .ok (.invokevirtual 43, 3) := dk_182 0 43 (dk_at dksX20_parseLiteral_2 6 rfl rfl)
theorem dX20_parseLiteral_56 : decode cX20_parseLiteral 56 = .ok (.invokevirtual 56, 3) := dk_182 0 56 (dk_at dksX20_parseLiteral_2 9 rfl rfl)
theorem dX20_parseLiteral_59 : decode cX20_parseLiteral 59 = .ok (.aload_n 0, 1) := dk_42 (dk_at dksX20_parseLiteral_2 12 rfl rfl)
theorem dX20_parseLiteral_60 : decode cX20_parseLiteral 60 = .ok (.getfield 25, 3) := dk_180 0 25 (dk_at dksX20_parseLiteral_2 13 rfl rfl)
theorem dX20_parseLiteral_63 : decode cX20_parseLiteral 63 = .ok (.aload_n 0, 1) := dk_42 (dk_at dksX20_parseLiteral_2 16 rfl rfl)
theorem dX20_parseLiteral_64 : decode cX20_parseLiteral 64 = .ok (.getfield 29, 3) := dk_180 0 29 (dk_at dksX20_parseLiteral_2 17 rfl rfl)
theorem dX20_parseLiteral_67 : decode cX20_parseLiteral 67 = .ok (.invokevirtual 39, 3) := dk_182 0 39 (dk_at dksX20_parseLiteral_2 20 rfl rfl)
theorem dX20_parseLiteral_70 : decode cX20_parseLiteral 70 = .ok (.istore_n 2, 1) := dk_61 (dk_at dksX20_parseLiteral_2 23 rfl rfl)
theorem dX20_parseLiteral_71 : decode cX20_parseLiteral 71 = .ok (.aload_n 0, 1) := dk_42 (dk_at dksX20_parseLiteral_3 0 rfl rfl)
theorem dX20_parseLiteral_72 : decode cX20_parseLiteral 72 = .ok (.dup, 1) := dk_89 (dk_at dksX20_parseLiteral_3 1 rfl rfl)
theorem dX20_parseLiteral_73 : decode cX20_parseLiteral 73 = .ok (.getfield 29, 3) := dk_180 0 29 (dk_at dksX20_parseLiteral_3 2 rfl rfl)
theorem dX20_parseLiteral_76 : decode cX20_parseLiteral 76 = .ok (.iconst 1, 1) := dk_4 (dk_at dksX20_parseLiteral_3 5 rfl rfl)
theorem dX20_parseLiteral_77 : decode cX20_parseLiteral 77 = .ok (.iadd, 1) := dk_96 (dk_at dksX20_parseLiteral_3 6 rfl rfl)
theorem dX20_parseLiteral_78 : decode cX20_parseLiteral 78 = .ok (.putfield 29, 3) := dk_181 0 29 (dk_at dksX20_parseLiteral_3 7 rfl rfl)
theorem dX20_parseLiteral_81 : decode cX20_parseLiteral 81 = .ok (.new 107, 3) := dk_187 0 107 (dk_at dksX20_parseLiteral_3 10 rfl rfl)
theorem dX20_parseLiteral_84 : decode cX20_parseLiteral 84 = .ok (.dup, 1) := dk_89 (dk_at dksX20_parseLiteral_3 13 rfl rfl)
theorem dX20_parseLiteral_85 : decode cX20_parseLiteral 85 = .ok (.iload_n 1, 1) := dk_27 (dk_at dksX20_parseLiteral_3 14 rfl rfl)
theorem dX20_parseLiteral_86 : decode cX20_parseLiteral 86 = .ok (.iload_n 2, 1) := dk_28 (dk_at dksX20_parseLiteral_3 15 rfl rfl)
theorem dX20_parseLiteral_87 : decode cX20_parseLiteral 87 = .ok (.aload_n 0, 1) := dk_42 (dk_at dksX20_parseLiteral_3 16 rfl rfl)
theorem dX20_parseLiteral_88 : decode cX20_parseLiteral 88 = .ok (.invokevirtual 90, 3) := dk_182 0 90 (dk_at dksX20_parseLiteral_3 17 rfl rfl)
theorem dX20_parseLiteral_91 : decode cX20_parseLiteral 91 = .ok (.invokespecial 109, 3) := dk_183 0 109 (dk_at dksX20_parseLiteral_3 20 rfl rfl)
theorem dX20_parseLiteral_94 : decode cX20_parseLiteral 94 = .ok (.areturn, 1) := dk_176 (dk_at dksX20_parseLiteral_3 23 rfl rfl)
theorem q158 : (Jvm.Cond.initialized "BrambleLogic$Parser") ∈ lw_all := lw_g (lw_at lw_m1 51 rfl) rfl
theorem q324 : (Jvm.Cond.fieldLinkNest "BrambleLogic$Parser" (15 : Nat) "BrambleLogic" "buffer" "Ljava/lang/StringBuilder;" "BrambleLogic") ∈ lw_tbl := lw_at lw_m1 217 rfl
theorem q710 : (Jvm.Cond.selects "BrambleLogic$Parser" ({ cls := "java/lang/Object", name := "getClass", desc := "()Ljava/lang/Class;" } : Jvm.MethodName) ({ cls := "java/lang/Object", name := "getClass", desc := "()Ljava/lang/Class;" } : Jvm.MethodName)) ∈ lw_all := lw_g (lw_at lw_m3 123 rfl) rfl
theorem q2163 : (Jvm.Cond.instantiable "BrambleLogic$Parser" (3 : Nat)) ∈ lw_all := lw_g (lw_at lw_m9 136 rfl) rfl
theorem q2165 : (Jvm.Cond.instanceMethod ({ cls := "BrambleLogic$Parser", name := "<init>", desc := "(LBrambleLogic;)V" } : Jvm.MethodName)) ∈ lw_all := lw_g (lw_at lw_m9 138 rfl) rfl
theorem q2166 : (Jvm.Cond.code ({ cls := "BrambleLogic$Parser", name := "<init>", desc := "(LBrambleLogic;)V" } : Jvm.MethodName) prog_20_method_1_code (2 : Nat) (Option.none : Option Jvm.ClassFile.FieldType)) ∈ lw_all := lw_g (lw_at lw_m9 139 rfl) rfl
theorem q2167 : (Jvm.Cond.methodLink "BrambleLogic$Parser" (9 : Nat) ({ cls := "java/lang/Object", name := "<init>", desc := "()V" } : Jvm.MethodName)) ∈ lw_all := lw_g (lw_at lw_m9 140 rfl) rfl
theorem q2168 : (Jvm.Cond.methodLink "BrambleLogic$Parser" (19 : Nat) ({ cls := "java/lang/StringBuilder", name := "toString", desc := "()Ljava/lang/String;" } : Jvm.MethodName)) ∈ lw_all := lw_g (lw_at lw_m9 141 rfl) rfl
theorem q2169 : (Jvm.Cond.fieldLink "BrambleLogic$Parser" (25 : Nat) "BrambleLogic$Parser" "text" "Ljava/lang/String;") ∈ lw_all := lw_g (lw_at lw_m9 142 rfl) rfl
theorem q2170 : (Jvm.Cond.fieldLink "BrambleLogic$Parser" (29 : Nat) "BrambleLogic$Parser" "position" "I") ∈ lw_all := lw_g (lw_at lw_m9 143 rfl) rfl
theorem q2171 : (Jvm.Cond.fieldLink "BrambleLogic$Parser" (3 : Nat) "BrambleLogic$Parser" "this$0" "LBrambleLogic;") ∈ lw_all := lw_g (lw_at lw_m9 144 rfl) rfl
theorem q2172 : (Jvm.Cond.laysFinal "BrambleLogic$Parser" "BrambleLogic$Parser" "text" "Ljava/lang/String;") ∈ lw_all := lw_g (lw_at lw_m9 145 rfl) rfl
theorem q2173 : (Jvm.Cond.soleField "BrambleLogic$Parser" "text") ∈ lw_all := lw_g (lw_at lw_m9 146 rfl) rfl
theorem q2174 : (Jvm.Cond.lays "BrambleLogic$Parser" "BrambleLogic$Parser" "position" "I") ∈ lw_all := lw_g (lw_at lw_m9 147 rfl) rfl
theorem q2175 : (Jvm.Cond.soleField "BrambleLogic$Parser" "position") ∈ lw_all := lw_g (lw_at lw_m9 148 rfl) rfl
theorem q2176 : (Jvm.Cond.laysFinal "BrambleLogic$Parser" "BrambleLogic$Parser" "this$0" "LBrambleLogic;") ∈ lw_all := lw_g (lw_at lw_m9 149 rfl) rfl
theorem q2177 : (Jvm.Cond.soleField "BrambleLogic$Parser" "this$0") ∈ lw_all := lw_g (lw_at lw_m9 150 rfl) rfl
theorem q2178 : (Jvm.Cond.superclass "BrambleLogic$Parser" "java/lang/Object") ∈ lw_all := lw_g (lw_at lw_m9 151 rfl) rfl
theorem q2232 : (Jvm.Cond.instanceMethod ({ cls := "BrambleLogic$Parser", name := "parseProgram", desc := "()Ljava/util/List;" } : Jvm.MethodName)) ∈ lw_all := lw_g (lw_at lw_m9 205 rfl) rfl
theorem q2233 : (Jvm.Cond.selects "BrambleLogic$Parser" ({ cls := "BrambleLogic$Parser", name := "parseProgram", desc := "()Ljava/util/List;" } : Jvm.MethodName) ({ cls := "BrambleLogic$Parser", name := "parseProgram", desc := "()Ljava/util/List;" } : Jvm.MethodName)) ∈ lw_all := lw_g (lw_at lw_m9 206 rfl) rfl
theorem q2234 : (Jvm.Cond.code ({ cls := "BrambleLogic$Parser", name := "parseProgram", desc := "()Ljava/util/List;" } : Jvm.MethodName) prog_20_method_15_code (2 : Nat) (Option.some (Jvm.ClassFile.FieldType.object "java/util/List"))) ∈ lw_all := lw_g (lw_at lw_m9 207 rfl) rfl
theorem q2235 : (Jvm.Cond.classLink "BrambleLogic$Parser" (114 : Nat) "java/util/ArrayList") ∈ lw_all := lw_g (lw_at lw_m9 208 rfl) rfl
theorem q2236 : (Jvm.Cond.methodLink "BrambleLogic$Parser" (116 : Nat) ({ cls := "java/util/ArrayList", name := "<init>", desc := "()V" } : Jvm.MethodName)) ∈ lw_all := lw_g (lw_at lw_m9 209 rfl) rfl
theorem q2237 : (Jvm.Cond.methodLink "BrambleLogic$Parser" (166 : Nat) ({ cls := "BrambleLogic$Parser", name := "parseCommand", desc := "()LBrambleLogic$Command;" } : Jvm.MethodName)) ∈ lw_all := lw_g (lw_at lw_m9 210 rfl) rfl
theorem q2238 : (Jvm.Cond.privateMethod ({ cls := "BrambleLogic$Parser", name := "parseCommand", desc := "()LBrambleLogic$Command;" } : Jvm.MethodName)) ∈ lw_tbl := lw_at lw_m9 211 rfl
theorem q2239 : (Jvm.Cond.instanceMethod ({ cls := "BrambleLogic$Parser", name := "parseCommand", desc := "()LBrambleLogic$Command;" } : Jvm.MethodName)) ∈ lw_all := lw_g (lw_at lw_m9 212 rfl) rfl
theorem q2240 : (Jvm.Cond.code ({ cls := "BrambleLogic$Parser", name := "parseCommand", desc := "()LBrambleLogic$Command;" } : Jvm.MethodName) prog_20_method_14_code (1 : Nat) (Option.some (Jvm.ClassFile.FieldType.object "BrambleLogic$Command"))) ∈ lw_all := lw_g (lw_at lw_m9 213 rfl) rfl
theorem q2241 : (Jvm.Cond.methodLink "BrambleLogic$Parser" (43 : Nat) ({ cls := "BrambleLogic$Parser", name := "isNextBetween", desc := "(CC)Z" } : Jvm.MethodName)) ∈ lw_all := lw_g (lw_at lw_m9 214 rfl) rfl
theorem q2242 : (Jvm.Cond.privateMethod ({ cls := "BrambleLogic$Parser", name := "isNextBetween", desc := "(CC)Z" } : Jvm.MethodName)) ∈ lw_tbl := lw_at lw_m9 215 rfl
theorem q2243 : (Jvm.Cond.instanceMethod ({ cls := "BrambleLogic$Parser", name := "isNextBetween", desc := "(CC)Z" } : Jvm.MethodName)) ∈ lw_all := lw_g (lw_at lw_m9 216 rfl) rfl
theorem q2244 : (Jvm.Cond.code ({ cls := "BrambleLogic$Parser", name := "isNextBetween", desc := "(CC)Z" } : Jvm.MethodName) prog_20_method_2_code (3 : Nat) (Option.some Jvm.ClassFile.FieldType.boolean)) ∈ lw_all := lw_g (lw_at lw_m9 217 rfl) rfl
theorem q2245 : (Jvm.Cond.methodLink "BrambleLogic$Parser" (33 : Nat) ({ cls := "java/lang/String", name := "length", desc := "()I" } : Jvm.MethodName)) ∈ lw_all := lw_g (lw_at lw_m9 218 rfl) rfl
theorem q2246 : (Jvm.Cond.methodLink "BrambleLogic$Parser" (39 : Nat) ({ cls := "java/lang/String", name := "charAt", desc := "(I)C" } : Jvm.MethodName)) ∈ lw_all := lw_g (lw_at lw_m9 219 rfl) rfl
theorem q2261 : (Jvm.Cond.methodLink "BrambleLogic$Parser" (56 : Nat) ({ cls := "BrambleLogic$Parser", name := "expect", desc := "(Z)V" } : Jvm.MethodName)) ∈ lw_all := lw_g (lw_at lw_m9 234 rfl) rfl
theorem q2262 : (Jvm.Cond.privateMethod ({ cls := "BrambleLogic$Parser", name := "expect", desc := "(Z)V" } : Jvm.MethodName)) ∈ lw_tbl := lw_at lw_m9 235 rfl
theorem q2263 : (Jvm.Cond.instanceMethod ({ cls := "BrambleLogic$Parser", name := "expect", desc := "(Z)V" } : Jvm.MethodName)) ∈ lw_all := lw_g (lw_at lw_m9 236 rfl) rfl
theorem q2264 : (Jvm.Cond.code ({ cls := "BrambleLogic$Parser", name := "expect", desc := "(Z)V" } : Jvm.MethodName) prog_20_method_4_code (2 : Nat) (Option.none : Option Jvm.ClassFile.FieldType)) ∈ lw_all := lw_g (lw_at lw_m9 237 rfl) rfl
theorem q2265 : (Jvm.Cond.classLink "BrambleLogic$Parser" (47 : Nat) "BrambleLogic$SyntaxException") ∈ lw_all := lw_g (lw_at lw_m9 238 rfl) rfl
theorem q2274 : (Jvm.Cond.methodLink "BrambleLogic$Parser" (49 : Nat) ({ cls := "BrambleLogic$SyntaxException", name := "<init>", desc := "(I)V" } : Jvm.MethodName)) ∈ lw_all := lw_g (lw_at lw_m10 7 rfl) rfl
theorem q2284 : (Jvm.Cond.stringRef "BrambleLogic$Parser" (144 : Nat) "act ") ∈ lw_tbl := lw_at lw_m10 17 rfl
theorem q2285 : (Jvm.Cond.methodLink "BrambleLogic$Parser" (70 : Nat) ({ cls := "BrambleLogic$Parser", name := "expectText", desc := "(Ljava/lang/String;)V" } : Jvm.MethodName)) ∈ lw_all := lw_g (lw_at lw_m10 18 rfl) rfl
theorem q2286 : (Jvm.Cond.privateMethod ({ cls := "BrambleLogic$Parser", name := "expectText", desc := "(Ljava/lang/String;)V" } : Jvm.MethodName)) ∈ lw_tbl := lw_at lw_m10 19 rfl
theorem q2287 : (Jvm.Cond.instanceMethod ({ cls := "BrambleLogic$Parser", name := "expectText", desc := "(Ljava/lang/String;)V" } : Jvm.MethodName)) ∈ lw_all := lw_g (lw_at lw_m10 20 rfl) rfl
theorem q2288 : (Jvm.Cond.code ({ cls := "BrambleLogic$Parser", name := "expectText", desc := "(Ljava/lang/String;)V" } : Jvm.MethodName) prog_20_method_5_code (3 : Nat) (Option.none : Option Jvm.ClassFile.FieldType)) ∈ lw_all := lw_g (lw_at lw_m10 21 rfl) rfl
theorem q2289 : (Jvm.Cond.methodLink "BrambleLogic$Parser" (52 : Nat) ({ cls := "BrambleLogic$Parser", name := "accept", desc := "(C)Z" } : Jvm.MethodName)) ∈ lw_all := lw_g (lw_at lw_m10 22 rfl) rfl
theorem q2290 : (Jvm.Cond.privateMethod ({ cls := "BrambleLogic$Parser", name := "accept", desc := "(C)Z" } : Jvm.MethodName)) ∈ lw_tbl := lw_at lw_m10 23 rfl
theorem q2291 : (Jvm.Cond.instanceMethod ({ cls := "BrambleLogic$Parser", name := "accept", desc := "(C)Z" } : Jvm.MethodName)) ∈ lw_all := lw_g (lw_at lw_m10 24 rfl) rfl
theorem q2292 : (Jvm.Cond.code ({ cls := "BrambleLogic$Parser", name := "accept", desc := "(C)Z" } : Jvm.MethodName) prog_20_method_3_code (3 : Nat) (Option.some Jvm.ClassFile.FieldType.boolean)) ∈ lw_all := lw_g (lw_at lw_m10 25 rfl) rfl
theorem q2293 : (Jvm.Cond.stringRef "BrambleLogic$Parser" (146 : Nat) "fact") ∈ lw_tbl := lw_at lw_m10 26 rfl
theorem q2294 : (Jvm.Cond.methodLink "BrambleLogic$Parser" (148 : Nat) ({ cls := "BrambleLogic$Parser", name := "parseGround", desc := "(Ljava/lang/String;)LBrambleLogic$Command;" } : Jvm.MethodName)) ∈ lw_all := lw_g (lw_at lw_m10 27 rfl) rfl
theorem q2295 : (Jvm.Cond.privateMethod ({ cls := "BrambleLogic$Parser", name := "parseGround", desc := "(Ljava/lang/String;)LBrambleLogic$Command;" } : Jvm.MethodName)) ∈ lw_tbl := lw_at lw_m10 28 rfl
theorem q2296 : (Jvm.Cond.instanceMethod ({ cls := "BrambleLogic$Parser", name := "parseGround", desc := "(Ljava/lang/String;)LBrambleLogic$Command;" } : Jvm.MethodName)) ∈ lw_all := lw_g (lw_at lw_m10 29 rfl) rfl
theorem q2297 : (Jvm.Cond.code ({ cls := "BrambleLogic$Parser", name := "parseGround", desc := "(Ljava/lang/String;)LBrambleLogic$Command;" } : Jvm.MethodName) prog_20_method_10_code (5 : Nat) (Option.some (Jvm.ClassFile.FieldType.object "BrambleLogic$Command"))) ∈ lw_all := lw_g (lw_at lw_m10 30 rfl) rfl
theorem q2298 : (Jvm.Cond.methodLink "BrambleLogic$Parser" (64 : Nat) ({ cls := "BrambleLogic$Parser", name := "parsePredicate", desc := "()C" } : Jvm.MethodName)) ∈ lw_all := lw_g (lw_at lw_m10 31 rfl) rfl
theorem q2299 : (Jvm.Cond.privateMethod ({ cls := "BrambleLogic$Parser", name := "parsePredicate", desc := "()C" } : Jvm.MethodName)) ∈ lw_tbl := lw_at lw_m10 32 rfl
theorem q2300 : (Jvm.Cond.instanceMethod ({ cls := "BrambleLogic$Parser", name := "parsePredicate", desc := "()C" } : Jvm.MethodName)) ∈ lw_all := lw_g (lw_at lw_m10 33 rfl) rfl
theorem q2301 : (Jvm.Cond.code ({ cls := "BrambleLogic$Parser", name := "parsePredicate", desc := "()C" } : Jvm.MethodName) prog_20_method_9_code (1 : Nat) (Option.some Jvm.ClassFile.FieldType.char)) ∈ lw_all := lw_g (lw_at lw_m10 34 rfl) rfl
theorem q2302 : (Jvm.Cond.stringRef "BrambleLogic$Parser" (68 : Nat) "(") ∈ lw_tbl := lw_at lw_m10 35 rfl
theorem q2303 : (Jvm.Cond.methodLink "BrambleLogic$Parser" (74 : Nat) ({ cls := "BrambleLogic$Parser", name := "parseDigit", desc := "()I" } : Jvm.MethodName)) ∈ lw_all := lw_g (lw_at lw_m10 36 rfl) rfl
theorem q2304 : (Jvm.Cond.privateMethod ({ cls := "BrambleLogic$Parser", name := "parseDigit", desc := "()I" } : Jvm.MethodName)) ∈ lw_tbl := lw_at lw_m10 37 rfl
theorem q2305 : (Jvm.Cond.instanceMethod ({ cls := "BrambleLogic$Parser", name := "parseDigit", desc := "()I" } : Jvm.MethodName)) ∈ lw_all := lw_g (lw_at lw_m10 38 rfl) rfl
theorem q2306 : (Jvm.Cond.code ({ cls := "BrambleLogic$Parser", name := "parseDigit", desc := "()I" } : Jvm.MethodName) prog_20_method_6_code (1 : Nat) (Option.some Jvm.ClassFile.FieldType.int)) ∈ lw_all := lw_g (lw_at lw_m10 39 rfl) rfl
theorem q2307 : (Jvm.Cond.methodLinkNest "BrambleLogic$Parser" (77 : Nat) ({ cls := "BrambleLogic", name := "isPair", desc := "(I)Z" } : Jvm.MethodName) "BrambleLogic") ∈ lw_tbl := lw_at lw_m10 40 rfl
theorem q2308 : (Jvm.Cond.stringRef "BrambleLogic$Parser" (81 : Nat) ",") ∈ lw_tbl := lw_at lw_m10 41 rfl
theorem q2309 : (Jvm.Cond.stringRef "BrambleLogic$Parser" (83 : Nat) ")") ∈ lw_tbl := lw_at lw_m10 42 rfl
theorem q2310 : (Jvm.Cond.classLink "BrambleLogic$Parser" (85 : Nat) "BrambleLogic$Command") ∈ lw_all := lw_g (lw_at lw_m10 43 rfl) rfl
theorem q2312 : (Jvm.Cond.methodLink "BrambleLogic$Parser" (87 : Nat) ({ cls := "BrambleLogic$Command", name := "<init>", desc := "(Ljava/lang/String;CII)V" } : Jvm.MethodName)) ∈ lw_all := lw_g (lw_at lw_m10 45 rfl) rfl
theorem q2321 : (Jvm.Cond.fieldLinkNest "BrambleLogic$Parser" (141 : Nat) "BrambleLogic$Command" "rule" "LBrambleLogic$Rule;" "BrambleLogic") ∈ lw_tbl := lw_at lw_m10 54 rfl
theorem q2333 : (Jvm.Cond.stringRef "BrambleLogic$Parser" (152 : Nat) "ake ") ∈ lw_tbl := lw_at lw_m10 66 rfl
theorem q2334 : (Jvm.Cond.stringRef "BrambleLogic$Parser" (154 : Nat) "take") ∈ lw_tbl := lw_at lw_m10 67 rfl
theorem q2335 : (Jvm.Cond.stringRef "BrambleLogic$Parser" (156 : Nat) "ule ") ∈ lw_tbl := lw_at lw_m10 68 rfl
theorem q2336 : (Jvm.Cond.methodLink "BrambleLogic$Parser" (158 : Nat) ({ cls := "BrambleLogic$Parser", name := "parseRule", desc := "()LBrambleLogic$Command;" } : Jvm.MethodName)) ∈ lw_all := lw_g (lw_at lw_m10 69 rfl) rfl
theorem q2337 : (Jvm.Cond.privateMethod ({ cls := "BrambleLogic$Parser", name := "parseRule", desc := "()LBrambleLogic$Command;" } : Jvm.MethodName)) ∈ lw_tbl := lw_at lw_m10 70 rfl
theorem q2338 : (Jvm.Cond.instanceMethod ({ cls := "BrambleLogic$Parser", name := "parseRule", desc := "()LBrambleLogic$Command;" } : Jvm.MethodName)) ∈ lw_all := lw_g (lw_at lw_m10 71 rfl) rfl
theorem q2339 : (Jvm.Cond.code ({ cls := "BrambleLogic$Parser", name := "parseRule", desc := "()LBrambleLogic$Command;" } : Jvm.MethodName) prog_20_method_13_code (5 : Nat) (Option.some (Jvm.ClassFile.FieldType.object "BrambleLogic$Command"))) ∈ lw_all := lw_g (lw_at lw_m10 72 rfl) rfl
theorem q2340 : (Jvm.Cond.methodLink "BrambleLogic$Parser" (100 : Nat) ({ cls := "BrambleLogic$Parser", name := "parseAtom", desc := "()LBrambleLogic$Atom;" } : Jvm.MethodName)) ∈ lw_all := lw_g (lw_at lw_m10 73 rfl) rfl
theorem q2341 : (Jvm.Cond.privateMethod ({ cls := "BrambleLogic$Parser", name := "parseAtom", desc := "()LBrambleLogic$Atom;" } : Jvm.MethodName)) ∈ lw_tbl := lw_at lw_m10 74 rfl
theorem q2342 : (Jvm.Cond.instanceMethod ({ cls := "BrambleLogic$Parser", name := "parseAtom", desc := "()LBrambleLogic$Atom;" } : Jvm.MethodName)) ∈ lw_all := lw_g (lw_at lw_m10 75 rfl) rfl
theorem q2343 : (Jvm.Cond.code ({ cls := "BrambleLogic$Parser", name := "parseAtom", desc := "()LBrambleLogic$Atom;" } : Jvm.MethodName) prog_20_method_11_code (4 : Nat) (Option.some (Jvm.ClassFile.FieldType.object "BrambleLogic$Atom"))) ∈ lw_all := lw_g (lw_at lw_m10 76 rfl) rfl
theorem q2344 : (Jvm.Cond.methodLink "BrambleLogic$Parser" (90 : Nat) ({ cls := "BrambleLogic$Parser", name := "parseTerm", desc := "()I" } : Jvm.MethodName)) ∈ lw_all := lw_g (lw_at lw_m10 77 rfl) rfl
theorem q2345 : (Jvm.Cond.privateMethod ({ cls := "BrambleLogic$Parser", name := "parseTerm", desc := "()I" } : Jvm.MethodName)) ∈ lw_tbl := lw_at lw_m10 78 rfl
theorem q2346 : (Jvm.Cond.instanceMethod ({ cls := "BrambleLogic$Parser", name := "parseTerm", desc := "()I" } : Jvm.MethodName)) ∈ lw_all := lw_g (lw_at lw_m10 79 rfl) rfl
theorem q2347 : (Jvm.Cond.code ({ cls := "BrambleLogic$Parser", name := "parseTerm", desc := "()I" } : Jvm.MethodName) prog_20_method_8_code (2 : Nat) (Option.some Jvm.ClassFile.FieldType.int)) ∈ lw_all := lw_g (lw_at lw_m10 80 rfl) rfl
theorem q2348 : (Jvm.Cond.methodLink "BrambleLogic$Parser" (60 : Nat) ({ cls := "BrambleLogic$Parser", name := "isTerm", desc := "()Z" } : Jvm.MethodName)) ∈ lw_all := lw_g (lw_at lw_m10 81 rfl) rfl
theorem q2349 : (Jvm.Cond.privateMethod ({ cls := "BrambleLogic$Parser", name := "isTerm", desc := "()Z" } : Jvm.MethodName)) ∈ lw_tbl := lw_at lw_m10 82 rfl
theorem q2350 : (Jvm.Cond.instanceMethod ({ cls := "BrambleLogic$Parser", name := "isTerm", desc := "()Z" } : Jvm.MethodName)) ∈ lw_all := lw_g (lw_at lw_m10 83 rfl) rfl
theorem q2351 : (Jvm.Cond.code ({ cls := "BrambleLogic$Parser", name := "isTerm", desc := "()Z" } : Jvm.MethodName) prog_20_method_7_code (1 : Nat) (Option.some Jvm.ClassFile.FieldType.boolean)) ∈ lw_all := lw_g (lw_at lw_m10 84 rfl) rfl
theorem q2352 : (Jvm.Cond.classLink "BrambleLogic$Parser" (93 : Nat) "BrambleLogic$Atom") ∈ lw_all := lw_g (lw_at lw_m10 85 rfl) rfl
theorem q2354 : (Jvm.Cond.methodLink "BrambleLogic$Parser" (95 : Nat) ({ cls := "BrambleLogic$Atom", name := "<init>", desc := "(III)V" } : Jvm.MethodName)) ∈ lw_all := lw_g (lw_at lw_m10 87 rfl) rfl
theorem q2380 : (Jvm.Cond.stringRef "BrambleLogic$Parser" (112 : Nat) ":") ∈ lw_tbl := lw_at lw_m10 113 rfl
theorem q2381 : (Jvm.Cond.methodLink "BrambleLogic$Parser" (117 : Nat) ({ cls := "BrambleLogic$Parser", name := "parseLiteral", desc := "()LBrambleLogic$Literal;" } : Jvm.MethodName)) ∈ lw_all := lw_g (lw_at lw_m10 114 rfl) rfl
theorem q2382 : (Jvm.Cond.privateMethod ({ cls := "BrambleLogic$Parser", name := "parseLiteral", desc := "()LBrambleLogic$Literal;" } : Jvm.MethodName)) ∈ lw_tbl := lw_at lw_m10 115 rfl
theorem q2383 : (Jvm.Cond.instanceMethod ({ cls := "BrambleLogic$Parser", name := "parseLiteral", desc := "()LBrambleLogic$Literal;" } : Jvm.MethodName)) ∈ lw_all := lw_g (lw_at lw_m10 116 rfl) rfl
theorem q2384 : (Jvm.Cond.code ({ cls := "BrambleLogic$Parser", name := "parseLiteral", desc := "()LBrambleLogic$Literal;" } : Jvm.MethodName) prog_20_method_12_code (3 : Nat) (Option.some (Jvm.ClassFile.FieldType.object "BrambleLogic$Literal"))) ∈ lw_all := lw_g (lw_at lw_m10 117 rfl) rfl
theorem q2385 : (Jvm.Cond.classLink "BrambleLogic$Parser" (98 : Nat) "BrambleLogic$AtomLiteral") ∈ lw_all := lw_g (lw_at lw_m10 118 rfl) rfl
theorem q2387 : (Jvm.Cond.methodLink "BrambleLogic$Parser" (104 : Nat) ({ cls := "BrambleLogic$AtomLiteral", name := "<init>", desc := "(LBrambleLogic$Atom;Z)V" } : Jvm.MethodName)) ∈ lw_all := lw_g (lw_at lw_m10 120 rfl) rfl
theorem q2398 : (Jvm.Cond.classLink "BrambleLogic$Parser" (107 : Nat) "BrambleLogic$Comparison") ∈ lw_all := lw_g (lw_at lw_m10 131 rfl) rfl
theorem q2400 : (Jvm.Cond.methodLink "BrambleLogic$Parser" (109 : Nat) ({ cls := "BrambleLogic$Comparison", name := "<init>", desc := "(ICI)V" } : Jvm.MethodName)) ∈ lw_all := lw_g (lw_at lw_m10 133 rfl) rfl
theorem q2414 : (Jvm.Cond.interfaceEntry "BrambleLogic$Parser" (121 : Nat)) ∈ lw_tbl := lw_at lw_m10 147 rfl
theorem q2415 : (Jvm.Cond.methodLink "BrambleLogic$Parser" (121 : Nat) ({ cls := "java/util/List", name := "add", desc := "(Ljava/lang/Object;)Z" } : Jvm.MethodName)) ∈ lw_all := lw_g (lw_at lw_m10 148 rfl) rfl
theorem q2416 : (Jvm.Cond.interfaceEntry "BrambleLogic$Parser" (127 : Nat)) ∈ lw_tbl := lw_at lw_m10 149 rfl
theorem q2417 : (Jvm.Cond.methodLink "BrambleLogic$Parser" (127 : Nat) ({ cls := "java/util/List", name := "size", desc := "()I" } : Jvm.MethodName)) ∈ lw_all := lw_g (lw_at lw_m10 150 rfl) rfl
theorem q2418 : (Jvm.Cond.stringRef "BrambleLogic$Parser" (130 : Nat) "rule") ∈ lw_tbl := lw_at lw_m10 151 rfl
theorem q2419 : (Jvm.Cond.classLink "BrambleLogic$Parser" (132 : Nat) "BrambleLogic$Rule") ∈ lw_all := lw_g (lw_at lw_m10 152 rfl) rfl
theorem q2421 : (Jvm.Cond.methodLink "BrambleLogic$Parser" (134 : Nat) ({ cls := "java/lang/String", name := "substring", desc := "(II)Ljava/lang/String;" } : Jvm.MethodName)) ∈ lw_all := lw_g (lw_at lw_m10 154 rfl) rfl
theorem q2445 : (Jvm.Cond.methodLink "BrambleLogic$Parser" (138 : Nat) ({ cls := "BrambleLogic$Rule", name := "<init>", desc := "(LBrambleLogic$Atom;Ljava/util/List;Ljava/lang/String;)V" } : Jvm.MethodName)) ∈ lw_all := lw_g (lw_at lw_m10 178 rfl) rfl
theorem q2527 : (Jvm.Cond.stringRef "BrambleLogic$Parser" (162 : Nat) "rop ") ∈ lw_tbl := lw_at lw_m11 20 rfl
theorem q2528 : (Jvm.Cond.stringRef "BrambleLogic$Parser" (164 : Nat) "drop") ∈ lw_tbl := lw_at lw_m11 21 rfl
theorem q3395 : (Jvm.Cond.castable "BrambleLogic$Parser" "java/lang/Object") ∈ lw_tbl := lw_at lw_m14 168 rfl
theorem in_X20 : ∀ w ∈ wsX200, w ∈ lw_all := lw_in wsX200 [2172, 2174, 2176] (by decide +kernel) (by decide +kernel)
/-! BrambleLogic$SyntaxException -/
set_option maxRecDepth 100000
def RX21 : String := "BrambleLogic$SyntaxException"
def TX21 : u_T := fun k => match k with
  | 0 => ("java/lang/Throwable", "cause", "Ljava/lang/Throwable;", false)
  | 1 => ("java/lang/Throwable", "stackTrace", "[Ljava/lang/StackTraceElement;", false)
  | 2 => ("java/lang/Throwable", "suppressedExceptions", "Ljava/util/List;", false)
  | 3 => ("java/lang/Throwable", "detailMessage", "Ljava/lang/String;", false)
  | 4 => ("java/lang/Throwable", "backtrace", "Ljava/lang/Object;", false)
  | 5 => ("java/lang/Throwable", "depth", "I", false)
  | _ => ("BrambleLogic$SyntaxException", "position", "I", true)
def tyX21 : Nat → FieldType := fun k => match k with
  | 0 => .object "java/lang/Throwable"
  | 1 => .array (.object "java/lang/StackTraceElement")
  | 2 => .object "java/util/List"
  | 3 => .object "java/lang/String"
  | 4 => .object "java/lang/Object"
  | 5 => .int
  | _ => .int
abbrev wsX210 : List Cond := u_ws RX21 TX21 7
theorem nmX21 : ∀ a, a < 7 → ∀ b, b < 7 → a ≠ b → (TX21 a).2.1 ≠ (TX21 b).2.1 := by decide +kernel
theorem tyX21_ok : ∀ k, k < 7 → parseFieldDescriptor (TX21 k).2.2.1 = some (tyX21 k) := by decide +kernel
abbrev cX21_init : ByteArray := prog_25_method_1_code
def yX21_init : MethodName := ⟨RX21, "<init>", "(I)V"⟩
def dkwX21_init_0 : List UInt8 := [42, 183, 0, 1, 42, 27, 181, 0, 7, 177]
abbrev dktX21_init_0 : List UInt8 := dkwX21_init_0 ++ []
theorem dksX21_init_0 : cX21_init.data.toList.drop 0 = dktX21_init_0 := by decide +kernel
theorem dX21_init_0 : decode cX21_init 0 = .ok (.aload_n 0, 1) := dk_42 (dk_at dksX21_init_0 0 rfl rfl)
theorem dX21_init_1 : decode cX21_init 1 = .ok (.invokespecial 1, 3) := dk_183 0 1 (dk_at dksX21_init_0 1 rfl rfl)
theorem dX21_init_4 : decode cX21_init 4 = .ok (.aload_n 0, 1) := dk_42 (dk_at dksX21_init_0 4 rfl rfl)
theorem dX21_init_5 : decode cX21_init 5 = .ok (.iload_n 1, 1) := dk_27 (dk_at dksX21_init_0 5 rfl rfl)
theorem dX21_init_6 : decode cX21_init 6 = .ok (.putfield 7, 3) := dk_181 0 7 (dk_at dksX21_init_0 6 rfl rfl)
theorem dX21_init_9 : decode cX21_init 9 = .ok (.return_, 1) := dk_177 (dk_at dksX21_init_0 9 rfl rfl)
theorem q160 : (Jvm.Cond.initialized "BrambleLogic$SyntaxException") ∈ lw_all := lw_g (lw_at lw_m1 53 rfl) rfl
theorem q467 : (Jvm.Cond.selects "BrambleLogic$SyntaxException" ({ cls := "java/lang/Throwable", name := "fillInStackTrace", desc := "()Ljava/lang/Throwable;" } : Jvm.MethodName) ({ cls := "java/lang/Throwable", name := "fillInStackTrace", desc := "()Ljava/lang/Throwable;" } : Jvm.MethodName)) ∈ lw_all := lw_g (lw_at lw_m2 120 rfl) rfl
theorem q714 : (Jvm.Cond.selects "BrambleLogic$SyntaxException" ({ cls := "java/lang/Object", name := "getClass", desc := "()Ljava/lang/Class;" } : Jvm.MethodName) ({ cls := "java/lang/Object", name := "getClass", desc := "()Ljava/lang/Class;" } : Jvm.MethodName)) ∈ lw_all := lw_g (lw_at lw_m3 127 rfl) rfl
theorem q2266 : (Jvm.Cond.instantiable "BrambleLogic$SyntaxException" (7 : Nat)) ∈ lw_all := lw_g (lw_at lw_m9 239 rfl) rfl
theorem q2267 : (Jvm.Cond.castable "BrambleLogic$SyntaxException" "BrambleLogic$SyntaxException") ∈ lw_tbl := lw_at lw_m10 0 rfl
theorem q2268 : (Jvm.Cond.selects "BrambleLogic$SyntaxException" ({ cls := "java/lang/Throwable", name := "fillInStackTrace", desc := "(I)Ljava/lang/Throwable;" } : Jvm.MethodName) ({ cls := "java/lang/Throwable", name := "fillInStackTrace", desc := "(I)Ljava/lang/Throwable;" } : Jvm.MethodName)) ∈ lw_all := lw_g (lw_at lw_m10 1 rfl) rfl
theorem q2269 : (Jvm.Cond.lays "BrambleLogic$SyntaxException" "java/lang/Throwable" "cause" "Ljava/lang/Throwable;") ∈ lw_all := lw_g (lw_at lw_m10 2 rfl) rfl
theorem q2270 : (Jvm.Cond.lays "BrambleLogic$SyntaxException" "java/lang/Throwable" "stackTrace" "[Ljava/lang/StackTraceElement;") ∈ lw_all := lw_g (lw_at lw_m10 3 rfl) rfl
theorem q2271 : (Jvm.Cond.lays "BrambleLogic$SyntaxException" "java/lang/Throwable" "suppressedExceptions" "Ljava/util/List;") ∈ lw_all := lw_g (lw_at lw_m10 4 rfl) rfl
theorem q2272 : (Jvm.Cond.lays "BrambleLogic$SyntaxException" "java/lang/Throwable" "detailMessage" "Ljava/lang/String;") ∈ lw_all := lw_g (lw_at lw_m10 5 rfl) rfl
theorem q2273 : (Jvm.Cond.lays "BrambleLogic$SyntaxException" "java/lang/Throwable" "backtrace" "Ljava/lang/Object;") ∈ lw_all := lw_g (lw_at lw_m10 6 rfl) rfl
theorem q2275 : (Jvm.Cond.instanceMethod ({ cls := "BrambleLogic$SyntaxException", name := "<init>", desc := "(I)V" } : Jvm.MethodName)) ∈ lw_all := lw_g (lw_at lw_m10 8 rfl) rfl
theorem q2276 : (Jvm.Cond.code ({ cls := "BrambleLogic$SyntaxException", name := "<init>", desc := "(I)V" } : Jvm.MethodName) prog_25_method_1_code (2 : Nat) (Option.none : Option Jvm.ClassFile.FieldType)) ∈ lw_all := lw_g (lw_at lw_m10 9 rfl) rfl
theorem q2277 : (Jvm.Cond.methodLink "BrambleLogic$SyntaxException" (1 : Nat) ({ cls := "java/lang/Exception", name := "<init>", desc := "()V" } : Jvm.MethodName)) ∈ lw_all := lw_g (lw_at lw_m10 10 rfl) rfl
theorem q2278 : (Jvm.Cond.fieldLink "BrambleLogic$SyntaxException" (7 : Nat) "BrambleLogic$SyntaxException" "position" "I") ∈ lw_all := lw_g (lw_at lw_m10 11 rfl) rfl
theorem q2280 : (Jvm.Cond.laysFinal "BrambleLogic$SyntaxException" "BrambleLogic$SyntaxException" "position" "I") ∈ lw_all := lw_g (lw_at lw_m10 13 rfl) rfl
theorem q2281 : (Jvm.Cond.soleField "BrambleLogic$SyntaxException" "position") ∈ lw_all := lw_g (lw_at lw_m10 14 rfl) rfl
theorem q2282 : (Jvm.Cond.lays "BrambleLogic$SyntaxException" "java/lang/Throwable" "depth" "I") ∈ lw_all := lw_g (lw_at lw_m10 15 rfl) rfl
theorem q2283 : (Jvm.Cond.superclass "BrambleLogic$SyntaxException" "java/lang/Exception") ∈ lw_all := lw_g (lw_at lw_m10 16 rfl) rfl
theorem q3397 : (Jvm.Cond.castable "BrambleLogic$SyntaxException" "java/lang/Object") ∈ lw_tbl := lw_at lw_m14 170 rfl
theorem in_X21 : ∀ w ∈ wsX210, w ∈ lw_all := lw_in wsX210 [2269, 2270, 2271, 2272, 2273, 2282, 2280] (by decide +kernel) (by decide +kernel)
/-! BrambleLogic$Command -/
set_option maxRecDepth 100000
def RX22 : String := "BrambleLogic$Command"
def TX22 : u_T := fun k => match k with
  | 0 => ("BrambleLogic$Command", "word", "Ljava/lang/String;", true)
  | 1 => ("BrambleLogic$Command", "predicate", "C", true)
  | 2 => ("BrambleLogic$Command", "first", "I", true)
  | 3 => ("BrambleLogic$Command", "second", "I", true)
  | _ => ("BrambleLogic$Command", "rule", "LBrambleLogic$Rule;", false)
def tyX22 : Nat → FieldType := fun k => match k with
  | 0 => .object "java/lang/String"
  | 1 => .char
  | 2 => .int
  | 3 => .int
  | _ => .object "BrambleLogic$Rule"
abbrev wsX220 : List Cond := u_ws RX22 TX22 5
theorem nmX22 : ∀ a, a < 5 → ∀ b, b < 5 → a ≠ b → (TX22 a).2.1 ≠ (TX22 b).2.1 := by decide +kernel
theorem tyX22_ok : ∀ k, k < 5 → parseFieldDescriptor (TX22 k).2.2.1 = some (tyX22 k) := by decide +kernel
abbrev cX22_init : ByteArray := prog_7_method_1_code
def yX22_init : MethodName := ⟨RX22, "<init>", "(Ljava/lang/String;CII)V"⟩
def dkwX22_init_1 : List UInt8 := [181, 0, 21, 177]
abbrev dktX22_init_1 : List UInt8 := dkwX22_init_1 ++ []
def dkwX22_init_0 : List UInt8 := [42, 183, 0, 1, 42, 43, 181, 0, 7, 42, 28, 181, 0, 13, 42, 29, 181, 0, 17, 42, 21, 4]
abbrev dktX22_init_0 : List UInt8 := dkwX22_init_0 ++ dktX22_init_1
theorem dksX22_init_0 : cX22_init.data.toList.drop 0 = dktX22_init_0 := by decide +kernel
theorem dksX22_init_1 : cX22_init.data.toList.drop 22 = dktX22_init_1 := dk_seg dksX22_init_0 22 rfl rfl
theorem dX22_init_0 : decode cX22_init 0 = .ok (.aload_n 0, 1) := dk_42 (dk_at dksX22_init_0 0 rfl rfl)
theorem dX22_init_1 : decode cX22_init 1 = .ok (.invokespecial 1, 3) := dk_183 0 1 (dk_at dksX22_init_0 1 rfl rfl)
theorem dX22_init_4 : decode cX22_init 4 = .ok (.aload_n 0, 1) := dk_42 (dk_at dksX22_init_0 4 rfl rfl)
theorem dX22_init_5 : decode cX22_init 5 = .ok (.aload_n 1, 1) := dk_43 (dk_at dksX22_init_0 5 rfl rfl)
theorem dX22_init_6 : decode cX22_init 6 = .ok (.putfield 7, 3) := dk_181 0 7 (dk_at dksX22_init_0 6 rfl rfl)
theorem dX22_init_9 : decode cX22_init 9 = .ok (.aload_n 0, 1) := dk_42 (dk_at dksX22_init_0 9 rfl rfl)
theorem dX22_init_10 : decode cX22_init 10 = .ok (.iload_n 2, 1) := dk_28 (dk_at dksX22_init_0 10 rfl rfl)
theorem dX22_init_11 : decode cX22_init 11 = .ok (.putfield 13, 3) := dk_181 0 13 (dk_at dksX22_init_0 11 rfl rfl)
theorem dX22_init_14 : decode cX22_init 14 = .ok (.aload_n 0, 1) := dk_42 (dk_at dksX22_init_0 14 rfl rfl)
theorem dX22_init_15 : decode cX22_init 15 = .ok (.iload_n 3, 1) := dk_29 (dk_at dksX22_init_0 15 rfl rfl)
theorem dX22_init_16 : decode cX22_init 16 = .ok (.putfield 17, 3) := dk_181 0 17 (dk_at dksX22_init_0 16 rfl rfl)
theorem dX22_init_19 : decode cX22_init 19 = .ok (.aload_n 0, 1) := dk_42 (dk_at dksX22_init_0 19 rfl rfl)
theorem dX22_init_20 : decode cX22_init 20 = .ok (.iload 4, 2) := dk_21 4 (dk_at dksX22_init_0 20 rfl rfl)
theorem dX22_init_22 : decode cX22_init 22 = .ok (.putfield 21, 3) := dk_181 0 21 (dk_at dksX22_init_1 0 rfl rfl)
theorem dX22_init_25 : decode cX22_init 25 = .ok (.return_, 1) := dk_177 (dk_at dksX22_init_1 3 rfl rfl)
abbrev cX22_execute : ByteArray := prog_7_method_2_code
def yX22_execute : MethodName := ⟨RX22, "execute", "(LBrambleLogic$Logic;)I"⟩
def dkwX22_execute_7 : List UInt8 := [180, 0, 17, 182, 0, 56, 172]
abbrev dktX22_execute_7 : List UInt8 := dkwX22_execute_7 ++ []
def dkwX22_execute_6 : List UInt8 := [180, 0, 17, 42, 180, 0, 21, 182, 0, 46, 172, 43, 42, 180, 0, 49, 182, 0, 52, 172, 43, 42]
abbrev dktX22_execute_6 : List UInt8 := dkwX22_execute_6 ++ dktX22_execute_7
def dkwX22_execute_5 : List UInt8 := [43, 42, 180, 0, 13, 42, 180, 0, 17, 42, 180, 0, 21, 182, 0, 40, 172, 43, 42, 180, 0, 13, 42]
abbrev dktX22_execute_5 : List UInt8 := dkwX22_execute_5 ++ dktX22_execute_6
def dkwX22_execute_4 : List UInt8 := [170, 0, 0, 0, 0, 0, 0, 71, 0, 0, 0, 0, 0, 0, 0, 2, 0, 0, 0, 28, 0, 0, 0, 45, 0, 0, 0, 62]
abbrev dktX22_execute_4 : List UInt8 := dkwX22_execute_4 ++ dktX22_execute_5
def dkwX22_execute_3 : List UInt8 := [62, 167, 0, 14, 44, 18, 38, 182, 0, 32, 153, 0, 5, 5, 62, 29]
abbrev dktX22_execute_3 : List UInt8 := dkwX22_execute_3 ++ dktX22_execute_4
def dkwX22_execute_2 : List UInt8 := [44, 18, 30, 182, 0, 32, 153, 0, 33, 3, 62, 167, 0, 28, 44, 18, 36, 182, 0, 32, 153, 0, 19, 4]
abbrev dktX22_execute_2 : List UInt8 := dkwX22_execute_2 ++ dktX22_execute_3
def dkwX22_execute_1 : List UInt8 := [171, 0, 0, 0, 72, 0, 0, 0, 3, 0, 47, 214, 108, 0, 0, 0, 33, 0, 53, 150, 252, 0, 0, 0, 61, 0, 54, 52, 135, 0, 0, 0, 47]
abbrev dktX22_execute_1 : List UInt8 := dkwX22_execute_1 ++ dktX22_execute_2
def dkwX22_execute_0 : List UInt8 := [42, 180, 0, 7, 77, 2, 62, 44, 182, 0, 24]
abbrev dktX22_execute_0 : List UInt8 := dkwX22_execute_0 ++ dktX22_execute_1
theorem dksX22_execute_0 : cX22_execute.data.toList.drop 0 = dktX22_execute_0 := by decide +kernel
theorem dksX22_execute_1 : cX22_execute.data.toList.drop 11 = dktX22_execute_1 := dk_seg dksX22_execute_0 11 rfl rfl
theorem dksX22_execute_2 : cX22_execute.data.toList.drop 44 = dktX22_execute_2 := dk_seg dksX22_execute_1 33 rfl rfl
theorem dksX22_execute_3 : cX22_execute.data.toList.drop 68 = dktX22_execute_3 := dk_seg dksX22_execute_2 24 rfl rfl
theorem dksX22_execute_4 : cX22_execute.data.toList.drop 84 = dktX22_execute_4 := dk_seg dksX22_execute_3 16 rfl rfl
theorem dksX22_execute_5 : cX22_execute.data.toList.drop 112 = dktX22_execute_5 := dk_seg dksX22_execute_4 28 rfl rfl
theorem dksX22_execute_6 : cX22_execute.data.toList.drop 135 = dktX22_execute_6 := dk_seg dksX22_execute_5 23 rfl rfl
theorem dksX22_execute_7 : cX22_execute.data.toList.drop 157 = dktX22_execute_7 := dk_seg dksX22_execute_6 22 rfl rfl
theorem dX22_execute_0 : decode cX22_execute 0 = .ok (.aload_n 0, 1) := dk_42 (dk_at dksX22_execute_0 0 rfl rfl)
theorem dX22_execute_1 : decode cX22_execute 1 = .ok (.getfield 7, 3) := dk_180 0 7 (dk_at dksX22_execute_0 1 rfl rfl)
theorem dX22_execute_4 : decode cX22_execute 4 = .ok (.astore_n 2, 1) := dk_77 (dk_at dksX22_execute_0 4 rfl rfl)
theorem dX22_execute_5 : decode cX22_execute 5 = .ok (.iconst (-1), 1) := dk_2 (dk_at dksX22_execute_0 5 rfl rfl)
theorem dX22_execute_6 : decode cX22_execute 6 = .ok (.istore_n 3, 1) := dk_62 (dk_at dksX22_execute_0 6 rfl rfl)
theorem dX22_execute_7 : decode cX22_execute 7 = .ok (.aload_n 2, 1) := dk_44 (dk_at dksX22_execute_0 7 rfl rfl)
theorem dX22_execute_8 : decode cX22_execute 8 = .ok (.invokevirtual 24, 3) := dk_182 0 24 (dk_at dksX22_execute_0 8 rfl rfl)
theorem dX22_execute_11 : decode cX22_execute 11 = .ok (.lookupswitch 72 #[(3135084, 33), (3512060, 61), (3552391, 47)], 33) := by decide +kernel
theorem dX22_execute_44 : decode cX22_execute 44 = .ok (.aload_n 2, 1) := dk_44 (dk_at dksX22_execute_2 0 rfl rfl)
theorem dX22_execute_45 : decode cX22_execute 45 = .ok (.ldc 30, 2) := dk_18 30 (dk_at dksX22_execute_2 1 rfl rfl)
theorem dX22_execute_47 : decode cX22_execute 47 = .ok (.invokevirtual 32, 3) := dk_182 0 32 (dk_at dksX22_execute_2 3 rfl rfl)
theorem dX22_execute_50 : decode cX22_execute 50 = .ok (.ifCond .eq 33, 3) := dk_153 0 33 (dk_at dksX22_execute_2 6 rfl rfl)
theorem dX22_execute_53 : decode cX22_execute 53 = .ok (.iconst 0, 1) := dk_3 (dk_at dksX22_execute_2 9 rfl rfl)
theorem dX22_execute_54 : decode cX22_execute 54 = .ok (.istore_n 3, 1) := dk_62 (dk_at dksX22_execute_2 10 rfl rfl)
theorem dX22_execute_55 : decode cX22_execute 55 = .ok (.goto 28, 3) := dk_167 0 28 (dk_at dksX22_execute_2 11 rfl rfl)
theorem dX22_execute_58 : decode cX22_execute 58 = .ok (.aload_n 2, 1) := dk_44 (dk_at dksX22_execute_2 14 rfl rfl)
theorem dX22_execute_59 : decode cX22_execute 59 = .ok (.ldc 36, 2) := dk_18 36 (dk_at dksX22_execute_2 15 rfl rfl)
theorem dX22_execute_61 : decode cX22_execute 61 = .ok (.invokevirtual 32, 3) := dk_182 0 32 (dk_at dksX22_execute_2 17 rfl rfl)
theorem dX22_execute_64 : decode cX22_execute 64 = .ok (.ifCond .eq 19, 3) := dk_153 0 19 (dk_at dksX22_execute_2 20 rfl rfl)
theorem dX22_execute_67 : decode cX22_execute 67 = .ok (.iconst 1, 1) := dk_4 (dk_at dksX22_execute_2 23 rfl rfl)
theorem dX22_execute_68 : decode cX22_execute 68 = .ok (.istore_n 3, 1) := dk_62 (dk_at dksX22_execute_3 0 rfl rfl)
theorem dX22_execute_69 : decode cX22_execute 69 = .ok (.goto 14, 3) := dk_167 0 14 (dk_at dksX22_execute_3 1 rfl rfl)
theorem dX22_execute_72 : decode cX22_execute 72 = .ok (.aload_n 2, 1) := dk_44 (dk_at dksX22_execute_3 4 rfl rfl)
theorem dX22_execute_73 : decode cX22_execute 73 = .ok (.ldc 38, 2) := dk_18 38 (dk_at dksX22_execute_3 5 rfl rfl)
theorem dX22_execute_75 : decode cX22_execute 75 = .ok (.invokevirtual 32, 3) := dk_182 0 32 (dk_at dksX22_execute_3 7 rfl rfl)
theorem dX22_execute_78 : decode cX22_execute 78 = .ok (.ifCond .eq 5, 3) := dk_153 0 5 (dk_at dksX22_execute_3 10 rfl rfl)
theorem dX22_execute_81 : decode cX22_execute 81 = .ok (.iconst 2, 1) := dk_5 (dk_at dksX22_execute_3 13 rfl rfl)
theorem dX22_execute_82 : decode cX22_execute 82 = .ok (.istore_n 3, 1) := dk_62 (dk_at dksX22_execute_3 14 rfl rfl)
theorem dX22_execute_83 : decode cX22_execute 83 = .ok (.iload_n 3, 1) := dk_29 (dk_at dksX22_execute_3 15 rfl rfl)
theorem dX22_execute_84 : decode cX22_execute 84 = .ok (.tableswitch 71 0 2 #[28, 45, 62], 28) := by decide +kernel
theorem dX22_execute_112 : decode cX22_execute 112 = .ok (.aload_n 1, 1) := dk_43 (dk_at dksX22_execute_5 0 rfl rfl)
theorem dX22_execute_113 : decode cX22_execute 113 = .ok (.aload_n 0, 1) := dk_42 (dk_at dksX22_execute_5 1 rfl rfl)
theorem dX22_execute_114 : decode cX22_execute 114 = .ok (.getfield 13, 3) := dk_180 0 13 (dk_at dksX22_execute_5 2 rfl rfl)
theorem dX22_execute_117 : decode cX22_execute 117 = .ok (.aload_n 0, 1) := dk_42 (dk_at dksX22_execute_5 5 rfl rfl)
theorem dX22_execute_118 : decode cX22_execute 118 = .ok (.getfield 17, 3) := dk_180 0 17 (dk_at dksX22_execute_5 6 rfl rfl)
theorem dX22_execute_121 : decode cX22_execute 121 = .ok (.aload_n 0, 1) := dk_42 (dk_at dksX22_execute_5 9 rfl rfl)
theorem dX22_execute_122 : decode cX22_execute 122 = .ok (.getfield 21, 3) := dk_180 0 21 (dk_at dksX22_execute_5 10 rfl rfl)
theorem dX22_execute_125 : decode cX22_execute 125 = .ok (.invokevirtual 40, 3) := dk_182 0 40 (dk_at dksX22_execute_5 13 rfl rfl)
theorem dX22_execute_128 : decode cX22_execute 128 = .ok (.ireturn, 1) := dk_172 (dk_at dksX22_execute_5 16 rfl rfl)
theorem dX22_execute_129 : decode cX22_execute 129 = .ok (.aload_n 1, 1) := dk_43 (dk_at dksX22_execute_5 17 rfl rfl)
theorem dX22_execute_130 : decode cX22_execute 130 = .ok (.aload_n 0, 1) := dk_42 (dk_at dksX22_execute_5 18 rfl rfl)
theorem dX22_execute_131 : decode cX22_execute 131 = .ok (.getfield 13, 3) := dk_180 0 13 (dk_at dksX22_execute_5 19 rfl rfl)
theorem dX22_execute_134 : decode cX22_execute 134 = .ok (.aload_n 0, 1) := dk_42 (dk_at dksX22_execute_5 22 rfl rfl)
theorem dX22_execute_135 : decode cX22_execute 135 = .ok (.getfield 17, 3) := dk_180 0 17 (dk_at dksX22_execute_6 0 rfl rfl)
theorem dX22_execute_138 : decode cX22_execute 138 = .ok (.aload_n 0, 1) := dk_42 (dk_at dksX22_execute_6 3 rfl rfl)
theorem dX22_execute_139 : decode cX22_execute 139 = .ok (.getfield 21, 3) := dk_180 0 21 (dk_at dksX22_execute_6 4 rfl rfl)
theorem dX22_execute_142 : decode cX22_execute 142 = .ok (.invokevirtual 46, 3) := dk_182 0 46 (dk_at dksX22_execute_6 7 rfl rfl)
theorem dX22_execute_145 : decode cX22_execute 145 = .ok (.ireturn, 1) := dk_172 (dk_at dksX22_execute_6 10 rfl rfl)
theorem dX22_execute_146 : decode cX22_execute 146 = .ok (.aload_n 1, 1) := dk_43 (dk_at dksX22_execute_6 11 rfl rfl)
theorem dX22_execute_147 : decode cX22_execute 147 = .ok (.aload_n 0, 1) := dk_42 (dk_at dksX22_execute_6 12 rfl rfl)
theorem dX22_execute_148 : decode cX22_execute 148 = .ok (.getfield 49, 3) := dk_180 0 49 (dk_at dksX22_execute_6 13 rfl rfl)
theorem dX22_execute_151 : decode cX22_execute 151 = .ok (.invokevirtual 52, 3) := dk_182 0 52 (dk_at dksX22_execute_6 16 rfl rfl)
theorem dX22_execute_154 : decode cX22_execute 154 = .ok (.ireturn, 1) := dk_172 (dk_at dksX22_execute_6 19 rfl rfl)
theorem dX22_execute_155 : decode cX22_execute 155 = .ok (.aload_n 1, 1) := dk_43 (dk_at dksX22_execute_6 20 rfl rfl)
theorem dX22_execute_156 : decode cX22_execute 156 = .ok (.aload_n 0, 1) := dk_42 (dk_at dksX22_execute_6 21 rfl rfl)
theorem dX22_execute_157 : decode cX22_execute 157 = .ok (.getfield 17, 3) := dk_180 0 17 (dk_at dksX22_execute_7 0 rfl rfl)
theorem dX22_execute_160 : decode cX22_execute 160 = .ok (.invokevirtual 56, 3) := dk_182 0 56 (dk_at dksX22_execute_7 3 rfl rfl)
theorem dX22_execute_163 : decode cX22_execute 163 = .ok (.ireturn, 1) := dk_172 (dk_at dksX22_execute_7 6 rfl rfl)
theorem q161 : (Jvm.Cond.initialized "BrambleLogic$Command") ∈ lw_all := lw_g (lw_at lw_m1 54 rfl) rfl
theorem q698 : (Jvm.Cond.selects "BrambleLogic$Command" ({ cls := "java/lang/Object", name := "getClass", desc := "()Ljava/lang/Class;" } : Jvm.MethodName) ({ cls := "java/lang/Object", name := "getClass", desc := "()Ljava/lang/Class;" } : Jvm.MethodName)) ∈ lw_all := lw_g (lw_at lw_m3 111 rfl) rfl
theorem q2311 : (Jvm.Cond.instantiable "BrambleLogic$Command" (5 : Nat)) ∈ lw_all := lw_g (lw_at lw_m10 44 rfl) rfl
theorem q2313 : (Jvm.Cond.instanceMethod ({ cls := "BrambleLogic$Command", name := "<init>", desc := "(Ljava/lang/String;CII)V" } : Jvm.MethodName)) ∈ lw_all := lw_g (lw_at lw_m10 46 rfl) rfl
theorem q2314 : (Jvm.Cond.code ({ cls := "BrambleLogic$Command", name := "<init>", desc := "(Ljava/lang/String;CII)V" } : Jvm.MethodName) prog_7_method_1_code (5 : Nat) (Option.none : Option Jvm.ClassFile.FieldType)) ∈ lw_all := lw_g (lw_at lw_m10 47 rfl) rfl
theorem q2315 : (Jvm.Cond.methodLink "BrambleLogic$Command" (1 : Nat) ({ cls := "java/lang/Object", name := "<init>", desc := "()V" } : Jvm.MethodName)) ∈ lw_all := lw_g (lw_at lw_m10 48 rfl) rfl
theorem q2316 : (Jvm.Cond.fieldLink "BrambleLogic$Command" (7 : Nat) "BrambleLogic$Command" "word" "Ljava/lang/String;") ∈ lw_all := lw_g (lw_at lw_m10 49 rfl) rfl
theorem q2317 : (Jvm.Cond.fieldLink "BrambleLogic$Command" (13 : Nat) "BrambleLogic$Command" "predicate" "C") ∈ lw_all := lw_g (lw_at lw_m10 50 rfl) rfl
theorem q2318 : (Jvm.Cond.fieldLink "BrambleLogic$Command" (17 : Nat) "BrambleLogic$Command" "first" "I") ∈ lw_all := lw_g (lw_at lw_m10 51 rfl) rfl
theorem q2319 : (Jvm.Cond.fieldLink "BrambleLogic$Command" (21 : Nat) "BrambleLogic$Command" "second" "I") ∈ lw_all := lw_g (lw_at lw_m10 52 rfl) rfl
theorem q2320 : (Jvm.Cond.fieldLink "BrambleLogic$Command" (49 : Nat) "BrambleLogic$Command" "rule" "LBrambleLogic$Rule;") ∈ lw_all := lw_g (lw_at lw_m10 53 rfl) rfl
theorem q2322 : (Jvm.Cond.laysFinal "BrambleLogic$Command" "BrambleLogic$Command" "word" "Ljava/lang/String;") ∈ lw_all := lw_g (lw_at lw_m10 55 rfl) rfl
theorem q2323 : (Jvm.Cond.soleField "BrambleLogic$Command" "word") ∈ lw_all := lw_g (lw_at lw_m10 56 rfl) rfl
theorem q2324 : (Jvm.Cond.laysFinal "BrambleLogic$Command" "BrambleLogic$Command" "predicate" "C") ∈ lw_all := lw_g (lw_at lw_m10 57 rfl) rfl
theorem q2325 : (Jvm.Cond.soleField "BrambleLogic$Command" "predicate") ∈ lw_all := lw_g (lw_at lw_m10 58 rfl) rfl
theorem q2326 : (Jvm.Cond.laysFinal "BrambleLogic$Command" "BrambleLogic$Command" "first" "I") ∈ lw_all := lw_g (lw_at lw_m10 59 rfl) rfl
theorem q2327 : (Jvm.Cond.soleField "BrambleLogic$Command" "first") ∈ lw_all := lw_g (lw_at lw_m10 60 rfl) rfl
theorem q2328 : (Jvm.Cond.laysFinal "BrambleLogic$Command" "BrambleLogic$Command" "second" "I") ∈ lw_all := lw_g (lw_at lw_m10 61 rfl) rfl
theorem q2329 : (Jvm.Cond.soleField "BrambleLogic$Command" "second") ∈ lw_all := lw_g (lw_at lw_m10 62 rfl) rfl
theorem q2330 : (Jvm.Cond.lays "BrambleLogic$Command" "BrambleLogic$Command" "rule" "LBrambleLogic$Rule;") ∈ lw_all := lw_g (lw_at lw_m10 63 rfl) rfl
theorem q2331 : (Jvm.Cond.soleField "BrambleLogic$Command" "rule") ∈ lw_all := lw_g (lw_at lw_m10 64 rfl) rfl
theorem q2332 : (Jvm.Cond.superclass "BrambleLogic$Command" "java/lang/Object") ∈ lw_all := lw_g (lw_at lw_m10 65 rfl) rfl
theorem q2537 : (Jvm.Cond.instanceMethod ({ cls := "BrambleLogic$Command", name := "execute", desc := "(LBrambleLogic$Logic;)I" } : Jvm.MethodName)) ∈ lw_all := lw_g (lw_at lw_m11 30 rfl) rfl
theorem q2538 : (Jvm.Cond.selects "BrambleLogic$Command" ({ cls := "BrambleLogic$Command", name := "execute", desc := "(LBrambleLogic$Logic;)I" } : Jvm.MethodName) ({ cls := "BrambleLogic$Command", name := "execute", desc := "(LBrambleLogic$Logic;)I" } : Jvm.MethodName)) ∈ lw_all := lw_g (lw_at lw_m11 31 rfl) rfl
theorem q2539 : (Jvm.Cond.code ({ cls := "BrambleLogic$Command", name := "execute", desc := "(LBrambleLogic$Logic;)I" } : Jvm.MethodName) prog_7_method_2_code (4 : Nat) (Option.some Jvm.ClassFile.FieldType.int)) ∈ lw_all := lw_g (lw_at lw_m11 32 rfl) rfl
theorem q2540 : (Jvm.Cond.methodLink "BrambleLogic$Command" (24 : Nat) ({ cls := "java/lang/String", name := "hashCode", desc := "()I" } : Jvm.MethodName)) ∈ lw_all := lw_g (lw_at lw_m11 33 rfl) rfl
theorem q2597 : (Jvm.Cond.stringRef "BrambleLogic$Command" (30 : Nat) "fact") ∈ lw_tbl := lw_at lw_m11 90 rfl
theorem q2598 : (Jvm.Cond.methodLink "BrambleLogic$Command" (32 : Nat) ({ cls := "java/lang/String", name := "equals", desc := "(Ljava/lang/Object;)Z" } : Jvm.MethodName)) ∈ lw_all := lw_g (lw_at lw_m11 91 rfl) rfl
theorem q2606 : (Jvm.Cond.stringRef "BrambleLogic$Command" (36 : Nat) "take") ∈ lw_tbl := lw_at lw_m11 99 rfl
theorem q2607 : (Jvm.Cond.stringRef "BrambleLogic$Command" (38 : Nat) "rule") ∈ lw_tbl := lw_at lw_m11 100 rfl
theorem q2608 : (Jvm.Cond.methodLink "BrambleLogic$Command" (40 : Nat) ({ cls := "BrambleLogic$Logic", name := "addFact", desc := "(CII)I" } : Jvm.MethodName)) ∈ lw_all := lw_g (lw_at lw_m11 101 rfl) rfl
theorem q2609 : (Jvm.Cond.methodLink "BrambleLogic$Command" (46 : Nat) ({ cls := "BrambleLogic$Logic", name := "takeFact", desc := "(CII)I" } : Jvm.MethodName)) ∈ lw_all := lw_g (lw_at lw_m11 102 rfl) rfl
theorem q2610 : (Jvm.Cond.methodLink "BrambleLogic$Command" (52 : Nat) ({ cls := "BrambleLogic$Logic", name := "addRule", desc := "(LBrambleLogic$Rule;)I" } : Jvm.MethodName)) ∈ lw_all := lw_g (lw_at lw_m11 103 rfl) rfl
theorem q2674 : (Jvm.Cond.methodLink "BrambleLogic$Command" (56 : Nat) ({ cls := "BrambleLogic$Logic", name := "dropRule", desc := "(I)I" } : Jvm.MethodName)) ∈ lw_all := lw_g (lw_at lw_m11 167 rfl) rfl
theorem q3398 : (Jvm.Cond.castable "BrambleLogic$Command" "java/lang/Object") ∈ lw_tbl := lw_at lw_m14 171 rfl
theorem in_X22 : ∀ w ∈ wsX220, w ∈ lw_all := lw_in wsX220 [2322, 2324, 2326, 2328, 2330] (by decide +kernel) (by decide +kernel)
/-! BrambleLogic$AtomLiteral -/
set_option maxRecDepth 100000
def RX23 : String := "BrambleLogic$AtomLiteral"
def TX23 : u_T := fun k => match k with
  | 0 => ("BrambleLogic$AtomLiteral", "atom", "LBrambleLogic$Atom;", true)
  | _ => ("BrambleLogic$AtomLiteral", "isPositive", "Z", true)
def tyX23 : Nat → FieldType := fun k => match k with
  | 0 => .object "BrambleLogic$Atom"
  | _ => .boolean
abbrev wsX230 : List Cond := u_ws RX23 TX23 2
theorem nmX23 : ∀ a, a < 2 → ∀ b, b < 2 → a ≠ b → (TX23 a).2.1 ≠ (TX23 b).2.1 := by decide +kernel
theorem tyX23_ok : ∀ k, k < 2 → parseFieldDescriptor (TX23 k).2.2.1 = some (tyX23 k) := by decide +kernel
abbrev cX23_atom : ByteArray := prog_4_method_4_code
def yX23_atom : MethodName := ⟨RX23, "atom", "()Ljava/util/Optional;"⟩
def dkwX23_atom_0 : List UInt8 := [42, 180, 0, 7, 184, 0, 37, 176]
abbrev dktX23_atom_0 : List UInt8 := dkwX23_atom_0 ++ []
theorem dksX23_atom_0 : cX23_atom.data.toList.drop 0 = dktX23_atom_0 := by decide +kernel
theorem dX23_atom_0 : decode cX23_atom 0 = .ok (.aload_n 0, 1) := dk_42 (dk_at dksX23_atom_0 0 rfl rfl)
theorem dX23_atom_1 : decode cX23_atom 1 = .ok (.getfield 7, 3) := dk_180 0 7 (dk_at dksX23_atom_0 1 rfl rfl)
theorem dX23_atom_4 : decode cX23_atom 4 = .ok (.invokestatic 37, 3) := dk_184 0 37 (dk_at dksX23_atom_0 4 rfl rfl)
theorem dX23_atom_7 : decode cX23_atom 7 = .ok (.areturn, 1) := dk_176 (dk_at dksX23_atom_0 7 rfl rfl)
abbrev cX23_isPositive : ByteArray := prog_4_method_5_code
def yX23_isPositive : MethodName := ⟨RX23, "isPositive", "()Z"⟩
theorem dX23_isPositive_0 : decode cX23_isPositive 0 = .ok (.aload_n 0, 1) := by decide +kernel
theorem dX23_isPositive_1 : decode cX23_isPositive 1 = .ok (.getfield 13, 3) := by decide +kernel
theorem dX23_isPositive_4 : decode cX23_isPositive 4 = .ok (.ireturn, 1) := by decide +kernel
abbrev cX23_holds : ByteArray := prog_4_method_2_code
def yX23_holds : MethodName := ⟨RX23, "holds", "(LBrambleLogic$Facts;[I)Z"⟩
def dkwX23_holds_1 : List UInt8 := [160, 0, 7, 4, 167, 0, 4, 3, 172]
abbrev dktX23_holds_1 : List UInt8 := dkwX23_holds_1 ++ []
def dkwX23_holds_0 : List UInt8 := [43, 42, 180, 0, 7, 180, 0, 17, 42, 180, 0, 7, 44, 182, 0, 23, 182, 0, 27, 42, 180, 0, 13]
abbrev dktX23_holds_0 : List UInt8 := dkwX23_holds_0 ++ dktX23_holds_1
theorem dksX23_holds_0 : cX23_holds.data.toList.drop 0 = dktX23_holds_0 := by decide +kernel
theorem dksX23_holds_1 : cX23_holds.data.toList.drop 23 = dktX23_holds_1 := dk_seg dksX23_holds_0 23 rfl rfl
theorem dX23_holds_0 : decode cX23_holds 0 = .ok (.aload_n 1, 1) := dk_43 (dk_at dksX23_holds_0 0 rfl rfl)
theorem dX23_holds_1 : decode cX23_holds 1 = .ok (.aload_n 0, 1) := dk_42 (dk_at dksX23_holds_0 1 rfl rfl)
theorem dX23_holds_2 : decode cX23_holds 2 = .ok (.getfield 7, 3) := dk_180 0 7 (dk_at dksX23_holds_0 2 rfl rfl)
theorem dX23_holds_5 : decode cX23_holds 5 = .ok (.getfield 17, 3) := dk_180 0 17 (dk_at dksX23_holds_0 5 rfl rfl)
theorem dX23_holds_8 : decode cX23_holds 8 = .ok (.aload_n 0, 1) := dk_42 (dk_at dksX23_holds_0 8 rfl rfl)
theorem dX23_holds_9 : decode cX23_holds 9 = .ok (.getfield 7, 3) := dk_180 0 7 (dk_at dksX23_holds_0 9 rfl rfl)
theorem dX23_holds_12 : decode cX23_holds 12 = .ok (.aload_n 2, 1) := dk_44 (dk_at dksX23_holds_0 12 rfl rfl)
theorem dX23_holds_13 : decode cX23_holds 13 = .ok (.invokevirtual 23, 3) := dk_182 0 23 (dk_at dksX23_holds_0 13 rfl rfl)
theorem dX23_holds_16 : decode cX23_holds 16 = .ok (.invokevirtual 27, 3) := dk_182 0 27 (dk_at dksX23_holds_0 16 rfl rfl)
theorem dX23_holds_19 : decode cX23_holds 19 = .ok (.aload_n 0, 1) := dk_42 (dk_at dksX23_holds_0 19 rfl rfl)
theorem dX23_holds_20 : decode cX23_holds 20 = .ok (.getfield 13, 3) := dk_180 0 13 (dk_at dksX23_holds_0 20 rfl rfl)
theorem dX23_holds_23 : decode cX23_holds 23 = .ok (.if_icmp .ne 7, 3) := dk_160 0 7 (dk_at dksX23_holds_1 0 rfl rfl)
theorem dX23_holds_26 : decode cX23_holds 26 = .ok (.iconst 1, 1) := dk_4 (dk_at dksX23_holds_1 3 rfl rfl)
theorem dX23_holds_27 : decode cX23_holds 27 = .ok (.goto 4, 3) := dk_167 0 4 (dk_at dksX23_holds_1 4 rfl rfl)
theorem dX23_holds_30 : decode cX23_holds 30 = .ok (.iconst 0, 1) := dk_3 (dk_at dksX23_holds_1 7 rfl rfl)
theorem dX23_holds_31 : decode cX23_holds 31 = .ok (.ireturn, 1) := dk_172 (dk_at dksX23_holds_1 8 rfl rfl)
abbrev cX23_init : ByteArray := prog_4_method_1_code
def yX23_init : MethodName := ⟨RX23, "<init>", "(LBrambleLogic$Atom;Z)V"⟩
def dkwX23_init_0 : List UInt8 := [42, 183, 0, 1, 42, 43, 181, 0, 7, 42, 28, 181, 0, 13, 177]
abbrev dktX23_init_0 : List UInt8 := dkwX23_init_0 ++ []
theorem dksX23_init_0 : cX23_init.data.toList.drop 0 = dktX23_init_0 := by decide +kernel
theorem dX23_init_0 : decode cX23_init 0 = .ok (.aload_n 0, 1) := dk_42 (dk_at dksX23_init_0 0 rfl rfl)
theorem dX23_init_1 : decode cX23_init 1 = .ok (.invokespecial 1, 3) := dk_183 0 1 (dk_at dksX23_init_0 1 rfl rfl)
theorem dX23_init_4 : decode cX23_init 4 = .ok (.aload_n 0, 1) := dk_42 (dk_at dksX23_init_0 4 rfl rfl)
theorem dX23_init_5 : decode cX23_init 5 = .ok (.aload_n 1, 1) := dk_43 (dk_at dksX23_init_0 5 rfl rfl)
theorem dX23_init_6 : decode cX23_init 6 = .ok (.putfield 7, 3) := dk_181 0 7 (dk_at dksX23_init_0 6 rfl rfl)
theorem dX23_init_9 : decode cX23_init 9 = .ok (.aload_n 0, 1) := dk_42 (dk_at dksX23_init_0 9 rfl rfl)
theorem dX23_init_10 : decode cX23_init 10 = .ok (.iload_n 2, 1) := dk_28 (dk_at dksX23_init_0 10 rfl rfl)
theorem dX23_init_11 : decode cX23_init 11 = .ok (.putfield 13, 3) := dk_181 0 13 (dk_at dksX23_init_0 11 rfl rfl)
theorem dX23_init_14 : decode cX23_init 14 = .ok (.return_, 1) := dk_177 (dk_at dksX23_init_0 14 rfl rfl)
abbrev cX23_mask : ByteArray := prog_4_method_3_code
def yX23_mask : MethodName := ⟨RX23, "mask", "()I"⟩
def dkwX23_mask_0 : List UInt8 := [42, 180, 0, 7, 182, 0, 33, 172]
abbrev dktX23_mask_0 : List UInt8 := dkwX23_mask_0 ++ []
theorem dksX23_mask_0 : cX23_mask.data.toList.drop 0 = dktX23_mask_0 := by decide +kernel
theorem dX23_mask_0 : decode cX23_mask 0 = .ok (.aload_n 0, 1) := dk_42 (dk_at dksX23_mask_0 0 rfl rfl)
theorem dX23_mask_1 : decode cX23_mask 1 = .ok (.getfield 7, 3) := dk_180 0 7 (dk_at dksX23_mask_0 1 rfl rfl)
theorem dX23_mask_4 : decode cX23_mask 4 = .ok (.invokevirtual 33, 3) := dk_182 0 33 (dk_at dksX23_mask_0 4 rfl rfl)
theorem dX23_mask_7 : decode cX23_mask 7 = .ok (.ireturn, 1) := dk_172 (dk_at dksX23_mask_0 7 rfl rfl)
theorem q162 : (Jvm.Cond.initialized "BrambleLogic$AtomLiteral") ∈ lw_all := lw_g (lw_at lw_m1 55 rfl) rfl
theorem q514 : (Jvm.Cond.castable "BrambleLogic$AtomLiteral" "BrambleLogic$Literal") ∈ lw_tbl := lw_at lw_m2 167 rfl
theorem q515 : (Jvm.Cond.selects "BrambleLogic$AtomLiteral" ({ cls := "BrambleLogic$Literal", name := "atom", desc := "()Ljava/util/Optional;" } : Jvm.MethodName) ({ cls := "BrambleLogic$AtomLiteral", name := "atom", desc := "()Ljava/util/Optional;" } : Jvm.MethodName)) ∈ lw_all := lw_g (lw_at lw_m2 168 rfl) rfl
theorem q516 : (Jvm.Cond.unhidden "BrambleLogic$AtomLiteral" "atom" "()Ljava/util/Optional;") ∈ lw_tbl := lw_at lw_m2 169 rfl
theorem q517 : (Jvm.Cond.instanceMethod ({ cls := "BrambleLogic$AtomLiteral", name := "atom", desc := "()Ljava/util/Optional;" } : Jvm.MethodName)) ∈ lw_all := lw_g (lw_at lw_m2 170 rfl) rfl
theorem q518 : (Jvm.Cond.publicMethod ({ cls := "BrambleLogic$AtomLiteral", name := "atom", desc := "()Ljava/util/Optional;" } : Jvm.MethodName)) ∈ lw_tbl := lw_at lw_m2 171 rfl
theorem q519 : (Jvm.Cond.code ({ cls := "BrambleLogic$AtomLiteral", name := "atom", desc := "()Ljava/util/Optional;" } : Jvm.MethodName) prog_4_method_4_code (1 : Nat) (Option.some (Jvm.ClassFile.FieldType.object "java/util/Optional"))) ∈ lw_all := lw_g (lw_at lw_m2 172 rfl) rfl
theorem q520 : (Jvm.Cond.methodLink "BrambleLogic$AtomLiteral" (37 : Nat) ({ cls := "java/util/Optional", name := "of", desc := "(Ljava/lang/Object;)Ljava/util/Optional;" } : Jvm.MethodName)) ∈ lw_all := lw_g (lw_at lw_m2 173 rfl) rfl
theorem q573 : (Jvm.Cond.unhidden "BrambleLogic$AtomLiteral" "isNegative" "()Z") ∈ lw_tbl := lw_at lw_m2 226 rfl
theorem q584 : (Jvm.Cond.selects "BrambleLogic$AtomLiteral" ({ cls := "BrambleLogic$Literal", name := "isPositive", desc := "()Z" } : Jvm.MethodName) ({ cls := "BrambleLogic$AtomLiteral", name := "isPositive", desc := "()Z" } : Jvm.MethodName)) ∈ lw_all := lw_g (lw_at lw_m2 237 rfl) rfl
theorem q585 : (Jvm.Cond.unhidden "BrambleLogic$AtomLiteral" "isPositive" "()Z") ∈ lw_tbl := lw_at lw_m2 238 rfl
theorem q586 : (Jvm.Cond.instanceMethod ({ cls := "BrambleLogic$AtomLiteral", name := "isPositive", desc := "()Z" } : Jvm.MethodName)) ∈ lw_all := lw_g (lw_at lw_m2 239 rfl) rfl
theorem q587 : (Jvm.Cond.publicMethod ({ cls := "BrambleLogic$AtomLiteral", name := "isPositive", desc := "()Z" } : Jvm.MethodName)) ∈ lw_tbl := lw_at lw_m3 0 rfl
theorem q588 : (Jvm.Cond.code ({ cls := "BrambleLogic$AtomLiteral", name := "isPositive", desc := "()Z" } : Jvm.MethodName) prog_4_method_5_code (1 : Nat) (Option.some Jvm.ClassFile.FieldType.boolean)) ∈ lw_all := lw_g (lw_at lw_m3 1 rfl) rfl
theorem q695 : (Jvm.Cond.selects "BrambleLogic$AtomLiteral" ({ cls := "java/lang/Object", name := "getClass", desc := "()Ljava/lang/Class;" } : Jvm.MethodName) ({ cls := "java/lang/Object", name := "getClass", desc := "()Ljava/lang/Class;" } : Jvm.MethodName)) ∈ lw_all := lw_g (lw_at lw_m3 108 rfl) rfl
theorem q794 : (Jvm.Cond.selects "BrambleLogic$AtomLiteral" ({ cls := "BrambleLogic$Literal", name := "holds", desc := "(LBrambleLogic$Facts;[I)Z" } : Jvm.MethodName) ({ cls := "BrambleLogic$AtomLiteral", name := "holds", desc := "(LBrambleLogic$Facts;[I)Z" } : Jvm.MethodName)) ∈ lw_all := lw_g (lw_at lw_m3 207 rfl) rfl
theorem q795 : (Jvm.Cond.unhidden "BrambleLogic$AtomLiteral" "holds" "(LBrambleLogic$Facts;[I)Z") ∈ lw_tbl := lw_at lw_m3 208 rfl
theorem q796 : (Jvm.Cond.instanceMethod ({ cls := "BrambleLogic$AtomLiteral", name := "holds", desc := "(LBrambleLogic$Facts;[I)Z" } : Jvm.MethodName)) ∈ lw_all := lw_g (lw_at lw_m3 209 rfl) rfl
theorem q797 : (Jvm.Cond.publicMethod ({ cls := "BrambleLogic$AtomLiteral", name := "holds", desc := "(LBrambleLogic$Facts;[I)Z" } : Jvm.MethodName)) ∈ lw_tbl := lw_at lw_m3 210 rfl
theorem q798 : (Jvm.Cond.code ({ cls := "BrambleLogic$AtomLiteral", name := "holds", desc := "(LBrambleLogic$Facts;[I)Z" } : Jvm.MethodName) prog_4_method_2_code (3 : Nat) (Option.some Jvm.ClassFile.FieldType.boolean)) ∈ lw_all := lw_g (lw_at lw_m3 211 rfl) rfl
theorem q799 : (Jvm.Cond.methodLink "BrambleLogic$AtomLiteral" (23 : Nat) ({ cls := "BrambleLogic$Atom", name := "code", desc := "([I)I" } : Jvm.MethodName)) ∈ lw_all := lw_g (lw_at lw_m3 212 rfl) rfl
theorem q813 : (Jvm.Cond.methodLink "BrambleLogic$AtomLiteral" (27 : Nat) ({ cls := "BrambleLogic$Facts", name := "has", desc := "(II)Z" } : Jvm.MethodName)) ∈ lw_all := lw_g (lw_at lw_m3 226 rfl) rfl
theorem q2360 : (Jvm.Cond.fieldLinkNest "BrambleLogic$AtomLiteral" (17 : Nat) "BrambleLogic$Atom" "predicate" "I" "BrambleLogic") ∈ lw_tbl := lw_at lw_m10 93 rfl
theorem q2386 : (Jvm.Cond.instantiable "BrambleLogic$AtomLiteral" (2 : Nat)) ∈ lw_all := lw_g (lw_at lw_m10 119 rfl) rfl
theorem q2388 : (Jvm.Cond.instanceMethod ({ cls := "BrambleLogic$AtomLiteral", name := "<init>", desc := "(LBrambleLogic$Atom;Z)V" } : Jvm.MethodName)) ∈ lw_all := lw_g (lw_at lw_m10 121 rfl) rfl
theorem q2389 : (Jvm.Cond.code ({ cls := "BrambleLogic$AtomLiteral", name := "<init>", desc := "(LBrambleLogic$Atom;Z)V" } : Jvm.MethodName) prog_4_method_1_code (3 : Nat) (Option.none : Option Jvm.ClassFile.FieldType)) ∈ lw_all := lw_g (lw_at lw_m10 122 rfl) rfl
theorem q2390 : (Jvm.Cond.methodLink "BrambleLogic$AtomLiteral" (1 : Nat) ({ cls := "java/lang/Object", name := "<init>", desc := "()V" } : Jvm.MethodName)) ∈ lw_all := lw_g (lw_at lw_m10 123 rfl) rfl
theorem q2391 : (Jvm.Cond.fieldLink "BrambleLogic$AtomLiteral" (7 : Nat) "BrambleLogic$AtomLiteral" "atom" "LBrambleLogic$Atom;") ∈ lw_all := lw_g (lw_at lw_m10 124 rfl) rfl
theorem q2392 : (Jvm.Cond.fieldLink "BrambleLogic$AtomLiteral" (13 : Nat) "BrambleLogic$AtomLiteral" "isPositive" "Z") ∈ lw_all := lw_g (lw_at lw_m10 125 rfl) rfl
theorem q2393 : (Jvm.Cond.laysFinal "BrambleLogic$AtomLiteral" "BrambleLogic$AtomLiteral" "atom" "LBrambleLogic$Atom;") ∈ lw_all := lw_g (lw_at lw_m10 126 rfl) rfl
theorem q2394 : (Jvm.Cond.soleField "BrambleLogic$AtomLiteral" "atom") ∈ lw_all := lw_g (lw_at lw_m10 127 rfl) rfl
theorem q2395 : (Jvm.Cond.laysFinal "BrambleLogic$AtomLiteral" "BrambleLogic$AtomLiteral" "isPositive" "Z") ∈ lw_all := lw_g (lw_at lw_m10 128 rfl) rfl
theorem q2396 : (Jvm.Cond.soleField "BrambleLogic$AtomLiteral" "isPositive") ∈ lw_all := lw_g (lw_at lw_m10 129 rfl) rfl
theorem q2397 : (Jvm.Cond.superclass "BrambleLogic$AtomLiteral" "java/lang/Object") ∈ lw_all := lw_g (lw_at lw_m10 130 rfl) rfl
theorem q2472 : (Jvm.Cond.selects "BrambleLogic$AtomLiteral" ({ cls := "BrambleLogic$Literal", name := "mask", desc := "()I" } : Jvm.MethodName) ({ cls := "BrambleLogic$AtomLiteral", name := "mask", desc := "()I" } : Jvm.MethodName)) ∈ lw_all := lw_g (lw_at lw_m10 205 rfl) rfl
theorem q2473 : (Jvm.Cond.unhidden "BrambleLogic$AtomLiteral" "mask" "()I") ∈ lw_tbl := lw_at lw_m10 206 rfl
theorem q2474 : (Jvm.Cond.instanceMethod ({ cls := "BrambleLogic$AtomLiteral", name := "mask", desc := "()I" } : Jvm.MethodName)) ∈ lw_all := lw_g (lw_at lw_m10 207 rfl) rfl
theorem q2475 : (Jvm.Cond.publicMethod ({ cls := "BrambleLogic$AtomLiteral", name := "mask", desc := "()I" } : Jvm.MethodName)) ∈ lw_tbl := lw_at lw_m10 208 rfl
theorem q2476 : (Jvm.Cond.code ({ cls := "BrambleLogic$AtomLiteral", name := "mask", desc := "()I" } : Jvm.MethodName) prog_4_method_3_code (1 : Nat) (Option.some Jvm.ClassFile.FieldType.int)) ∈ lw_all := lw_g (lw_at lw_m10 209 rfl) rfl
theorem q2477 : (Jvm.Cond.methodLink "BrambleLogic$AtomLiteral" (33 : Nat) ({ cls := "BrambleLogic$Atom", name := "mask", desc := "()I" } : Jvm.MethodName)) ∈ lw_all := lw_g (lw_at lw_m10 210 rfl) rfl
theorem q3400 : (Jvm.Cond.castable "BrambleLogic$AtomLiteral" "java/lang/Object") ∈ lw_tbl := lw_at lw_m14 173 rfl
theorem in_X23 : ∀ w ∈ wsX230, w ∈ lw_all := lw_in wsX230 [2393, 2395] (by decide +kernel) (by decide +kernel)
/-! BrambleLogic$Comparison -/
set_option maxRecDepth 100000
def RX24 : String := "BrambleLogic$Comparison"
def TX24 : u_T := fun k => match k with
  | 0 => ("BrambleLogic$Comparison", "left", "I", true)
  | 1 => ("BrambleLogic$Comparison", "right", "I", true)
  | _ => ("BrambleLogic$Comparison", "sign", "C", true)
def tyX24 : Nat → FieldType := fun k => match k with
  | 0 => .int
  | 1 => .int
  | _ => .char
abbrev wsX240 : List Cond := u_ws RX24 TX24 3
theorem nmX24 : ∀ a, a < 3 → ∀ b, b < 3 → a ≠ b → (TX24 a).2.1 ≠ (TX24 b).2.1 := by decide +kernel
theorem tyX24_ok : ∀ k, k < 3 → parseFieldDescriptor (TX24 k).2.2.1 = some (tyX24 k) := by decide +kernel
abbrev cX24_holds : ByteArray := prog_8_method_2_code
def yX24_holds : MethodName := ⟨RX24, "holds", "(LBrambleLogic$Facts;[I)Z"⟩
def dkwX24_holds_2 : List UInt8 := [160, 0, 7, 4, 167, 0, 4, 3, 172]
abbrev dktX24_holds_2 : List UInt8 := dkwX24_holds_2 ++ []
def dkwX24_holds_1 : List UInt8 := [16, 60, 160, 0, 17, 29, 21, 4, 162, 0, 7, 4, 167, 0, 18, 3, 167, 0, 14, 29, 21, 4]
abbrev dktX24_holds_1 : List UInt8 := dkwX24_holds_1 ++ dktX24_holds_2
def dkwX24_holds_0 : List UInt8 := [42, 180, 0, 7, 44, 184, 0, 20, 62, 42, 180, 0, 17, 44, 184, 0, 20, 54, 4, 42, 180, 0, 13]
abbrev dktX24_holds_0 : List UInt8 := dkwX24_holds_0 ++ dktX24_holds_1
theorem dksX24_holds_0 : cX24_holds.data.toList.drop 0 = dktX24_holds_0 := by decide +kernel
theorem dksX24_holds_1 : cX24_holds.data.toList.drop 23 = dktX24_holds_1 := dk_seg dksX24_holds_0 23 rfl rfl
theorem dksX24_holds_2 : cX24_holds.data.toList.drop 45 = dktX24_holds_2 := dk_seg dksX24_holds_1 22 rfl rfl
theorem dX24_holds_0 : decode cX24_holds 0 = .ok (.aload_n 0, 1) := dk_42 (dk_at dksX24_holds_0 0 rfl rfl)
theorem dX24_holds_1 : decode cX24_holds 1 = .ok (.getfield 7, 3) := dk_180 0 7 (dk_at dksX24_holds_0 1 rfl rfl)
theorem dX24_holds_4 : decode cX24_holds 4 = .ok (.aload_n 2, 1) := dk_44 (dk_at dksX24_holds_0 4 rfl rfl)
theorem dX24_holds_5 : decode cX24_holds 5 = .ok (.invokestatic 20, 3) := dk_184 0 20 (dk_at dksX24_holds_0 5 rfl rfl)
theorem dX24_holds_8 : decode cX24_holds 8 = .ok (.istore_n 3, 1) := dk_62 (dk_at dksX24_holds_0 8 rfl rfl)
theorem dX24_holds_9 : decode cX24_holds 9 = .ok (.aload_n 0, 1) := dk_42 (dk_at dksX24_holds_0 9 rfl rfl)
theorem dX24_holds_10 : decode cX24_holds 10 = .ok (.getfield 17, 3) := dk_180 0 17 (dk_at dksX24_holds_0 10 rfl rfl)
theorem dX24_holds_13 : decode cX24_holds 13 = .ok (.aload_n 2, 1) := dk_44 (dk_at dksX24_holds_0 13 rfl rfl)
theorem dX24_holds_14 : decode cX24_holds 14 = .ok (.invokestatic 20, 3) := dk_184 0 20 (dk_at dksX24_holds_0 14 rfl rfl)
theorem dX24_holds_17 : decode cX24_holds 17 = .ok (.istore 4, 2) := dk_54 4 (dk_at dksX24_holds_0 17 rfl rfl)
theorem dX24_holds_19 : decode cX24_holds 19 = .ok (.aload_n 0, 1) := dk_42 (dk_at dksX24_holds_0 19 rfl rfl)
theorem dX24_holds_20 : decode cX24_holds 20 = .ok (.getfield 13, 3) := dk_180 0 13 (dk_at dksX24_holds_0 20 rfl rfl)
theorem dX24_holds_23 : decode cX24_holds 23 = .ok (.bipush 60, 2) := dk_16 60 (dk_at dksX24_holds_1 0 rfl rfl)
theorem dX24_holds_25 : decode cX24_holds 25 = .ok (.if_icmp .ne 17, 3) := dk_160 0 17 (dk_at dksX24_holds_1 2 rfl rfl)
theorem dX24_holds_28 : decode cX24_holds 28 = .ok (.iload_n 3, 1) := dk_29 (dk_at dksX24_holds_1 5 rfl rfl)
theorem dX24_holds_29 : decode cX24_holds 29 = .ok (.iload 4, 2) := dk_21 4 (dk_at dksX24_holds_1 6 rfl rfl)
theorem dX24_holds_31 : decode cX24_holds 31 = .ok (.if_icmp .ge 7, 3) := dk_162 0 7 (dk_at dksX24_holds_1 8 rfl rfl)
theorem dX24_holds_34 : decode cX24_holds 34 = .ok (.iconst 1, 1) := dk_4 (dk_at dksX24_holds_1 11 rfl rfl)
theorem dX24_holds_35 : decode cX24_holds 35 = .ok (.goto 18, 3) := dk_167 0 18 (dk_at dksX24_holds_1 12 rfl rfl)
theorem dX24_holds_38 : decode cX24_holds 38 = .ok (.iconst 0, 1) := dk_3 (dk_at dksX24_holds_1 15 rfl rfl)
theorem dX24_holds_39 : decode cX24_holds 39 = .ok (.goto 14, 3) := dk_167 0 14 (dk_at dksX24_holds_1 16 rfl rfl)
theorem dX24_holds_42 : decode cX24_holds 42 = .ok (.iload_n 3, 1) := dk_29 (dk_at dksX24_holds_1 19 rfl rfl)
theorem dX24_holds_43 : decode cX24_holds 43 = .ok (.iload 4, 2) := dk_21 4 (dk_at dksX24_holds_1 20 rfl rfl)
theorem dX24_holds_45 : decode cX24_holds 45 = .ok (.if_icmp .ne 7, 3) := dk_160 0 7 (dk_at dksX24_holds_2 0 rfl rfl)
theorem dX24_holds_48 : decode cX24_holds 48 = .ok (.iconst 1, 1) := dk_4 (dk_at dksX24_holds_2 3 rfl rfl)
theorem dX24_holds_49 : decode cX24_holds 49 = .ok (.goto 4, 3) := dk_167 0 4 (dk_at dksX24_holds_2 4 rfl rfl)
theorem dX24_holds_52 : decode cX24_holds 52 = .ok (.iconst 0, 1) := dk_3 (dk_at dksX24_holds_2 7 rfl rfl)
theorem dX24_holds_53 : decode cX24_holds 53 = .ok (.ireturn, 1) := dk_172 (dk_at dksX24_holds_2 8 rfl rfl)
abbrev cX24_init : ByteArray := prog_8_method_1_code
def yX24_init : MethodName := ⟨RX24, "<init>", "(ICI)V"⟩
def dkwX24_init_0 : List UInt8 := [42, 183, 0, 1, 42, 27, 181, 0, 7, 42, 28, 181, 0, 13, 42, 29, 181, 0, 17, 177]
abbrev dktX24_init_0 : List UInt8 := dkwX24_init_0 ++ []
theorem dksX24_init_0 : cX24_init.data.toList.drop 0 = dktX24_init_0 := by decide +kernel
theorem dX24_init_0 : decode cX24_init 0 = .ok (.aload_n 0, 1) := dk_42 (dk_at dksX24_init_0 0 rfl rfl)
theorem dX24_init_1 : decode cX24_init 1 = .ok (.invokespecial 1, 3) := dk_183 0 1 (dk_at dksX24_init_0 1 rfl rfl)
theorem dX24_init_4 : decode cX24_init 4 = .ok (.aload_n 0, 1) := dk_42 (dk_at dksX24_init_0 4 rfl rfl)
theorem dX24_init_5 : decode cX24_init 5 = .ok (.iload_n 1, 1) := dk_27 (dk_at dksX24_init_0 5 rfl rfl)
theorem dX24_init_6 : decode cX24_init 6 = .ok (.putfield 7, 3) := dk_181 0 7 (dk_at dksX24_init_0 6 rfl rfl)
theorem dX24_init_9 : decode cX24_init 9 = .ok (.aload_n 0, 1) := dk_42 (dk_at dksX24_init_0 9 rfl rfl)
theorem dX24_init_10 : decode cX24_init 10 = .ok (.iload_n 2, 1) := dk_28 (dk_at dksX24_init_0 10 rfl rfl)
theorem dX24_init_11 : decode cX24_init 11 = .ok (.putfield 13, 3) := dk_181 0 13 (dk_at dksX24_init_0 11 rfl rfl)
theorem dX24_init_14 : decode cX24_init 14 = .ok (.aload_n 0, 1) := dk_42 (dk_at dksX24_init_0 14 rfl rfl)
theorem dX24_init_15 : decode cX24_init 15 = .ok (.iload_n 3, 1) := dk_29 (dk_at dksX24_init_0 15 rfl rfl)
theorem dX24_init_16 : decode cX24_init 16 = .ok (.putfield 17, 3) := dk_181 0 17 (dk_at dksX24_init_0 16 rfl rfl)
theorem dX24_init_19 : decode cX24_init 19 = .ok (.return_, 1) := dk_177 (dk_at dksX24_init_0 19 rfl rfl)
abbrev cX24_mask : ByteArray := prog_8_method_3_code
def yX24_mask : MethodName := ⟨RX24, "mask", "()I"⟩
def dkwX24_mask_0 : List UInt8 := [42, 180, 0, 7, 184, 0, 26, 42, 180, 0, 17, 184, 0, 26, 128, 172]
abbrev dktX24_mask_0 : List UInt8 := dkwX24_mask_0 ++ []
theorem dksX24_mask_0 : cX24_mask.data.toList.drop 0 = dktX24_mask_0 := by decide +kernel
theorem dX24_mask_0 : decode cX24_mask 0 = .ok (.aload_n 0, 1) := dk_42 (dk_at dksX24_mask_0 0 rfl rfl)
theorem dX24_mask_1 : decode cX24_mask 1 = .ok (.getfield 7, 3) := dk_180 0 7 (dk_at dksX24_mask_0 1 rfl rfl)
theorem dX24_mask_4 : decode cX24_mask 4 = .ok (.invokestatic 26, 3) := dk_184 0 26 (dk_at dksX24_mask_0 4 rfl rfl)
theorem dX24_mask_7 : decode cX24_mask 7 = .ok (.aload_n 0, 1) := dk_42 (dk_at dksX24_mask_0 7 rfl rfl)
theorem dX24_mask_8 : decode cX24_mask 8 = .ok (.getfield 17, 3) := dk_180 0 17 (dk_at dksX24_mask_0 8 rfl rfl)
theorem dX24_mask_11 : decode cX24_mask 11 = .ok (.invokestatic 26, 3) := dk_184 0 26 (dk_at dksX24_mask_0 11 rfl rfl)
theorem dX24_mask_14 : decode cX24_mask 14 = .ok (.ior, 1) := dk_128 (dk_at dksX24_mask_0 14 rfl rfl)
theorem dX24_mask_15 : decode cX24_mask 15 = .ok (.ireturn, 1) := dk_172 (dk_at dksX24_mask_0 15 rfl rfl)
theorem q163 : (Jvm.Cond.initialized "BrambleLogic$Comparison") ∈ lw_all := lw_g (lw_at lw_m1 56 rfl) rfl
theorem q536 : (Jvm.Cond.castable "BrambleLogic$Comparison" "BrambleLogic$Literal") ∈ lw_tbl := lw_at lw_m2 189 rfl
theorem q537 : (Jvm.Cond.unhidden "BrambleLogic$Comparison" "atom" "()Ljava/util/Optional;") ∈ lw_tbl := lw_at lw_m2 190 rfl
theorem q589 : (Jvm.Cond.unhidden "BrambleLogic$Comparison" "isPositive" "()Z") ∈ lw_tbl := lw_at lw_m3 2 rfl
theorem q593 : (Jvm.Cond.unhidden "BrambleLogic$Comparison" "isNegative" "()Z") ∈ lw_tbl := lw_at lw_m3 6 rfl
theorem q699 : (Jvm.Cond.selects "BrambleLogic$Comparison" ({ cls := "java/lang/Object", name := "getClass", desc := "()Ljava/lang/Class;" } : Jvm.MethodName) ({ cls := "java/lang/Object", name := "getClass", desc := "()Ljava/lang/Class;" } : Jvm.MethodName)) ∈ lw_all := lw_g (lw_at lw_m3 112 rfl) rfl
theorem q821 : (Jvm.Cond.selects "BrambleLogic$Comparison" ({ cls := "BrambleLogic$Literal", name := "holds", desc := "(LBrambleLogic$Facts;[I)Z" } : Jvm.MethodName) ({ cls := "BrambleLogic$Comparison", name := "holds", desc := "(LBrambleLogic$Facts;[I)Z" } : Jvm.MethodName)) ∈ lw_all := lw_g (lw_at lw_m3 234 rfl) rfl
theorem q822 : (Jvm.Cond.unhidden "BrambleLogic$Comparison" "holds" "(LBrambleLogic$Facts;[I)Z") ∈ lw_tbl := lw_at lw_m3 235 rfl
theorem q823 : (Jvm.Cond.instanceMethod ({ cls := "BrambleLogic$Comparison", name := "holds", desc := "(LBrambleLogic$Facts;[I)Z" } : Jvm.MethodName)) ∈ lw_all := lw_g (lw_at lw_m3 236 rfl) rfl
theorem q824 : (Jvm.Cond.publicMethod ({ cls := "BrambleLogic$Comparison", name := "holds", desc := "(LBrambleLogic$Facts;[I)Z" } : Jvm.MethodName)) ∈ lw_tbl := lw_at lw_m3 237 rfl
theorem q825 : (Jvm.Cond.code ({ cls := "BrambleLogic$Comparison", name := "holds", desc := "(LBrambleLogic$Facts;[I)Z" } : Jvm.MethodName) prog_8_method_2_code (5 : Nat) (Option.some Jvm.ClassFile.FieldType.boolean)) ∈ lw_all := lw_g (lw_at lw_m3 238 rfl) rfl
theorem q826 : (Jvm.Cond.methodLinkNest "BrambleLogic$Comparison" (20 : Nat) ({ cls := "BrambleLogic", name := "valueOf", desc := "(I[I)I" } : Jvm.MethodName) "BrambleLogic") ∈ lw_tbl := lw_at lw_m3 239 rfl
theorem q2399 : (Jvm.Cond.instantiable "BrambleLogic$Comparison" (3 : Nat)) ∈ lw_all := lw_g (lw_at lw_m10 132 rfl) rfl
theorem q2401 : (Jvm.Cond.instanceMethod ({ cls := "BrambleLogic$Comparison", name := "<init>", desc := "(ICI)V" } : Jvm.MethodName)) ∈ lw_all := lw_g (lw_at lw_m10 134 rfl) rfl
theorem q2402 : (Jvm.Cond.code ({ cls := "BrambleLogic$Comparison", name := "<init>", desc := "(ICI)V" } : Jvm.MethodName) prog_8_method_1_code (4 : Nat) (Option.none : Option Jvm.ClassFile.FieldType)) ∈ lw_all := lw_g (lw_at lw_m10 135 rfl) rfl
theorem q2403 : (Jvm.Cond.methodLink "BrambleLogic$Comparison" (1 : Nat) ({ cls := "java/lang/Object", name := "<init>", desc := "()V" } : Jvm.MethodName)) ∈ lw_all := lw_g (lw_at lw_m10 136 rfl) rfl
theorem q2404 : (Jvm.Cond.fieldLink "BrambleLogic$Comparison" (7 : Nat) "BrambleLogic$Comparison" "left" "I") ∈ lw_all := lw_g (lw_at lw_m10 137 rfl) rfl
theorem q2405 : (Jvm.Cond.fieldLink "BrambleLogic$Comparison" (17 : Nat) "BrambleLogic$Comparison" "right" "I") ∈ lw_all := lw_g (lw_at lw_m10 138 rfl) rfl
theorem q2406 : (Jvm.Cond.fieldLink "BrambleLogic$Comparison" (13 : Nat) "BrambleLogic$Comparison" "sign" "C") ∈ lw_all := lw_g (lw_at lw_m10 139 rfl) rfl
theorem q2407 : (Jvm.Cond.laysFinal "BrambleLogic$Comparison" "BrambleLogic$Comparison" "left" "I") ∈ lw_all := lw_g (lw_at lw_m10 140 rfl) rfl
theorem q2408 : (Jvm.Cond.soleField "BrambleLogic$Comparison" "left") ∈ lw_all := lw_g (lw_at lw_m10 141 rfl) rfl
theorem q2409 : (Jvm.Cond.laysFinal "BrambleLogic$Comparison" "BrambleLogic$Comparison" "right" "I") ∈ lw_all := lw_g (lw_at lw_m10 142 rfl) rfl
theorem q2410 : (Jvm.Cond.soleField "BrambleLogic$Comparison" "right") ∈ lw_all := lw_g (lw_at lw_m10 143 rfl) rfl
theorem q2411 : (Jvm.Cond.laysFinal "BrambleLogic$Comparison" "BrambleLogic$Comparison" "sign" "C") ∈ lw_all := lw_g (lw_at lw_m10 144 rfl) rfl
theorem q2412 : (Jvm.Cond.soleField "BrambleLogic$Comparison" "sign") ∈ lw_all := lw_g (lw_at lw_m10 145 rfl) rfl
theorem q2413 : (Jvm.Cond.superclass "BrambleLogic$Comparison" "java/lang/Object") ∈ lw_all := lw_g (lw_at lw_m10 146 rfl) rfl
theorem q2478 : (Jvm.Cond.selects "BrambleLogic$Comparison" ({ cls := "BrambleLogic$Literal", name := "mask", desc := "()I" } : Jvm.MethodName) ({ cls := "BrambleLogic$Comparison", name := "mask", desc := "()I" } : Jvm.MethodName)) ∈ lw_all := lw_g (lw_at lw_m10 211 rfl) rfl
theorem q2479 : (Jvm.Cond.unhidden "BrambleLogic$Comparison" "mask" "()I") ∈ lw_tbl := lw_at lw_m10 212 rfl
theorem q2480 : (Jvm.Cond.instanceMethod ({ cls := "BrambleLogic$Comparison", name := "mask", desc := "()I" } : Jvm.MethodName)) ∈ lw_all := lw_g (lw_at lw_m10 213 rfl) rfl
theorem q2481 : (Jvm.Cond.publicMethod ({ cls := "BrambleLogic$Comparison", name := "mask", desc := "()I" } : Jvm.MethodName)) ∈ lw_tbl := lw_at lw_m10 214 rfl
theorem q2482 : (Jvm.Cond.code ({ cls := "BrambleLogic$Comparison", name := "mask", desc := "()I" } : Jvm.MethodName) prog_8_method_3_code (1 : Nat) (Option.some Jvm.ClassFile.FieldType.int)) ∈ lw_all := lw_g (lw_at lw_m10 215 rfl) rfl
theorem q2483 : (Jvm.Cond.methodLinkNest "BrambleLogic$Comparison" (26 : Nat) ({ cls := "BrambleLogic", name := "maskOf", desc := "(I)I" } : Jvm.MethodName) "BrambleLogic") ∈ lw_tbl := lw_at lw_m10 216 rfl
theorem q3401 : (Jvm.Cond.castable "BrambleLogic$Comparison" "java/lang/Object") ∈ lw_tbl := lw_at lw_m14 174 rfl
theorem in_X24 : ∀ w ∈ wsX240, w ∈ lw_all := lw_in wsX240 [2407, 2409, 2411] (by decide +kernel) (by decide +kernel)
/-! BrambleLogic$Rule -/
set_option maxRecDepth 100000
def RX25 : String := "BrambleLogic$Rule"
def TX25 : u_T := fun k => match k with
  | 0 => ("BrambleLogic$Rule", "head", "LBrambleLogic$Atom;", true)
  | 1 => ("BrambleLogic$Rule", "literals", "Ljava/util/List;", true)
  | 2 => ("BrambleLogic$Rule", "premises", "Ljava/util/List;", true)
  | 3 => ("BrambleLogic$Rule", "text", "Ljava/lang/String;", true)
  | _ => ("BrambleLogic$Rule", "mask", "I", true)
def tyX25 : Nat → FieldType := fun k => match k with
  | 0 => .object "BrambleLogic$Atom"
  | 1 => .object "java/util/List"
  | 2 => .object "java/util/List"
  | 3 => .object "java/lang/String"
  | _ => .int
abbrev wsX250 : List Cond := u_ws RX25 TX25 5
theorem nmX25 : ∀ a, a < 5 → ∀ b, b < 5 → a ≠ b → (TX25 a).2.1 ≠ (TX25 b).2.1 := by decide +kernel
theorem tyX25_ok : ∀ k, k < 5 → parseFieldDescriptor (TX25 k).2.2.1 = some (tyX25 k) := by decide +kernel
abbrev cX25_holds : ByteArray := prog_22_method_3_code
def yX25_holds : MethodName := ⟨RX25, "holds", "(LBrambleLogic$Facts;[I)Z"⟩
def dkwX25_holds_2 : List UInt8 := [185, 0, 76, 3, 0, 153, 0, 7, 4, 167, 0, 4, 3, 62, 167, 255, 212, 29, 172]
abbrev dktX25_holds_2 : List UInt8 := dkwX25_holds_2 ++ []
def dkwX25_holds_1 : List UInt8 := [25, 4, 185, 0, 56, 1, 0, 192, 0, 36, 58, 5, 29, 153, 0, 19, 25, 5, 43, 44]
abbrev dktX25_holds_1 : List UInt8 := dkwX25_holds_1 ++ dktX25_holds_2
def dkwX25_holds_0 : List UInt8 := [4, 62, 42, 180, 0, 22, 185, 0, 44, 1, 0, 58, 4, 25, 4, 185, 0, 50, 1, 0, 153, 0, 40]
abbrev dktX25_holds_0 : List UInt8 := dkwX25_holds_0 ++ dktX25_holds_1
theorem dksX25_holds_0 : cX25_holds.data.toList.drop 0 = dktX25_holds_0 := by decide +kernel
theorem dksX25_holds_1 : cX25_holds.data.toList.drop 23 = dktX25_holds_1 := dk_seg dksX25_holds_0 23 rfl rfl
theorem dksX25_holds_2 : cX25_holds.data.toList.drop 43 = dktX25_holds_2 := dk_seg dksX25_holds_1 20 rfl rfl
theorem dX25_holds_0 : decode cX25_holds 0 = .ok (.iconst 1, 1) := dk_4 (dk_at dksX25_holds_0 0 rfl rfl)
theorem dX25_holds_1 : decode cX25_holds 1 = .ok (.istore_n 3, 1) := dk_62 (dk_at dksX25_holds_0 1 rfl rfl)
theorem dX25_holds_2 : decode cX25_holds 2 = .ok (.aload_n 0, 1) := dk_42 (dk_at dksX25_holds_0 2 rfl rfl)
theorem dX25_holds_3 : decode cX25_holds 3 = .ok (.getfield 22, 3) := dk_180 0 22 (dk_at dksX25_holds_0 3 rfl rfl)
theorem dX25_holds_6 : decode cX25_holds 6 = .ok (.invokeinterface 44 1, 5) := by decide +kernel
theorem dX25_holds_11 : decode cX25_holds 11 = .ok (.astore 4, 2) := dk_58 4 (dk_at dksX25_holds_0 11 rfl rfl)
theorem dX25_holds_13 : decode cX25_holds 13 = .ok (.aload 4, 2) := dk_25 4 (dk_at dksX25_holds_0 13 rfl rfl)
theorem dX25_holds_15 : decode cX25_holds 15 = .ok (.invokeinterface 50 1, 5) := by decide +kernel
theorem dX25_holds_20 : decode cX25_holds 20 = .ok (.ifCond .eq 40, 3) := dk_153 0 40 (dk_at dksX25_holds_0 20 rfl rfl)
theorem dX25_holds_23 : decode cX25_holds 23 = .ok (.aload 4, 2) := dk_25 4 (dk_at dksX25_holds_1 0 rfl rfl)
theorem dX25_holds_25 : decode cX25_holds 25 = .ok (.invokeinterface 56 1, 5) := by decide +kernel
theorem dX25_holds_30 : decode cX25_holds 30 = .ok (.checkcast 36, 3) := dk_192 0 36 (dk_at dksX25_holds_1 7 rfl rfl)
theorem dX25_holds_33 : decode cX25_holds 33 = .ok (.astore 5, 2) := dk_58 5 (dk_at dksX25_holds_1 10 rfl rfl)
theorem dX25_holds_35 : decode cX25_holds 35 = .ok (.iload_n 3, 1) := dk_29 (dk_at dksX25_holds_1 12 rfl rfl)
theorem dX25_holds_36 : decode cX25_holds 36 = .ok (.ifCond .eq 19, 3) := dk_153 0 19 (dk_at dksX25_holds_1 13 rfl rfl)
theorem dX25_holds_39 : decode cX25_holds 39 = .ok (.aload 5, 2) := dk_25 5 (dk_at dksX25_holds_1 16 rfl rfl)
theorem dX25_holds_41 : decode cX25_holds 41 = .ok (.aload_n 1, 1) := dk_43 (dk_at dksX25_holds_1 18 rfl rfl)
theorem dX25_holds_42 : decode cX25_holds 42 = .ok (.aload_n 2, 1) := dk_44 (dk_at dksX25_holds_1 19 rfl rfl)
theorem dX25_holds_43 : decode cX25_holds 43 = .ok (.invokeinterface 76 3, 5) := by decide +kernel
theorem dX25_holds_48 : decode cX25_holds 48 = .ok (.ifCond .eq 7, 3) := dk_153 0 7 (dk_at dksX25_holds_2 5 rfl rfl)
theorem dX25_holds_51 : decode cX25_holds 51 = .ok (.iconst 1, 1) := dk_4 (dk_at dksX25_holds_2 8 rfl rfl)
theorem dX25_holds_52 : decode cX25_holds 52 = .ok (.goto 4, 3) := dk_167 0 4 (dk_at dksX25_holds_2 9 rfl rfl)
theorem dX25_holds_55 : decode cX25_holds 55 = .ok (.iconst 0, 1) := dk_3 (dk_at dksX25_holds_2 12 rfl rfl)
theorem dX25_holds_56 : decode cX25_holds 56 = .ok (.istore_n 3, 1) := dk_62 (dk_at dksX25_holds_2 13 rfl rfl)
theorem dX25_holds_57 : decode cX25_holds 57 = .ok (.goto (-44), 3) := dk_167 255 212 (dk_at dksX25_holds_2 14 rfl rfl)
theorem dX25_holds_60 : decode cX25_holds 60 = .ok (.iload_n 3, 1) := dk_29 (dk_at dksX25_holds_2 17 rfl rfl)
theorem dX25_holds_61 : decode cX25_holds 61 = .ok (.ireturn, 1) := dk_172 (dk_at dksX25_holds_2 18 rfl rfl)
abbrev cX25_range : ByteArray := prog_22_method_4_code
def yX25_range : MethodName := ⟨RX25, "range", "(I)I"⟩
def dkwX25_range_0 : List UInt8 := [42, 180, 0, 41, 27, 122, 4, 126, 4, 160, 0, 8, 16, 10, 167, 0, 4, 4, 172]
abbrev dktX25_range_0 : List UInt8 := dkwX25_range_0 ++ []
theorem dksX25_range_0 : cX25_range.data.toList.drop 0 = dktX25_range_0 := by decide +kernel
theorem dX25_range_0 : decode cX25_range 0 = .ok (.aload_n 0, 1) := dk_42 (dk_at dksX25_range_0 0 rfl rfl)
theorem dX25_range_1 : decode cX25_range 1 = .ok (.getfield 41, 3) := dk_180 0 41 (dk_at dksX25_range_0 1 rfl rfl)
theorem dX25_range_4 : decode cX25_range 4 = .ok (.iload_n 1, 1) := dk_27 (dk_at dksX25_range_0 4 rfl rfl)
theorem dX25_range_5 : decode cX25_range 5 = .ok (.ishr, 1) := dk_122 (dk_at dksX25_range_0 5 rfl rfl)
theorem dX25_range_6 : decode cX25_range 6 = .ok (.iconst 1, 1) := dk_4 (dk_at dksX25_range_0 6 rfl rfl)
theorem dX25_range_7 : decode cX25_range 7 = .ok (.iand, 1) := dk_126 (dk_at dksX25_range_0 7 rfl rfl)
theorem dX25_range_8 : decode cX25_range 8 = .ok (.iconst 1, 1) := dk_4 (dk_at dksX25_range_0 8 rfl rfl)
theorem dX25_range_9 : decode cX25_range 9 = .ok (.if_icmp .ne 8, 3) := dk_160 0 8 (dk_at dksX25_range_0 9 rfl rfl)
theorem dX25_range_12 : decode cX25_range 12 = .ok (.bipush 10, 2) := dk_16 10 (dk_at dksX25_range_0 12 rfl rfl)
theorem dX25_range_14 : decode cX25_range 14 = .ok (.goto 4, 3) := dk_167 0 4 (dk_at dksX25_range_0 14 rfl rfl)
theorem dX25_range_17 : decode cX25_range 17 = .ok (.iconst 1, 1) := dk_4 (dk_at dksX25_range_0 17 rfl rfl)
theorem dX25_range_18 : decode cX25_range 18 = .ok (.ireturn, 1) := dk_172 (dk_at dksX25_range_0 18 rfl rfl)
abbrev cX25_init : ByteArray := prog_22_method_1_code
def yX25_init : MethodName := ⟨RX25, "<init>", "(LBrambleLogic$Atom;Ljava/util/List;Ljava/lang/String;)V"⟩
def dkwX25_init_4 : List UInt8 := [25, 5, 185, 0, 63, 1, 0, 182, 0, 67, 192, 0, 30, 185, 0, 72, 2, 0, 87, 167, 255, 201, 177]
abbrev dktX25_init_4 : List UInt8 := dkwX25_init_4 ++ []
def dkwX25_init_3 : List UInt8 := [185, 0, 56, 1, 0, 192, 0, 36, 58, 5, 25, 5, 185, 0, 60, 1, 0, 153, 0, 26, 42, 180, 0, 12]
abbrev dktX25_init_3 : List UInt8 := dkwX25_init_3 ++ dktX25_init_4
def dkwX25_init_2 : List UInt8 := [128, 181, 0, 41, 44, 185, 0, 44, 1, 0, 58, 4, 25, 4, 185, 0, 50, 1, 0, 153, 0, 51, 25, 4]
abbrev dktX25_init_2 : List UInt8 := dkwX25_init_2 ++ dktX25_init_3
def dkwX25_init_1 : List UInt8 := [181, 0, 22, 42, 45, 181, 0, 25, 42, 43, 182, 0, 29, 44, 4, 184, 0, 35, 128, 44, 3, 184, 0, 35]
abbrev dktX25_init_1 : List UInt8 := dkwX25_init_1 ++ dktX25_init_2
def dkwX25_init_0 : List UInt8 := [42, 183, 0, 3, 42, 187, 0, 9, 89, 183, 0, 11, 181, 0, 12, 42, 43, 181, 0, 18, 42, 44]
abbrev dktX25_init_0 : List UInt8 := dkwX25_init_0 ++ dktX25_init_1
theorem dksX25_init_0 : cX25_init.data.toList.drop 0 = dktX25_init_0 := by decide +kernel
theorem dksX25_init_1 : cX25_init.data.toList.drop 22 = dktX25_init_1 := dk_seg dksX25_init_0 22 rfl rfl
theorem dksX25_init_2 : cX25_init.data.toList.drop 46 = dktX25_init_2 := dk_seg dksX25_init_1 24 rfl rfl
theorem dksX25_init_3 : cX25_init.data.toList.drop 70 = dktX25_init_3 := dk_seg dksX25_init_2 24 rfl rfl
theorem dksX25_init_4 : cX25_init.data.toList.drop 94 = dktX25_init_4 := dk_seg dksX25_init_3 24 rfl rfl
theorem dX25_init_0 : decode cX25_init 0 = .ok (.aload_n 0, 1) := dk_42 (dk_at dksX25_init_0 0 rfl rfl)
theorem dX25_init_1 : decode cX25_init 1 = .ok (.invokespecial 3, 3) := dk_183 0 3 (dk_at dksX25_init_0 1 rfl rfl)
theorem dX25_init_4 : decode cX25_init 4 = .ok (.aload_n 0, 1) := dk_42 (dk_at dksX25_init_0 4 rfl rfl)
theorem dX25_init_5 : decode cX25_init 5 = .ok (.new 9, 3) := dk_187 0 9 (dk_at dksX25_init_0 5 rfl rfl)
theorem dX25_init_8 : decode cX25_init 8 = .ok (.dup, 1) := dk_89 (dk_at dksX25_init_0 8 rfl rfl)
theorem dX25_init_9 : decode cX25_init 9 = .ok (.invokespecial 11, 3) := dk_183 0 11 (dk_at dksX25_init_0 9 rfl rfl)
theorem dX25_init_12 : decode cX25_init 12 = .ok (.putfield 12, 3) := dk_181 0 12 (dk_at dksX25_init_0 12 rfl rfl)
theorem dX25_init_15 : decode cX25_init 15 = .ok (.aload_n 0, 1) := dk_42 (dk_at dksX25_init_0 15 rfl rfl)
theorem dX25_init_16 : decode cX25_init 16 = .ok (.aload_n 1, 1) := dk_43 (dk_at dksX25_init_0 16 rfl rfl)
theorem dX25_init_17 : decode cX25_init 17 = .ok (.putfield 18, 3) := dk_181 0 18 (dk_at dksX25_init_0 17 rfl rfl)
theorem dX25_init_20 : decode cX25_init 20 = .ok (.aload_n 0, 1) := dk_42 (dk_at dksX25_init_0 20 rfl rfl)
theorem dX25_init_21 : decode cX25_init 21 = .ok (.aload_n 2, 1) := dk_44 (dk_at dksX25_init_0 21 rfl rfl)
theorem dX25_init_22 : decode cX25_init 22 = .ok (.putfield 22, 3) := dk_181 0 22 (dk_at dksX25_init_1 0 rfl rfl)
theorem dX25_init_25 : decode cX25_init 25 = .ok (.aload_n 0, 1) := dk_42 (dk_at dksX25_init_1 3 rfl rfl)
theorem dX25_init_26 : decode cX25_init 26 = .ok (.aload_n 3, 1) := dk_45 (dk_at dksX25_init_1 4 rfl rfl)
theorem dX25_init_27 : decode cX25_init 27 = .ok (.putfield 25, 3) := dk_181 0 25 (dk_at dksX25_init_1 5 rfl rfl)
theorem dX25_init_30 : decode cX25_init 30 = .ok (.aload_n 0, 1) := dk_42 (dk_at dksX25_init_1 8 rfl rfl)
theorem dX25_init_31 : decode cX25_init 31 = .ok (.aload_n 1, 1) := dk_43 (dk_at dksX25_init_1 9 rfl rfl)
theorem dX25_init_32 : decode cX25_init 32 = .ok (.invokevirtual 29, 3) := dk_182 0 29 (dk_at dksX25_init_1 10 rfl rfl)
theorem dX25_init_35 : decode cX25_init 35 = .ok (.aload_n 2, 1) := dk_44 (dk_at dksX25_init_1 13 rfl rfl)
theorem dX25_init_36 : decode cX25_init 36 = .ok (.iconst 1, 1) := dk_4 (dk_at dksX25_init_1 14 rfl rfl)
theorem dX25_init_37 : decode cX25_init 37 = .ok (.invokestatic 35, 3) := dk_184 0 35 (dk_at dksX25_init_1 15 rfl rfl)
theorem dX25_init_40 : decode cX25_init 40 = .ok (.ior, 1) := dk_128 (dk_at dksX25_init_1 18 rfl rfl)
theorem dX25_init_41 : decode cX25_init 41 = .ok (.aload_n 2, 1) := dk_44 (dk_at dksX25_init_1 19 rfl rfl)
theorem dX25_init_42 : decode cX25_init 42 = .ok (.iconst 0, 1) := dk_3 (dk_at dksX25_init_1 20 rfl rfl)
theorem dX25_init_43 : decode cX25_init 43 = .ok (.invokestatic 35, 3) := dk_184 0 35 (dk_at dksX25_init_1 21 rfl rfl)
theorem dX25_init_46 : decode cX25_init 46 = .ok (.ior, 1) := dk_128 (dk_at dksX25_init_2 0 rfl rfl)
theorem dX25_init_47 : decode cX25_init 47 = .ok (.putfield 41, 3) := dk_181 0 41 (dk_at dksX25_init_2 1 rfl rfl)
theorem dX25_init_50 : decode cX25_init 50 = .ok (.aload_n 2, 1) := dk_44 (dk_at dksX25_init_2 4 rfl rfl)
theorem dX25_init_51 : decode cX25_init 51 = .ok (.invokeinterface 44 1, 5) := by decide +kernel
theorem dX25_init_56 : decode cX25_init 56 = .ok (.astore 4, 2) := dk_58 4 (dk_at dksX25_init_2 10 rfl rfl)
theorem dX25_init_58 : decode cX25_init 58 = .ok (.aload 4, 2) := dk_25 4 (dk_at dksX25_init_2 12 rfl rfl)
theorem dX25_init_60 : decode cX25_init 60 = .ok (.invokeinterface 50 1, 5) := by decide +kernel
theorem dX25_init_65 : decode cX25_init 65 = .ok (.ifCond .eq 51, 3) := dk_153 0 51 (dk_at dksX25_init_2 19 rfl rfl)
theorem dX25_init_68 : decode cX25_init 68 = .ok (.aload 4, 2) := dk_25 4 (dk_at dksX25_init_2 22 rfl rfl)
theorem dX25_init_70 : decode cX25_init 70 = .ok (.invokeinterface 56 1, 5) := by decide +kernel
theorem dX25_init_75 : decode cX25_init 75 = .ok (.checkcast 36, 3) := dk_192 0 36 (dk_at dksX25_init_3 5 rfl rfl)
theorem dX25_init_78 : decode cX25_init 78 = .ok (.astore 5, 2) := dk_58 5 (dk_at dksX25_init_3 8 rfl rfl)
theorem dX25_init_80 : decode cX25_init 80 = .ok (.aload 5, 2) := dk_25 5 (dk_at dksX25_init_3 10 rfl rfl)
theorem dX25_init_82 : decode cX25_init 82 = .ok (.invokeinterface 60 1, 5) := by decide +kernel
theorem dX25_init_87 : decode cX25_init 87 = .ok (.ifCond .eq 26, 3) := dk_153 0 26 (dk_at dksX25_init_3 17 rfl rfl)
theorem dX25_init_90 : decode cX25_init 90 = .ok (.aload_n 0, 1) := dk_42 (dk_at dksX25_init_3 20 rfl rfl)
theorem dX25_init_91 : decode cX25_init 91 = .ok (.getfield 12, 3) := dk_180 0 12 (dk_at dksX25_init_3 21 rfl rfl)
theorem dX25_init_94 : decode cX25_init 94 = .ok (.aload 5, 2) := dk_25 5 (dk_at dksX25_init_4 0 rfl rfl)
theorem dX25_init_96 : decode cX25_init 96 = .ok (.invokeinterface 63 1, 5) := by decide +kernel
theorem dX25_init_101 : decode cX25_init 101 = .ok (.invokevirtual 67, 3) := dk_182 0 67 (dk_at dksX25_init_4 7 rfl rfl)
theorem dX25_init_104 : decode cX25_init 104 = .ok (.checkcast 30, 3) := dk_192 0 30 (dk_at dksX25_init_4 10 rfl rfl)
theorem dX25_init_107 : decode cX25_init 107 = .ok (.invokeinterface 72 2, 5) := by decide +kernel
theorem dX25_init_112 : decode cX25_init 112 = .ok (.pop, 1) := dk_87 (dk_at dksX25_init_4 18 rfl rfl)
theorem dX25_init_113 : decode cX25_init 113 = .ok (.goto (-55), 3) := dk_167 255 201 (dk_at dksX25_init_4 19 rfl rfl)
theorem dX25_init_116 : decode cX25_init 116 = .ok (.return_, 1) := dk_177 (dk_at dksX25_init_4 22 rfl rfl)
abbrev cX25_unsafeVariable : ByteArray := prog_22_method_2_code
def yX25_unsafeVariable : MethodName := ⟨RX25, "unsafeVariable", "()I"⟩
def dkwX25_unsafeVariable_2 : List UInt8 := [167, 0, 4, 28, 61, 132, 3, 255, 167, 255, 234, 28, 172]
abbrev dktX25_unsafeVariable_2 : List UInt8 := dkwX25_unsafeVariable_2 ++ []
def dkwX25_unsafeVariable_1 : List UInt8 := [2, 130, 126, 60, 2, 61, 5, 62, 29, 155, 0, 24, 27, 29, 122, 4, 126, 4, 160, 0, 7, 29]
abbrev dktX25_unsafeVariable_1 : List UInt8 := dkwX25_unsafeVariable_1 ++ dktX25_unsafeVariable_2
def dkwX25_unsafeVariable_0 : List UInt8 := [42, 180, 0, 18, 182, 0, 29, 42, 180, 0, 22, 3, 184, 0, 35, 128, 42, 180, 0, 22, 4, 184, 0, 35]
abbrev dktX25_unsafeVariable_0 : List UInt8 := dkwX25_unsafeVariable_0 ++ dktX25_unsafeVariable_1
theorem dksX25_unsafeVariable_0 : cX25_unsafeVariable.data.toList.drop 0 = dktX25_unsafeVariable_0 := by decide +kernel
theorem dksX25_unsafeVariable_1 : cX25_unsafeVariable.data.toList.drop 24 = dktX25_unsafeVariable_1 := dk_seg dksX25_unsafeVariable_0 24 rfl rfl
theorem dksX25_unsafeVariable_2 : cX25_unsafeVariable.data.toList.drop 46 = dktX25_unsafeVariable_2 := dk_seg dksX25_unsafeVariable_1 22 rfl rfl
theorem dX25_unsafeVariable_0 : decode cX25_unsafeVariable 0 = .ok (.aload_n 0, 1) := dk_42 (dk_at dksX25_unsafeVariable_0 0 rfl rfl)
theorem dX25_unsafeVariable_1 : decode cX25_unsafeVariable 1 = .ok (.getfield 18, 3) := dk_180 0 18 (dk_at dksX25_unsafeVariable_0 1 rfl rfl)
theorem dX25_unsafeVariable_4 : decode cX25_unsafeVariable 4 = .ok (.invokevirtual 29, 3) := dk_182 0 29 (dk_at dksX25_unsafeVariable_0 4 rfl rfl)
theorem dX25_unsafeVariable_7 : decode cX25_unsafeVariable 7 = .ok (.aload_n 0, 1) := dk_42 (dk_at dksX25_unsafeVariable_0 7 rfl rfl)
theorem dX25_unsafeVariable_8 : decode cX25_unsafeVariable 8 = .ok (.getfield 22, 3) := dk_180 0 22 (dk_at dksX25_unsafeVariable_0 8 rfl rfl)
theorem dX25_unsafeVariable_11 : decode cX25_unsafeVariable 11 = .ok (.iconst 0, 1) := dk_3 (dk_at dksX25_unsafeVariable_0 11 rfl rfl)
theorem dX25_unsafeVariable_12 : decode cX25_unsafeVariable 12 = .ok (.invokestatic 35, 3) := dk_184 0 35 (dk_at dksX25_unsafeVariable_0 12 rfl rfl)
theorem dX25_unsafeVariable_15 : decode cX25_unsafeVariable 15 = .ok (.ior, 1) := dk_128 (dk_at dksX25_unsafeVariable_0 15 rfl rfl)
theorem dX25_unsafeVariable_16 : decode cX25_unsafeVariable 16 = .ok (.aload_n 0, 1) := dk_42 (dk_at dksX25_unsafeVariable_0 16 rfl rfl)
theorem dX25_unsafeVariable_17 : decode cX25_unsafeVariable 17 = .ok (.getfield 22, 3) := dk_180 0 22 (dk_at dksX25_unsafeVariable_0 17 rfl rfl)
theorem dX25_unsafeVariable_20 : decode cX25_unsafeVariable 20 = .ok (.iconst 1, 1) := dk_4 (dk_at dksX25_unsafeVariable_0 20 rfl rfl)
theorem dX25_unsafeVariable_21 : decode cX25_unsafeVariable 21 = .ok (.invokestatic 35, 3) := dk_184 0 35 (dk_at dksX25_unsafeVariable_0 21 rfl rfl)
theorem dX25_unsafeVariable_24 : decode cX25_unsafeVariable 24 = .ok (.iconst (-1), 1) := dk_2 (dk_at dksX25_unsafeVariable_1 0 rfl rfl)
theorem dX25_unsafeVariable_25 : decode cX25_unsafeVariable 25 = .ok (.ixor, 1) := dk_130 (dk_at dksX25_unsafeVariable_1 1 rfl rfl)
theorem dX25_unsafeVariable_26 : decode cX25_unsafeVariable 26 = .ok (.iand, 1) := dk_126 (dk_at dksX25_unsafeVariable_1 2 rfl rfl)
theorem dX25_unsafeVariable_27 : decode cX25_unsafeVariable 27 = .ok (.istore_n 1, 1) := dk_60 (dk_at dksX25_unsafeVariable_1 3 rfl rfl)
theorem dX25_unsafeVariable_28 : decode cX25_unsafeVariable 28 = .ok (.iconst (-1), 1) := dk_2 (dk_at dksX25_unsafeVariable_1 4 rfl rfl)
theorem dX25_unsafeVariable_29 : decode cX25_unsafeVariable 29 = .ok (.istore_n 2, 1) := dk_61 (dk_at dksX25_unsafeVariable_1 5 rfl rfl)
theorem dX25_unsafeVariable_30 : decode cX25_unsafeVariable 30 = .ok (.iconst 2, 1) := dk_5 (dk_at dksX25_unsafeVariable_1 6 rfl rfl)
theorem dX25_unsafeVariable_31 : decode cX25_unsafeVariable 31 = .ok (.istore_n 3, 1) := dk_62 (dk_at dksX25_unsafeVariable_1 7 rfl rfl)
theorem dX25_unsafeVariable_32 : decode cX25_unsafeVariable 32 = .ok (.iload_n 3, 1) := dk_29 (dk_at dksX25_unsafeVariable_1 8 rfl rfl)
theorem dX25_unsafeVariable_33 : decode cX25_unsafeVariable 33 = .ok (.ifCond .lt 24, 3) := dk_155 0 24 (dk_at dksX25_unsafeVariable_1 9 rfl rfl)
theorem dX25_unsafeVariable_36 : decode cX25_unsafeVariable 36 = .ok (.iload_n 1, 1) := dk_27 (dk_at dksX25_unsafeVariable_1 12 rfl rfl)
theorem dX25_unsafeVariable_37 : decode cX25_unsafeVariable 37 = .ok (.iload_n 3, 1) := dk_29 (dk_at dksX25_unsafeVariable_1 13 rfl rfl)
theorem dX25_unsafeVariable_38 : decode cX25_unsafeVariable 38 = .ok (.ishr, 1) := dk_122 (dk_at dksX25_unsafeVariable_1 14 rfl rfl)
theorem dX25_unsafeVariable_39 : decode cX25_unsafeVariable 39 = .ok (.iconst 1, 1) := dk_4 (dk_at dksX25_unsafeVariable_1 15 rfl rfl)
theorem dX25_unsafeVariable_40 : decode cX25_unsafeVariable 40 = .ok (.iand, 1) := dk_126 (dk_at dksX25_unsafeVariable_1 16 rfl rfl)
theorem dX25_unsafeVariable_41 : decode cX25_unsafeVariable 41 = .ok (.iconst 1, 1) := dk_4 (dk_at dksX25_unsafeVariable_1 17 rfl rfl)
theorem dX25_unsafeVariable_42 : decode cX25_unsafeVariable 42 = .ok (.if_icmp .ne 7, 3) := dk_160 0 7 (dk_at dksX25_unsafeVariable_1 18 rfl rfl)
theorem dX25_unsafeVariable_45 : decode cX25_unsafeVariable 45 = .ok (.iload_n 3, 1) := dk_29 (dk_at dksX25_unsafeVariable_1 21 rfl rfl)
theorem dX25_unsafeVariable_46 : decode cX25_unsafeVariable 46 = .ok (.goto 4, 3) := dk_167 0 4 (dk_at dksX25_unsafeVariable_2 0 rfl rfl)
theorem dX25_unsafeVariable_49 : decode cX25_unsafeVariable 49 = .ok (.iload_n 2, 1) := dk_28 (dk_at dksX25_unsafeVariable_2 3 rfl rfl)
theorem dX25_unsafeVariable_50 : decode cX25_unsafeVariable 50 = .ok (.istore_n 2, 1) := dk_61 (dk_at dksX25_unsafeVariable_2 4 rfl rfl)
theorem dX25_unsafeVariable_51 : decode cX25_unsafeVariable 51 = .ok (.iinc 3 (-1), 3) := dk_132 3 255 (dk_at dksX25_unsafeVariable_2 5 rfl rfl)
theorem dX25_unsafeVariable_54 : decode cX25_unsafeVariable 54 = .ok (.goto (-22), 3) := dk_167 255 234 (dk_at dksX25_unsafeVariable_2 8 rfl rfl)
theorem dX25_unsafeVariable_57 : decode cX25_unsafeVariable 57 = .ok (.iload_n 2, 1) := dk_28 (dk_at dksX25_unsafeVariable_2 11 rfl rfl)
theorem dX25_unsafeVariable_58 : decode cX25_unsafeVariable 58 = .ok (.ireturn, 1) := dk_172 (dk_at dksX25_unsafeVariable_2 12 rfl rfl)
theorem q164 : (Jvm.Cond.initialized "BrambleLogic$Rule") ∈ lw_all := lw_g (lw_at lw_m1 57 rfl) rfl
theorem q712 : (Jvm.Cond.selects "BrambleLogic$Rule" ({ cls := "java/lang/Object", name := "getClass", desc := "()Ljava/lang/Class;" } : Jvm.MethodName) ({ cls := "java/lang/Object", name := "getClass", desc := "()Ljava/lang/Class;" } : Jvm.MethodName)) ∈ lw_all := lw_g (lw_at lw_m3 125 rfl) rfl
theorem q780 : (Jvm.Cond.instanceMethod ({ cls := "BrambleLogic$Rule", name := "holds", desc := "(LBrambleLogic$Facts;[I)Z" } : Jvm.MethodName)) ∈ lw_all := lw_g (lw_at lw_m3 193 rfl) rfl
theorem q781 : (Jvm.Cond.selects "BrambleLogic$Rule" ({ cls := "BrambleLogic$Rule", name := "holds", desc := "(LBrambleLogic$Facts;[I)Z" } : Jvm.MethodName) ({ cls := "BrambleLogic$Rule", name := "holds", desc := "(LBrambleLogic$Facts;[I)Z" } : Jvm.MethodName)) ∈ lw_all := lw_g (lw_at lw_m3 194 rfl) rfl
theorem q782 : (Jvm.Cond.code ({ cls := "BrambleLogic$Rule", name := "holds", desc := "(LBrambleLogic$Facts;[I)Z" } : Jvm.MethodName) prog_22_method_3_code (6 : Nat) (Option.some Jvm.ClassFile.FieldType.boolean)) ∈ lw_all := lw_g (lw_at lw_m3 195 rfl) rfl
theorem q783 : (Jvm.Cond.interfaceEntry "BrambleLogic$Rule" (44 : Nat)) ∈ lw_tbl := lw_at lw_m3 196 rfl
theorem q784 : (Jvm.Cond.methodLink "BrambleLogic$Rule" (44 : Nat) ({ cls := "java/util/List", name := "iterator", desc := "()Ljava/util/Iterator;" } : Jvm.MethodName)) ∈ lw_all := lw_g (lw_at lw_m3 197 rfl) rfl
theorem q785 : (Jvm.Cond.interfaceEntry "BrambleLogic$Rule" (50 : Nat)) ∈ lw_tbl := lw_at lw_m3 198 rfl
theorem q786 : (Jvm.Cond.methodLink "BrambleLogic$Rule" (50 : Nat) ({ cls := "java/util/Iterator", name := "hasNext", desc := "()Z" } : Jvm.MethodName)) ∈ lw_all := lw_g (lw_at lw_m3 199 rfl) rfl
theorem q787 : (Jvm.Cond.interfaceEntry "BrambleLogic$Rule" (56 : Nat)) ∈ lw_tbl := lw_at lw_m3 200 rfl
theorem q788 : (Jvm.Cond.methodLink "BrambleLogic$Rule" (56 : Nat) ({ cls := "java/util/Iterator", name := "next", desc := "()Ljava/lang/Object;" } : Jvm.MethodName)) ∈ lw_all := lw_g (lw_at lw_m3 201 rfl) rfl
theorem q789 : (Jvm.Cond.classLink "BrambleLogic$Rule" (36 : Nat) "BrambleLogic$Literal") ∈ lw_all := lw_g (lw_at lw_m3 202 rfl) rfl
theorem q790 : (Jvm.Cond.interfaceEntry "BrambleLogic$Rule" (76 : Nat)) ∈ lw_tbl := lw_at lw_m3 203 rfl
theorem q791 : (Jvm.Cond.methodLink "BrambleLogic$Rule" (76 : Nat) ({ cls := "BrambleLogic$Literal", name := "holds", desc := "(LBrambleLogic$Facts;[I)Z" } : Jvm.MethodName)) ∈ lw_all := lw_g (lw_at lw_m3 204 rfl) rfl
theorem q938 : (Jvm.Cond.instanceMethod ({ cls := "BrambleLogic$Rule", name := "range", desc := "(I)I" } : Jvm.MethodName)) ∈ lw_all := lw_g (lw_at lw_m4 111 rfl) rfl
theorem q939 : (Jvm.Cond.selects "BrambleLogic$Rule" ({ cls := "BrambleLogic$Rule", name := "range", desc := "(I)I" } : Jvm.MethodName) ({ cls := "BrambleLogic$Rule", name := "range", desc := "(I)I" } : Jvm.MethodName)) ∈ lw_all := lw_g (lw_at lw_m4 112 rfl) rfl
theorem q940 : (Jvm.Cond.code ({ cls := "BrambleLogic$Rule", name := "range", desc := "(I)I" } : Jvm.MethodName) prog_22_method_4_code (2 : Nat) (Option.some Jvm.ClassFile.FieldType.int)) ∈ lw_all := lw_g (lw_at lw_m4 113 rfl) rfl
theorem q2420 : (Jvm.Cond.instantiable "BrambleLogic$Rule" (5 : Nat)) ∈ lw_all := lw_g (lw_at lw_m10 153 rfl) rfl
theorem q2446 : (Jvm.Cond.instanceMethod ({ cls := "BrambleLogic$Rule", name := "<init>", desc := "(LBrambleLogic$Atom;Ljava/util/List;Ljava/lang/String;)V" } : Jvm.MethodName)) ∈ lw_all := lw_g (lw_at lw_m10 179 rfl) rfl
theorem q2447 : (Jvm.Cond.code ({ cls := "BrambleLogic$Rule", name := "<init>", desc := "(LBrambleLogic$Atom;Ljava/util/List;Ljava/lang/String;)V" } : Jvm.MethodName) prog_22_method_1_code (6 : Nat) (Option.none : Option Jvm.ClassFile.FieldType)) ∈ lw_all := lw_g (lw_at lw_m10 180 rfl) rfl
theorem q2448 : (Jvm.Cond.methodLink "BrambleLogic$Rule" (3 : Nat) ({ cls := "java/lang/Object", name := "<init>", desc := "()V" } : Jvm.MethodName)) ∈ lw_all := lw_g (lw_at lw_m10 181 rfl) rfl
theorem q2449 : (Jvm.Cond.classLink "BrambleLogic$Rule" (9 : Nat) "java/util/ArrayList") ∈ lw_all := lw_g (lw_at lw_m10 182 rfl) rfl
theorem q2450 : (Jvm.Cond.methodLink "BrambleLogic$Rule" (11 : Nat) ({ cls := "java/util/ArrayList", name := "<init>", desc := "()V" } : Jvm.MethodName)) ∈ lw_all := lw_g (lw_at lw_m10 183 rfl) rfl
theorem q2451 : (Jvm.Cond.methodLink "BrambleLogic$Rule" (29 : Nat) ({ cls := "BrambleLogic$Atom", name := "mask", desc := "()I" } : Jvm.MethodName)) ∈ lw_all := lw_g (lw_at lw_m10 184 rfl) rfl
theorem q2458 : (Jvm.Cond.methodLink "BrambleLogic$Rule" (35 : Nat) ({ cls := "BrambleLogic$Literal", name := "masks", desc := "(Ljava/util/List;Z)I" } : Jvm.MethodName)) ∈ lw_all := lw_g (lw_at lw_m10 191 rfl) rfl
theorem q2484 : (Jvm.Cond.interfaceEntry "BrambleLogic$Rule" (60 : Nat)) ∈ lw_tbl := lw_at lw_m10 217 rfl
theorem q2485 : (Jvm.Cond.methodLink "BrambleLogic$Rule" (60 : Nat) ({ cls := "BrambleLogic$Literal", name := "isPositive", desc := "()Z" } : Jvm.MethodName)) ∈ lw_all := lw_g (lw_at lw_m10 218 rfl) rfl
theorem q2486 : (Jvm.Cond.interfaceEntry "BrambleLogic$Rule" (63 : Nat)) ∈ lw_tbl := lw_at lw_m10 219 rfl
theorem q2487 : (Jvm.Cond.methodLink "BrambleLogic$Rule" (63 : Nat) ({ cls := "BrambleLogic$Literal", name := "atom", desc := "()Ljava/util/Optional;" } : Jvm.MethodName)) ∈ lw_all := lw_g (lw_at lw_m10 220 rfl) rfl
theorem q2488 : (Jvm.Cond.methodLink "BrambleLogic$Rule" (67 : Nat) ({ cls := "java/util/Optional", name := "get", desc := "()Ljava/lang/Object;" } : Jvm.MethodName)) ∈ lw_all := lw_g (lw_at lw_m10 221 rfl) rfl
theorem q2489 : (Jvm.Cond.classLink "BrambleLogic$Rule" (30 : Nat) "BrambleLogic$Atom") ∈ lw_all := lw_g (lw_at lw_m10 222 rfl) rfl
theorem q2490 : (Jvm.Cond.interfaceEntry "BrambleLogic$Rule" (72 : Nat)) ∈ lw_tbl := lw_at lw_m10 223 rfl
theorem q2491 : (Jvm.Cond.methodLink "BrambleLogic$Rule" (72 : Nat) ({ cls := "java/util/List", name := "add", desc := "(Ljava/lang/Object;)Z" } : Jvm.MethodName)) ∈ lw_all := lw_g (lw_at lw_m10 224 rfl) rfl
theorem q2492 : (Jvm.Cond.fieldLink "BrambleLogic$Rule" (18 : Nat) "BrambleLogic$Rule" "head" "LBrambleLogic$Atom;") ∈ lw_all := lw_g (lw_at lw_m10 225 rfl) rfl
theorem q2502 : (Jvm.Cond.fieldLink "BrambleLogic$Rule" (22 : Nat) "BrambleLogic$Rule" "literals" "Ljava/util/List;") ∈ lw_all := lw_g (lw_at lw_m10 235 rfl) rfl
theorem q2506 : (Jvm.Cond.fieldLink "BrambleLogic$Rule" (12 : Nat) "BrambleLogic$Rule" "premises" "Ljava/util/List;") ∈ lw_all := lw_g (lw_at lw_m10 239 rfl) rfl
theorem q2511 : (Jvm.Cond.fieldLink "BrambleLogic$Rule" (25 : Nat) "BrambleLogic$Rule" "text" "Ljava/lang/String;") ∈ lw_all := lw_g (lw_at lw_m11 4 rfl) rfl
theorem q2514 : (Jvm.Cond.fieldLink "BrambleLogic$Rule" (41 : Nat) "BrambleLogic$Rule" "mask" "I") ∈ lw_all := lw_g (lw_at lw_m11 7 rfl) rfl
theorem q2516 : (Jvm.Cond.laysFinal "BrambleLogic$Rule" "BrambleLogic$Rule" "head" "LBrambleLogic$Atom;") ∈ lw_all := lw_g (lw_at lw_m11 9 rfl) rfl
theorem q2517 : (Jvm.Cond.soleField "BrambleLogic$Rule" "head") ∈ lw_all := lw_g (lw_at lw_m11 10 rfl) rfl
theorem q2518 : (Jvm.Cond.laysFinal "BrambleLogic$Rule" "BrambleLogic$Rule" "literals" "Ljava/util/List;") ∈ lw_all := lw_g (lw_at lw_m11 11 rfl) rfl
theorem q2519 : (Jvm.Cond.soleField "BrambleLogic$Rule" "literals") ∈ lw_all := lw_g (lw_at lw_m11 12 rfl) rfl
theorem q2520 : (Jvm.Cond.laysFinal "BrambleLogic$Rule" "BrambleLogic$Rule" "premises" "Ljava/util/List;") ∈ lw_all := lw_g (lw_at lw_m11 13 rfl) rfl
theorem q2521 : (Jvm.Cond.soleField "BrambleLogic$Rule" "premises") ∈ lw_all := lw_g (lw_at lw_m11 14 rfl) rfl
theorem q2522 : (Jvm.Cond.laysFinal "BrambleLogic$Rule" "BrambleLogic$Rule" "text" "Ljava/lang/String;") ∈ lw_all := lw_g (lw_at lw_m11 15 rfl) rfl
theorem q2523 : (Jvm.Cond.soleField "BrambleLogic$Rule" "text") ∈ lw_all := lw_g (lw_at lw_m11 16 rfl) rfl
theorem q2524 : (Jvm.Cond.laysFinal "BrambleLogic$Rule" "BrambleLogic$Rule" "mask" "I") ∈ lw_all := lw_g (lw_at lw_m11 17 rfl) rfl
theorem q2525 : (Jvm.Cond.soleField "BrambleLogic$Rule" "mask") ∈ lw_all := lw_g (lw_at lw_m11 18 rfl) rfl
theorem q2526 : (Jvm.Cond.superclass "BrambleLogic$Rule" "java/lang/Object") ∈ lw_all := lw_g (lw_at lw_m11 19 rfl) rfl
theorem q2615 : (Jvm.Cond.instanceMethod ({ cls := "BrambleLogic$Rule", name := "unsafeVariable", desc := "()I" } : Jvm.MethodName)) ∈ lw_all := lw_g (lw_at lw_m11 108 rfl) rfl
theorem q2616 : (Jvm.Cond.selects "BrambleLogic$Rule" ({ cls := "BrambleLogic$Rule", name := "unsafeVariable", desc := "()I" } : Jvm.MethodName) ({ cls := "BrambleLogic$Rule", name := "unsafeVariable", desc := "()I" } : Jvm.MethodName)) ∈ lw_all := lw_g (lw_at lw_m11 109 rfl) rfl
theorem q2617 : (Jvm.Cond.code ({ cls := "BrambleLogic$Rule", name := "unsafeVariable", desc := "()I" } : Jvm.MethodName) prog_22_method_2_code (4 : Nat) (Option.some Jvm.ClassFile.FieldType.int)) ∈ lw_all := lw_g (lw_at lw_m11 110 rfl) rfl
theorem q3402 : (Jvm.Cond.castable "BrambleLogic$Rule" "java/lang/Object") ∈ lw_tbl := lw_at lw_m14 175 rfl
theorem in_X25 : ∀ w ∈ wsX250, w ∈ lw_all := lw_in wsX250 [2516, 2518, 2520, 2522, 2524] (by decide +kernel) (by decide +kernel)
/-! BrambleLogic$Literal -/
set_option maxRecDepth 100000
def RX26 : String := "BrambleLogic$Literal"
abbrev cX26_atom : ByteArray := prog_16_method_3_code
def yX26_atom : MethodName := ⟨RX26, "atom", "()Ljava/util/Optional;"⟩
theorem dX26_atom_0 : decode cX26_atom 0 = .ok (.invokestatic 1, 3) := by decide +kernel
theorem dX26_atom_3 : decode cX26_atom 3 = .ok (.areturn, 1) := by decide +kernel
abbrev cX26_isNegative : ByteArray := prog_16_method_5_code
def yX26_isNegative : MethodName := ⟨RX26, "isNegative", "()Z"⟩
def dkwX26_isNegative_1 : List UInt8 := [167, 0, 4, 3, 172]
abbrev dktX26_isNegative_1 : List UInt8 := dkwX26_isNegative_1 ++ []
def dkwX26_isNegative_0 : List UInt8 := [42, 185, 0, 7, 1, 0, 182, 0, 12, 153, 0, 16, 42, 185, 0, 16, 1, 0, 154, 0, 7, 4]
abbrev dktX26_isNegative_0 : List UInt8 := dkwX26_isNegative_0 ++ dktX26_isNegative_1
theorem dksX26_isNegative_0 : cX26_isNegative.data.toList.drop 0 = dktX26_isNegative_0 := by decide +kernel
theorem dksX26_isNegative_1 : cX26_isNegative.data.toList.drop 22 = dktX26_isNegative_1 := dk_seg dksX26_isNegative_0 22 rfl rfl
theorem dX26_isNegative_0 : decode cX26_isNegative 0 = .ok (.aload_n 0, 1) := dk_42 (dk_at dksX26_isNegative_0 0 rfl rfl)
theorem dX26_isNegative_1 : decode cX26_isNegative 1 = .ok (.invokeinterface 7 1, 5) := by decide +kernel
theorem dX26_isNegative_6 : decode cX26_isNegative 6 = .ok (.invokevirtual 12, 3) := dk_182 0 12 (dk_at dksX26_isNegative_0 6 rfl rfl)
theorem dX26_isNegative_9 : decode cX26_isNegative 9 = .ok (.ifCond .eq 16, 3) := dk_153 0 16 (dk_at dksX26_isNegative_0 9 rfl rfl)
theorem dX26_isNegative_12 : decode cX26_isNegative 12 = .ok (.aload_n 0, 1) := dk_42 (dk_at dksX26_isNegative_0 12 rfl rfl)
theorem dX26_isNegative_13 : decode cX26_isNegative 13 = .ok (.invokeinterface 16 1, 5) := by decide +kernel
theorem dX26_isNegative_18 : decode cX26_isNegative 18 = .ok (.ifCond .ne 7, 3) := dk_154 0 7 (dk_at dksX26_isNegative_0 18 rfl rfl)
theorem dX26_isNegative_21 : decode cX26_isNegative 21 = .ok (.iconst 1, 1) := dk_4 (dk_at dksX26_isNegative_0 21 rfl rfl)
theorem dX26_isNegative_22 : decode cX26_isNegative 22 = .ok (.goto 4, 3) := dk_167 0 4 (dk_at dksX26_isNegative_1 0 rfl rfl)
theorem dX26_isNegative_25 : decode cX26_isNegative 25 = .ok (.iconst 0, 1) := dk_3 (dk_at dksX26_isNegative_1 3 rfl rfl)
theorem dX26_isNegative_26 : decode cX26_isNegative 26 = .ok (.ireturn, 1) := dk_172 (dk_at dksX26_isNegative_1 4 rfl rfl)
abbrev cX26_isPositive : ByteArray := prog_16_method_4_code
def yX26_isPositive : MethodName := ⟨RX26, "isPositive", "()Z"⟩
theorem dX26_isPositive_0 : decode cX26_isPositive 0 = .ok (.iconst 0, 1) := by decide +kernel
theorem dX26_isPositive_1 : decode cX26_isPositive 1 = .ok (.ireturn, 1) := by decide +kernel
abbrev cX26_masks : ByteArray := prog_16_method_6_code
def yX26_masks : MethodName := ⟨RX26, "masks", "(Ljava/util/List;Z)I"⟩
def dkwX26_masks_2 : List UInt8 := [167, 0, 4, 3, 128, 61, 167, 255, 211, 28, 172]
abbrev dktX26_masks_2 : List UInt8 := dkwX26_masks_2 ++ []
def dkwX26_masks_1 : List UInt8 := [192, 0, 8, 58, 4, 28, 25, 4, 185, 0, 16, 1, 0, 27, 160, 0, 13, 25, 4, 185, 0, 34, 1, 0]
abbrev dktX26_masks_1 : List UInt8 := dkwX26_masks_1 ++ dktX26_masks_2
def dkwX26_masks_0 : List UInt8 := [3, 61, 42, 185, 0, 19, 1, 0, 78, 45, 185, 0, 25, 1, 0, 153, 0, 42, 45, 185, 0, 30, 1, 0]
abbrev dktX26_masks_0 : List UInt8 := dkwX26_masks_0 ++ dktX26_masks_1
theorem dksX26_masks_0 : cX26_masks.data.toList.drop 0 = dktX26_masks_0 := by decide +kernel
theorem dksX26_masks_1 : cX26_masks.data.toList.drop 24 = dktX26_masks_1 := dk_seg dksX26_masks_0 24 rfl rfl
theorem dksX26_masks_2 : cX26_masks.data.toList.drop 48 = dktX26_masks_2 := dk_seg dksX26_masks_1 24 rfl rfl
theorem dX26_masks_0 : decode cX26_masks 0 = .ok (.iconst 0, 1) := dk_3 (dk_at dksX26_masks_0 0 rfl rfl)
theorem dX26_masks_1 : decode cX26_masks 1 = .ok (.istore_n 2, 1) := dk_61 (dk_at dksX26_masks_0 1 rfl rfl)
theorem dX26_masks_2 : decode cX26_masks 2 = .ok (.aload_n 0, 1) := dk_42 (dk_at dksX26_masks_0 2 rfl rfl)
theorem dX26_masks_3 : decode cX26_masks 3 = .ok (.invokeinterface 19 1, 5) := by decide +kernel
theorem dX26_masks_8 : decode cX26_masks 8 = .ok (.astore_n 3, 1) := dk_78 (dk_at dksX26_masks_0 8 rfl rfl)
theorem dX26_masks_9 : decode cX26_masks 9 = .ok (.aload_n 3, 1) := dk_45 (dk_at dksX26_masks_0 9 rfl rfl)
theorem dX26_masks_10 : decode cX26_masks 10 = .ok (.invokeinterface 25 1, 5) := by decide +kernel
theorem dX26_masks_15 : decode cX26_masks 15 = .ok (.ifCond .eq 42, 3) := dk_153 0 42 (dk_at dksX26_masks_0 15 rfl rfl)
theorem dX26_masks_18 : decode cX26_masks 18 = .ok (.aload_n 3, 1) := dk_45 (dk_at dksX26_masks_0 18 rfl rfl)
theorem dX26_masks_19 : decode cX26_masks 19 = .ok (.invokeinterface 30 1, 5) := by decide +kernel
theorem dX26_masks_24 : decode cX26_masks 24 = .ok (.checkcast 8, 3) := dk_192 0 8 (dk_at dksX26_masks_1 0 rfl rfl)
theorem dX26_masks_27 : decode cX26_masks 27 = .ok (.astore 4, 2) := dk_58 4 (dk_at dksX26_masks_1 3 rfl rfl)
theorem dX26_masks_29 : decode cX26_masks 29 = .ok (.iload_n 2, 1) := dk_28 (dk_at dksX26_masks_1 5 rfl rfl)
theorem dX26_masks_30 : decode cX26_masks 30 = .ok (.aload 4, 2) := dk_25 4 (dk_at dksX26_masks_1 6 rfl rfl)
theorem dX26_masks_32 : decode cX26_masks 32 = .ok (.invokeinterface 16 1, 5) := by decide +kernel
theorem dX26_masks_37 : decode cX26_masks 37 = .ok (.iload_n 1, 1) := dk_27 (dk_at dksX26_masks_1 13 rfl rfl)
theorem dX26_masks_38 : decode cX26_masks 38 = .ok (.if_icmp .ne 13, 3) := dk_160 0 13 (dk_at dksX26_masks_1 14 rfl rfl)
theorem dX26_masks_41 : decode cX26_masks 41 = .ok (.aload 4, 2) := dk_25 4 (dk_at dksX26_masks_1 17 rfl rfl)
theorem dX26_masks_43 : decode cX26_masks 43 = .ok (.invokeinterface 34 1, 5) := by decide +kernel
theorem dX26_masks_48 : decode cX26_masks 48 = .ok (.goto 4, 3) := dk_167 0 4 (dk_at dksX26_masks_2 0 rfl rfl)
theorem dX26_masks_51 : decode cX26_masks 51 = .ok (.iconst 0, 1) := dk_3 (dk_at dksX26_masks_2 3 rfl rfl)
theorem dX26_masks_52 : decode cX26_masks 52 = .ok (.ior, 1) := dk_128 (dk_at dksX26_masks_2 4 rfl rfl)
theorem dX26_masks_53 : decode cX26_masks 53 = .ok (.istore_n 2, 1) := dk_61 (dk_at dksX26_masks_2 5 rfl rfl)
theorem dX26_masks_54 : decode cX26_masks 54 = .ok (.goto (-45), 3) := dk_167 255 211 (dk_at dksX26_masks_2 6 rfl rfl)
theorem dX26_masks_57 : decode cX26_masks 57 = .ok (.iload_n 2, 1) := dk_28 (dk_at dksX26_masks_2 9 rfl rfl)
theorem dX26_masks_58 : decode cX26_masks 58 = .ok (.ireturn, 1) := dk_172 (dk_at dksX26_masks_2 10 rfl rfl)
theorem q165 : (Jvm.Cond.initialized "BrambleLogic$Literal") ∈ lw_all := lw_g (lw_at lw_m1 58 rfl) rfl
theorem q512 : (Jvm.Cond.interfaceMethod "BrambleLogic$Literal" "BrambleLogic$Literal" "atom" "()Ljava/util/Optional;") ∈ lw_tbl := lw_at lw_m2 165 rfl
theorem q513 : (Jvm.Cond.declares ({ cls := "BrambleLogic$Literal", name := "atom", desc := "()Ljava/util/Optional;" } : Jvm.MethodName)) ∈ lw_tbl := lw_at lw_m2 166 rfl
theorem q538 : (Jvm.Cond.instanceMethod ({ cls := "BrambleLogic$Literal", name := "atom", desc := "()Ljava/util/Optional;" } : Jvm.MethodName)) ∈ lw_all := lw_g (lw_at lw_m2 191 rfl) rfl
theorem q539 : (Jvm.Cond.publicMethod ({ cls := "BrambleLogic$Literal", name := "atom", desc := "()Ljava/util/Optional;" } : Jvm.MethodName)) ∈ lw_tbl := lw_at lw_m2 192 rfl
theorem q540 : (Jvm.Cond.code ({ cls := "BrambleLogic$Literal", name := "atom", desc := "()Ljava/util/Optional;" } : Jvm.MethodName) prog_16_method_3_code (1 : Nat) (Option.some (Jvm.ClassFile.FieldType.object "java/util/Optional"))) ∈ lw_all := lw_g (lw_at lw_m2 193 rfl) rfl
theorem q541 : (Jvm.Cond.methodLink "BrambleLogic$Literal" (1 : Nat) ({ cls := "java/util/Optional", name := "empty", desc := "()Ljava/util/Optional;" } : Jvm.MethodName)) ∈ lw_all := lw_g (lw_at lw_m2 194 rfl) rfl
theorem q571 : (Jvm.Cond.interfaceMethod "BrambleLogic$Literal" "BrambleLogic$Literal" "isNegative" "()Z") ∈ lw_tbl := lw_at lw_m2 224 rfl
theorem q572 : (Jvm.Cond.declares ({ cls := "BrambleLogic$Literal", name := "isNegative", desc := "()Z" } : Jvm.MethodName)) ∈ lw_tbl := lw_at lw_m2 225 rfl
theorem q574 : (Jvm.Cond.instanceMethod ({ cls := "BrambleLogic$Literal", name := "isNegative", desc := "()Z" } : Jvm.MethodName)) ∈ lw_all := lw_g (lw_at lw_m2 227 rfl) rfl
theorem q575 : (Jvm.Cond.publicMethod ({ cls := "BrambleLogic$Literal", name := "isNegative", desc := "()Z" } : Jvm.MethodName)) ∈ lw_tbl := lw_at lw_m2 228 rfl
theorem q576 : (Jvm.Cond.code ({ cls := "BrambleLogic$Literal", name := "isNegative", desc := "()Z" } : Jvm.MethodName) prog_16_method_5_code (1 : Nat) (Option.some Jvm.ClassFile.FieldType.boolean)) ∈ lw_all := lw_g (lw_at lw_m2 229 rfl) rfl
theorem q577 : (Jvm.Cond.interfaceEntry "BrambleLogic$Literal" (7 : Nat)) ∈ lw_tbl := lw_at lw_m2 230 rfl
theorem q578 : (Jvm.Cond.methodLink "BrambleLogic$Literal" (7 : Nat) ({ cls := "BrambleLogic$Literal", name := "atom", desc := "()Ljava/util/Optional;" } : Jvm.MethodName)) ∈ lw_all := lw_g (lw_at lw_m2 231 rfl) rfl
theorem q579 : (Jvm.Cond.methodLink "BrambleLogic$Literal" (12 : Nat) ({ cls := "java/util/Optional", name := "isPresent", desc := "()Z" } : Jvm.MethodName)) ∈ lw_all := lw_g (lw_at lw_m2 232 rfl) rfl
theorem q580 : (Jvm.Cond.interfaceEntry "BrambleLogic$Literal" (16 : Nat)) ∈ lw_tbl := lw_at lw_m2 233 rfl
theorem q581 : (Jvm.Cond.methodLink "BrambleLogic$Literal" (16 : Nat) ({ cls := "BrambleLogic$Literal", name := "isPositive", desc := "()Z" } : Jvm.MethodName)) ∈ lw_all := lw_g (lw_at lw_m2 234 rfl) rfl
theorem q582 : (Jvm.Cond.interfaceMethod "BrambleLogic$Literal" "BrambleLogic$Literal" "isPositive" "()Z") ∈ lw_tbl := lw_at lw_m2 235 rfl
theorem q583 : (Jvm.Cond.declares ({ cls := "BrambleLogic$Literal", name := "isPositive", desc := "()Z" } : Jvm.MethodName)) ∈ lw_tbl := lw_at lw_m2 236 rfl
theorem q590 : (Jvm.Cond.instanceMethod ({ cls := "BrambleLogic$Literal", name := "isPositive", desc := "()Z" } : Jvm.MethodName)) ∈ lw_all := lw_g (lw_at lw_m3 3 rfl) rfl
theorem q591 : (Jvm.Cond.publicMethod ({ cls := "BrambleLogic$Literal", name := "isPositive", desc := "()Z" } : Jvm.MethodName)) ∈ lw_tbl := lw_at lw_m3 4 rfl
theorem q592 : (Jvm.Cond.code ({ cls := "BrambleLogic$Literal", name := "isPositive", desc := "()Z" } : Jvm.MethodName) prog_16_method_4_code (1 : Nat) (Option.some Jvm.ClassFile.FieldType.boolean)) ∈ lw_all := lw_g (lw_at lw_m3 5 rfl) rfl
theorem q792 : (Jvm.Cond.interfaceMethod "BrambleLogic$Literal" "BrambleLogic$Literal" "holds" "(LBrambleLogic$Facts;[I)Z") ∈ lw_tbl := lw_at lw_m3 205 rfl
theorem q793 : (Jvm.Cond.declares ({ cls := "BrambleLogic$Literal", name := "holds", desc := "(LBrambleLogic$Facts;[I)Z" } : Jvm.MethodName)) ∈ lw_tbl := lw_at lw_m3 206 rfl
theorem q2459 : (Jvm.Cond.static ({ cls := "BrambleLogic$Literal", name := "masks", desc := "(Ljava/util/List;Z)I" } : Jvm.MethodName)) ∈ lw_all := lw_g (lw_at lw_m10 192 rfl) rfl
theorem q2460 : (Jvm.Cond.code ({ cls := "BrambleLogic$Literal", name := "masks", desc := "(Ljava/util/List;Z)I" } : Jvm.MethodName) prog_16_method_6_code (5 : Nat) (Option.some Jvm.ClassFile.FieldType.int)) ∈ lw_all := lw_g (lw_at lw_m10 193 rfl) rfl
theorem q2461 : (Jvm.Cond.interfaceEntry "BrambleLogic$Literal" (19 : Nat)) ∈ lw_tbl := lw_at lw_m10 194 rfl
theorem q2462 : (Jvm.Cond.methodLink "BrambleLogic$Literal" (19 : Nat) ({ cls := "java/util/List", name := "iterator", desc := "()Ljava/util/Iterator;" } : Jvm.MethodName)) ∈ lw_all := lw_g (lw_at lw_m10 195 rfl) rfl
theorem q2463 : (Jvm.Cond.interfaceEntry "BrambleLogic$Literal" (25 : Nat)) ∈ lw_tbl := lw_at lw_m10 196 rfl
theorem q2464 : (Jvm.Cond.methodLink "BrambleLogic$Literal" (25 : Nat) ({ cls := "java/util/Iterator", name := "hasNext", desc := "()Z" } : Jvm.MethodName)) ∈ lw_all := lw_g (lw_at lw_m10 197 rfl) rfl
theorem q2465 : (Jvm.Cond.interfaceEntry "BrambleLogic$Literal" (30 : Nat)) ∈ lw_tbl := lw_at lw_m10 198 rfl
theorem q2466 : (Jvm.Cond.methodLink "BrambleLogic$Literal" (30 : Nat) ({ cls := "java/util/Iterator", name := "next", desc := "()Ljava/lang/Object;" } : Jvm.MethodName)) ∈ lw_all := lw_g (lw_at lw_m10 199 rfl) rfl
theorem q2467 : (Jvm.Cond.classLink "BrambleLogic$Literal" (8 : Nat) "BrambleLogic$Literal") ∈ lw_all := lw_g (lw_at lw_m10 200 rfl) rfl
theorem q2468 : (Jvm.Cond.interfaceEntry "BrambleLogic$Literal" (34 : Nat)) ∈ lw_tbl := lw_at lw_m10 201 rfl
theorem q2469 : (Jvm.Cond.methodLink "BrambleLogic$Literal" (34 : Nat) ({ cls := "BrambleLogic$Literal", name := "mask", desc := "()I" } : Jvm.MethodName)) ∈ lw_all := lw_g (lw_at lw_m10 202 rfl) rfl
theorem q2470 : (Jvm.Cond.interfaceMethod "BrambleLogic$Literal" "BrambleLogic$Literal" "mask" "()I") ∈ lw_tbl := lw_at lw_m10 203 rfl
theorem q2471 : (Jvm.Cond.declares ({ cls := "BrambleLogic$Literal", name := "mask", desc := "()I" } : Jvm.MethodName)) ∈ lw_tbl := lw_at lw_m10 204 rfl
/-! BrambleLogic$RefusedException -/
set_option maxRecDepth 100000
def RX27 : String := "BrambleLogic$RefusedException"
def TX27 : u_T := fun k => match k with
  | 0 => ("java/lang/Throwable", "cause", "Ljava/lang/Throwable;", false)
  | 1 => ("java/lang/Throwable", "stackTrace", "[Ljava/lang/StackTraceElement;", false)
  | 2 => ("java/lang/Throwable", "suppressedExceptions", "Ljava/util/List;", false)
  | 3 => ("java/lang/Throwable", "detailMessage", "Ljava/lang/String;", false)
  | 4 => ("java/lang/Throwable", "backtrace", "Ljava/lang/Object;", false)
  | 5 => ("java/lang/Throwable", "depth", "I", false)
  | 6 => ("BrambleLogic$RefusedException", "reason", "I", true)
  | _ => ("BrambleLogic$RefusedException", "detail", "I", true)
def tyX27 : Nat → FieldType := fun k => match k with
  | 0 => .object "java/lang/Throwable"
  | 1 => .array (.object "java/lang/StackTraceElement")
  | 2 => .object "java/util/List"
  | 3 => .object "java/lang/String"
  | 4 => .object "java/lang/Object"
  | 5 => .int
  | 6 => .int
  | _ => .int
abbrev wsX270 : List Cond := u_ws RX27 TX27 8
theorem nmX27 : ∀ a, a < 8 → ∀ b, b < 8 → a ≠ b → (TX27 a).2.1 ≠ (TX27 b).2.1 := by decide +kernel
theorem tyX27_ok : ∀ k, k < 8 → parseFieldDescriptor (TX27 k).2.2.1 = some (tyX27 k) := by decide +kernel
abbrev cX27_init : ByteArray := prog_21_method_1_code
def yX27_init : MethodName := ⟨RX27, "<init>", "(II)V"⟩
def dkwX27_init_0 : List UInt8 := [42, 183, 0, 1, 42, 27, 181, 0, 7, 42, 28, 181, 0, 13, 177]
abbrev dktX27_init_0 : List UInt8 := dkwX27_init_0 ++ []
theorem dksX27_init_0 : cX27_init.data.toList.drop 0 = dktX27_init_0 := by decide +kernel
theorem dX27_init_0 : decode cX27_init 0 = .ok (.aload_n 0, 1) := dk_42 (dk_at dksX27_init_0 0 rfl rfl)
theorem dX27_init_1 : decode cX27_init 1 = .ok (.invokespecial 1, 3) := dk_183 0 1 (dk_at dksX27_init_0 1 rfl rfl)
theorem dX27_init_4 : decode cX27_init 4 = .ok (.aload_n 0, 1) := dk_42 (dk_at dksX27_init_0 4 rfl rfl)
theorem dX27_init_5 : decode cX27_init 5 = .ok (.iload_n 1, 1) := dk_27 (dk_at dksX27_init_0 5 rfl rfl)
theorem dX27_init_6 : decode cX27_init 6 = .ok (.putfield 7, 3) := dk_181 0 7 (dk_at dksX27_init_0 6 rfl rfl)
theorem dX27_init_9 : decode cX27_init 9 = .ok (.aload_n 0, 1) := dk_42 (dk_at dksX27_init_0 9 rfl rfl)
theorem dX27_init_10 : decode cX27_init 10 = .ok (.iload_n 2, 1) := dk_28 (dk_at dksX27_init_0 10 rfl rfl)
theorem dX27_init_11 : decode cX27_init 11 = .ok (.putfield 13, 3) := dk_181 0 13 (dk_at dksX27_init_0 11 rfl rfl)
theorem dX27_init_14 : decode cX27_init 14 = .ok (.return_, 1) := dk_177 (dk_at dksX27_init_0 14 rfl rfl)
theorem q166 : (Jvm.Cond.initialized "BrambleLogic$RefusedException") ∈ lw_all := lw_g (lw_at lw_m1 59 rfl) rfl
theorem q466 : (Jvm.Cond.selects "BrambleLogic$RefusedException" ({ cls := "java/lang/Throwable", name := "fillInStackTrace", desc := "()Ljava/lang/Throwable;" } : Jvm.MethodName) ({ cls := "java/lang/Throwable", name := "fillInStackTrace", desc := "()Ljava/lang/Throwable;" } : Jvm.MethodName)) ∈ lw_all := lw_g (lw_at lw_m2 119 rfl) rfl
theorem q711 : (Jvm.Cond.selects "BrambleLogic$RefusedException" ({ cls := "java/lang/Object", name := "getClass", desc := "()Ljava/lang/Class;" } : Jvm.MethodName) ({ cls := "java/lang/Object", name := "getClass", desc := "()Ljava/lang/Class;" } : Jvm.MethodName)) ∈ lw_all := lw_g (lw_at lw_m3 124 rfl) rfl
theorem q2621 : (Jvm.Cond.instantiable "BrambleLogic$RefusedException" (8 : Nat)) ∈ lw_all := lw_g (lw_at lw_m11 114 rfl) rfl
theorem q2622 : (Jvm.Cond.castable "BrambleLogic$RefusedException" "BrambleLogic$RefusedException") ∈ lw_tbl := lw_at lw_m11 115 rfl
theorem q2623 : (Jvm.Cond.selects "BrambleLogic$RefusedException" ({ cls := "java/lang/Throwable", name := "fillInStackTrace", desc := "(I)Ljava/lang/Throwable;" } : Jvm.MethodName) ({ cls := "java/lang/Throwable", name := "fillInStackTrace", desc := "(I)Ljava/lang/Throwable;" } : Jvm.MethodName)) ∈ lw_all := lw_g (lw_at lw_m11 116 rfl) rfl
theorem q2624 : (Jvm.Cond.lays "BrambleLogic$RefusedException" "java/lang/Throwable" "cause" "Ljava/lang/Throwable;") ∈ lw_all := lw_g (lw_at lw_m11 117 rfl) rfl
theorem q2625 : (Jvm.Cond.lays "BrambleLogic$RefusedException" "java/lang/Throwable" "stackTrace" "[Ljava/lang/StackTraceElement;") ∈ lw_all := lw_g (lw_at lw_m11 118 rfl) rfl
theorem q2626 : (Jvm.Cond.lays "BrambleLogic$RefusedException" "java/lang/Throwable" "suppressedExceptions" "Ljava/util/List;") ∈ lw_all := lw_g (lw_at lw_m11 119 rfl) rfl
theorem q2627 : (Jvm.Cond.lays "BrambleLogic$RefusedException" "java/lang/Throwable" "detailMessage" "Ljava/lang/String;") ∈ lw_all := lw_g (lw_at lw_m11 120 rfl) rfl
theorem q2628 : (Jvm.Cond.lays "BrambleLogic$RefusedException" "java/lang/Throwable" "backtrace" "Ljava/lang/Object;") ∈ lw_all := lw_g (lw_at lw_m11 121 rfl) rfl
theorem q2630 : (Jvm.Cond.instanceMethod ({ cls := "BrambleLogic$RefusedException", name := "<init>", desc := "(II)V" } : Jvm.MethodName)) ∈ lw_all := lw_g (lw_at lw_m11 123 rfl) rfl
theorem q2631 : (Jvm.Cond.code ({ cls := "BrambleLogic$RefusedException", name := "<init>", desc := "(II)V" } : Jvm.MethodName) prog_21_method_1_code (3 : Nat) (Option.none : Option Jvm.ClassFile.FieldType)) ∈ lw_all := lw_g (lw_at lw_m11 124 rfl) rfl
theorem q2632 : (Jvm.Cond.methodLink "BrambleLogic$RefusedException" (1 : Nat) ({ cls := "java/lang/Exception", name := "<init>", desc := "()V" } : Jvm.MethodName)) ∈ lw_all := lw_g (lw_at lw_m11 125 rfl) rfl
theorem q2633 : (Jvm.Cond.fieldLink "BrambleLogic$RefusedException" (7 : Nat) "BrambleLogic$RefusedException" "reason" "I") ∈ lw_all := lw_g (lw_at lw_m11 126 rfl) rfl
theorem q2635 : (Jvm.Cond.fieldLink "BrambleLogic$RefusedException" (13 : Nat) "BrambleLogic$RefusedException" "detail" "I") ∈ lw_all := lw_g (lw_at lw_m11 128 rfl) rfl
theorem q2637 : (Jvm.Cond.laysFinal "BrambleLogic$RefusedException" "BrambleLogic$RefusedException" "reason" "I") ∈ lw_all := lw_g (lw_at lw_m11 130 rfl) rfl
theorem q2638 : (Jvm.Cond.soleField "BrambleLogic$RefusedException" "reason") ∈ lw_all := lw_g (lw_at lw_m11 131 rfl) rfl
theorem q2639 : (Jvm.Cond.laysFinal "BrambleLogic$RefusedException" "BrambleLogic$RefusedException" "detail" "I") ∈ lw_all := lw_g (lw_at lw_m11 132 rfl) rfl
theorem q2640 : (Jvm.Cond.soleField "BrambleLogic$RefusedException" "detail") ∈ lw_all := lw_g (lw_at lw_m11 133 rfl) rfl
theorem q2641 : (Jvm.Cond.lays "BrambleLogic$RefusedException" "java/lang/Throwable" "depth" "I") ∈ lw_all := lw_g (lw_at lw_m11 134 rfl) rfl
theorem q2642 : (Jvm.Cond.superclass "BrambleLogic$RefusedException" "java/lang/Exception") ∈ lw_all := lw_g (lw_at lw_m11 135 rfl) rfl
theorem q3404 : (Jvm.Cond.castable "BrambleLogic$RefusedException" "java/lang/Object") ∈ lw_tbl := lw_at lw_m14 177 rfl
theorem in_X27 : ∀ w ∈ wsX270, w ∈ lw_all := lw_in wsX270 [2624, 2625, 2626, 2627, 2628, 2641, 2637, 2639] (by decide +kernel) (by decide +kernel)
