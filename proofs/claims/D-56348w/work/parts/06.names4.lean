/-! BrambleLogicLaw -/
set_option maxRecDepth 100000
def RX0 : String := "BrambleLogicLaw"
abbrev cX0_addFact : ByteArray := method_3_code
def yX0_addFact : MethodName := ⟨RX0, "addFact", "(LBrambleLogic;CII[J)I"⟩
def dkwX0_addFact_1 : List UInt8 := [58, 5, 6, 172, 3, 172]
abbrev dktX0_addFact_1 : List UInt8 := dkwX0_addFact_1 ++ []
def dkwX0_addFact_0 : List UInt8 := [25, 4, 3, 42, 27, 28, 29, 182, 0, 7, 133, 80, 167, 0, 15, 58, 5, 4, 172, 58, 5, 5, 172]
abbrev dktX0_addFact_0 : List UInt8 := dkwX0_addFact_0 ++ dktX0_addFact_1
theorem dksX0_addFact_0 : cX0_addFact.data.toList.drop 0 = dktX0_addFact_0 := by decide +kernel
theorem dksX0_addFact_1 : cX0_addFact.data.toList.drop 23 = dktX0_addFact_1 := dk_seg dksX0_addFact_0 23 rfl rfl
theorem dX0_addFact_0 : decode cX0_addFact 0 = .ok (.aload 4, 2) := dk_25 4 (dk_at dksX0_addFact_0 0 rfl rfl)
theorem dX0_addFact_2 : decode cX0_addFact 2 = .ok (.iconst 0, 1) := dk_3 (dk_at dksX0_addFact_0 2 rfl rfl)
theorem dX0_addFact_3 : decode cX0_addFact 3 = .ok (.aload_n 0, 1) := dk_42 (dk_at dksX0_addFact_0 3 rfl rfl)
theorem dX0_addFact_4 : decode cX0_addFact 4 = .ok (.iload_n 1, 1) := dk_27 (dk_at dksX0_addFact_0 4 rfl rfl)
theorem dX0_addFact_5 : decode cX0_addFact 5 = .ok (.iload_n 2, 1) := dk_28 (dk_at dksX0_addFact_0 5 rfl rfl)
theorem dX0_addFact_6 : decode cX0_addFact 6 = .ok (.iload_n 3, 1) := dk_29 (dk_at dksX0_addFact_0 6 rfl rfl)
theorem dX0_addFact_7 : decode cX0_addFact 7 = .ok (.invokevirtual 7, 3) := dk_182 0 7 (dk_at dksX0_addFact_0 7 rfl rfl)
theorem dX0_addFact_10 : decode cX0_addFact 10 = .ok (.i2l, 1) := dk_133 (dk_at dksX0_addFact_0 10 rfl rfl)
theorem dX0_addFact_11 : decode cX0_addFact 11 = .ok (.lastore, 1) := dk_80 (dk_at dksX0_addFact_0 11 rfl rfl)
theorem dX0_addFact_12 : decode cX0_addFact 12 = .ok (.goto 15, 3) := dk_167 0 15 (dk_at dksX0_addFact_0 12 rfl rfl)
theorem dX0_addFact_15 : decode cX0_addFact 15 = .ok (.astore 5, 2) := dk_58 5 (dk_at dksX0_addFact_0 15 rfl rfl)
theorem dX0_addFact_17 : decode cX0_addFact 17 = .ok (.iconst 1, 1) := dk_4 (dk_at dksX0_addFact_0 17 rfl rfl)
theorem dX0_addFact_18 : decode cX0_addFact 18 = .ok (.ireturn, 1) := dk_172 (dk_at dksX0_addFact_0 18 rfl rfl)
theorem dX0_addFact_19 : decode cX0_addFact 19 = .ok (.astore 5, 2) := dk_58 5 (dk_at dksX0_addFact_0 19 rfl rfl)
theorem dX0_addFact_21 : decode cX0_addFact 21 = .ok (.iconst 2, 1) := dk_5 (dk_at dksX0_addFact_0 21 rfl rfl)
theorem dX0_addFact_22 : decode cX0_addFact 22 = .ok (.ireturn, 1) := dk_172 (dk_at dksX0_addFact_0 22 rfl rfl)
theorem dX0_addFact_23 : decode cX0_addFact 23 = .ok (.astore 5, 2) := dk_58 5 (dk_at dksX0_addFact_1 0 rfl rfl)
theorem dX0_addFact_25 : decode cX0_addFact 25 = .ok (.iconst 3, 1) := dk_6 (dk_at dksX0_addFact_1 2 rfl rfl)
theorem dX0_addFact_26 : decode cX0_addFact 26 = .ok (.ireturn, 1) := dk_172 (dk_at dksX0_addFact_1 3 rfl rfl)
theorem dX0_addFact_27 : decode cX0_addFact 27 = .ok (.iconst 0, 1) := dk_3 (dk_at dksX0_addFact_1 4 rfl rfl)
theorem dX0_addFact_28 : decode cX0_addFact 28 = .ok (.ireturn, 1) := dk_172 (dk_at dksX0_addFact_1 5 rfl rfl)
abbrev cX0_takeFact : ByteArray := method_4_code
def yX0_takeFact : MethodName := ⟨RX0, "takeFact", "(LBrambleLogic;CII[J)I"⟩
def dkwX0_takeFact_1 : List UInt8 := [172]
abbrev dktX0_takeFact_1 : List UInt8 := dkwX0_takeFact_1 ++ []
def dkwX0_takeFact_0 : List UInt8 := [25, 4, 3, 42, 27, 28, 29, 182, 0, 19, 133, 80, 167, 0, 11, 58, 5, 4, 172, 58, 5, 5, 172, 3]
abbrev dktX0_takeFact_0 : List UInt8 := dkwX0_takeFact_0 ++ dktX0_takeFact_1
theorem dksX0_takeFact_0 : cX0_takeFact.data.toList.drop 0 = dktX0_takeFact_0 := by decide +kernel
theorem dksX0_takeFact_1 : cX0_takeFact.data.toList.drop 24 = dktX0_takeFact_1 := dk_seg dksX0_takeFact_0 24 rfl rfl
theorem dX0_takeFact_0 : decode cX0_takeFact 0 = .ok (.aload 4, 2) := dk_25 4 (dk_at dksX0_takeFact_0 0 rfl rfl)
theorem dX0_takeFact_2 : decode cX0_takeFact 2 = .ok (.iconst 0, 1) := dk_3 (dk_at dksX0_takeFact_0 2 rfl rfl)
theorem dX0_takeFact_3 : decode cX0_takeFact 3 = .ok (.aload_n 0, 1) := dk_42 (dk_at dksX0_takeFact_0 3 rfl rfl)
theorem dX0_takeFact_4 : decode cX0_takeFact 4 = .ok (.iload_n 1, 1) := dk_27 (dk_at dksX0_takeFact_0 4 rfl rfl)
theorem dX0_takeFact_5 : decode cX0_takeFact 5 = .ok (.iload_n 2, 1) := dk_28 (dk_at dksX0_takeFact_0 5 rfl rfl)
theorem dX0_takeFact_6 : decode cX0_takeFact 6 = .ok (.iload_n 3, 1) := dk_29 (dk_at dksX0_takeFact_0 6 rfl rfl)
theorem dX0_takeFact_7 : decode cX0_takeFact 7 = .ok (.invokevirtual 19, 3) := dk_182 0 19 (dk_at dksX0_takeFact_0 7 rfl rfl)
theorem dX0_takeFact_10 : decode cX0_takeFact 10 = .ok (.i2l, 1) := dk_133 (dk_at dksX0_takeFact_0 10 rfl rfl)
theorem dX0_takeFact_11 : decode cX0_takeFact 11 = .ok (.lastore, 1) := dk_80 (dk_at dksX0_takeFact_0 11 rfl rfl)
theorem dX0_takeFact_12 : decode cX0_takeFact 12 = .ok (.goto 11, 3) := dk_167 0 11 (dk_at dksX0_takeFact_0 12 rfl rfl)
theorem dX0_takeFact_15 : decode cX0_takeFact 15 = .ok (.astore 5, 2) := dk_58 5 (dk_at dksX0_takeFact_0 15 rfl rfl)
theorem dX0_takeFact_17 : decode cX0_takeFact 17 = .ok (.iconst 1, 1) := dk_4 (dk_at dksX0_takeFact_0 17 rfl rfl)
theorem dX0_takeFact_18 : decode cX0_takeFact 18 = .ok (.ireturn, 1) := dk_172 (dk_at dksX0_takeFact_0 18 rfl rfl)
theorem dX0_takeFact_19 : decode cX0_takeFact 19 = .ok (.astore 5, 2) := dk_58 5 (dk_at dksX0_takeFact_0 19 rfl rfl)
theorem dX0_takeFact_21 : decode cX0_takeFact 21 = .ok (.iconst 2, 1) := dk_5 (dk_at dksX0_takeFact_0 21 rfl rfl)
theorem dX0_takeFact_22 : decode cX0_takeFact 22 = .ok (.ireturn, 1) := dk_172 (dk_at dksX0_takeFact_0 22 rfl rfl)
theorem dX0_takeFact_23 : decode cX0_takeFact 23 = .ok (.iconst 0, 1) := dk_3 (dk_at dksX0_takeFact_0 23 rfl rfl)
theorem dX0_takeFact_24 : decode cX0_takeFact 24 = .ok (.ireturn, 1) := dk_172 (dk_at dksX0_takeFact_1 0 rfl rfl)
abbrev cX0_dropRule : ByteArray := method_5_code
def yX0_dropRule : MethodName := ⟨RX0, "dropRule", "(LBrambleLogic;I[J)I"⟩
def dkwX0_dropRule_0 : List UInt8 := [44, 3, 42, 27, 182, 0, 24, 133, 80, 167, 0, 6, 78, 4, 172, 3, 172]
abbrev dktX0_dropRule_0 : List UInt8 := dkwX0_dropRule_0 ++ []
theorem dksX0_dropRule_0 : cX0_dropRule.data.toList.drop 0 = dktX0_dropRule_0 := by decide +kernel
theorem dX0_dropRule_0 : decode cX0_dropRule 0 = .ok (.aload_n 2, 1) := dk_44 (dk_at dksX0_dropRule_0 0 rfl rfl)
theorem dX0_dropRule_1 : decode cX0_dropRule 1 = .ok (.iconst 0, 1) := dk_3 (dk_at dksX0_dropRule_0 1 rfl rfl)
theorem dX0_dropRule_2 : decode cX0_dropRule 2 = .ok (.aload_n 0, 1) := dk_42 (dk_at dksX0_dropRule_0 2 rfl rfl)
theorem dX0_dropRule_3 : decode cX0_dropRule 3 = .ok (.iload_n 1, 1) := dk_27 (dk_at dksX0_dropRule_0 3 rfl rfl)
theorem dX0_dropRule_4 : decode cX0_dropRule 4 = .ok (.invokevirtual 24, 3) := dk_182 0 24 (dk_at dksX0_dropRule_0 4 rfl rfl)
theorem dX0_dropRule_7 : decode cX0_dropRule 7 = .ok (.i2l, 1) := dk_133 (dk_at dksX0_dropRule_0 7 rfl rfl)
theorem dX0_dropRule_8 : decode cX0_dropRule 8 = .ok (.lastore, 1) := dk_80 (dk_at dksX0_dropRule_0 8 rfl rfl)
theorem dX0_dropRule_9 : decode cX0_dropRule 9 = .ok (.goto 6, 3) := dk_167 0 6 (dk_at dksX0_dropRule_0 9 rfl rfl)
theorem dX0_dropRule_12 : decode cX0_dropRule 12 = .ok (.astore_n 3, 1) := dk_78 (dk_at dksX0_dropRule_0 12 rfl rfl)
theorem dX0_dropRule_13 : decode cX0_dropRule 13 = .ok (.iconst 1, 1) := dk_4 (dk_at dksX0_dropRule_0 13 rfl rfl)
theorem dX0_dropRule_14 : decode cX0_dropRule 14 = .ok (.ireturn, 1) := dk_172 (dk_at dksX0_dropRule_0 14 rfl rfl)
theorem dX0_dropRule_15 : decode cX0_dropRule 15 = .ok (.iconst 0, 1) := dk_3 (dk_at dksX0_dropRule_0 15 rfl rfl)
theorem dX0_dropRule_16 : decode cX0_dropRule 16 = .ok (.ireturn, 1) := dk_172 (dk_at dksX0_dropRule_0 16 rfl rfl)
abbrev cX0_isGiven : ByteArray := method_6_code
def yX0_isGiven : MethodName := ⟨RX0, "isGiven", "(LBrambleLogic;CII[J)I"⟩
def dkwX0_isGiven_1 : List UInt8 := [4, 172, 3, 172]
abbrev dktX0_isGiven_1 : List UInt8 := dkwX0_isGiven_1 ++ []
def dkwX0_isGiven_0 : List UInt8 := [25, 4, 3, 42, 27, 28, 29, 182, 0, 30, 153, 0, 7, 10, 167, 0, 4, 9, 80, 167, 0, 7, 58, 5]
abbrev dktX0_isGiven_0 : List UInt8 := dkwX0_isGiven_0 ++ dktX0_isGiven_1
theorem dksX0_isGiven_0 : cX0_isGiven.data.toList.drop 0 = dktX0_isGiven_0 := by decide +kernel
theorem dksX0_isGiven_1 : cX0_isGiven.data.toList.drop 24 = dktX0_isGiven_1 := dk_seg dksX0_isGiven_0 24 rfl rfl
theorem dX0_isGiven_0 : decode cX0_isGiven 0 = .ok (.aload 4, 2) := dk_25 4 (dk_at dksX0_isGiven_0 0 rfl rfl)
theorem dX0_isGiven_2 : decode cX0_isGiven 2 = .ok (.iconst 0, 1) := dk_3 (dk_at dksX0_isGiven_0 2 rfl rfl)
theorem dX0_isGiven_3 : decode cX0_isGiven 3 = .ok (.aload_n 0, 1) := dk_42 (dk_at dksX0_isGiven_0 3 rfl rfl)
theorem dX0_isGiven_4 : decode cX0_isGiven 4 = .ok (.iload_n 1, 1) := dk_27 (dk_at dksX0_isGiven_0 4 rfl rfl)
theorem dX0_isGiven_5 : decode cX0_isGiven 5 = .ok (.iload_n 2, 1) := dk_28 (dk_at dksX0_isGiven_0 5 rfl rfl)
theorem dX0_isGiven_6 : decode cX0_isGiven 6 = .ok (.iload_n 3, 1) := dk_29 (dk_at dksX0_isGiven_0 6 rfl rfl)
theorem dX0_isGiven_7 : decode cX0_isGiven 7 = .ok (.invokevirtual 30, 3) := dk_182 0 30 (dk_at dksX0_isGiven_0 7 rfl rfl)
theorem dX0_isGiven_10 : decode cX0_isGiven 10 = .ok (.ifCond .eq 7, 3) := dk_153 0 7 (dk_at dksX0_isGiven_0 10 rfl rfl)
theorem dX0_isGiven_13 : decode cX0_isGiven 13 = .ok (.lconst 1, 1) := dk_10 (dk_at dksX0_isGiven_0 13 rfl rfl)
theorem dX0_isGiven_14 : decode cX0_isGiven 14 = .ok (.goto 4, 3) := dk_167 0 4 (dk_at dksX0_isGiven_0 14 rfl rfl)
theorem dX0_isGiven_17 : decode cX0_isGiven 17 = .ok (.lconst 0, 1) := dk_9 (dk_at dksX0_isGiven_0 17 rfl rfl)
theorem dX0_isGiven_18 : decode cX0_isGiven 18 = .ok (.lastore, 1) := dk_80 (dk_at dksX0_isGiven_0 18 rfl rfl)
theorem dX0_isGiven_19 : decode cX0_isGiven 19 = .ok (.goto 7, 3) := dk_167 0 7 (dk_at dksX0_isGiven_0 19 rfl rfl)
theorem dX0_isGiven_22 : decode cX0_isGiven 22 = .ok (.astore 5, 2) := dk_58 5 (dk_at dksX0_isGiven_0 22 rfl rfl)
theorem dX0_isGiven_24 : decode cX0_isGiven 24 = .ok (.iconst 1, 1) := dk_4 (dk_at dksX0_isGiven_1 0 rfl rfl)
theorem dX0_isGiven_25 : decode cX0_isGiven 25 = .ok (.ireturn, 1) := dk_172 (dk_at dksX0_isGiven_1 1 rfl rfl)
theorem dX0_isGiven_26 : decode cX0_isGiven 26 = .ok (.iconst 0, 1) := dk_3 (dk_at dksX0_isGiven_1 2 rfl rfl)
theorem dX0_isGiven_27 : decode cX0_isGiven 27 = .ok (.ireturn, 1) := dk_172 (dk_at dksX0_isGiven_1 3 rfl rfl)
abbrev cX0_isTrue : ByteArray := method_7_code
def yX0_isTrue : MethodName := ⟨RX0, "isTrue", "(LBrambleLogic;CII[J)I"⟩
def dkwX0_isTrue_1 : List UInt8 := [4, 172, 3, 172]
abbrev dktX0_isTrue_1 : List UInt8 := dkwX0_isTrue_1 ++ []
def dkwX0_isTrue_0 : List UInt8 := [25, 4, 3, 42, 27, 28, 29, 182, 0, 34, 153, 0, 7, 10, 167, 0, 4, 9, 80, 167, 0, 7, 58, 5]
abbrev dktX0_isTrue_0 : List UInt8 := dkwX0_isTrue_0 ++ dktX0_isTrue_1
theorem dksX0_isTrue_0 : cX0_isTrue.data.toList.drop 0 = dktX0_isTrue_0 := by decide +kernel
theorem dksX0_isTrue_1 : cX0_isTrue.data.toList.drop 24 = dktX0_isTrue_1 := dk_seg dksX0_isTrue_0 24 rfl rfl
theorem dX0_isTrue_0 : decode cX0_isTrue 0 = .ok (.aload 4, 2) := dk_25 4 (dk_at dksX0_isTrue_0 0 rfl rfl)
theorem dX0_isTrue_2 : decode cX0_isTrue 2 = .ok (.iconst 0, 1) := dk_3 (dk_at dksX0_isTrue_0 2 rfl rfl)
theorem dX0_isTrue_3 : decode cX0_isTrue 3 = .ok (.aload_n 0, 1) := dk_42 (dk_at dksX0_isTrue_0 3 rfl rfl)
theorem dX0_isTrue_4 : decode cX0_isTrue 4 = .ok (.iload_n 1, 1) := dk_27 (dk_at dksX0_isTrue_0 4 rfl rfl)
theorem dX0_isTrue_5 : decode cX0_isTrue 5 = .ok (.iload_n 2, 1) := dk_28 (dk_at dksX0_isTrue_0 5 rfl rfl)
theorem dX0_isTrue_6 : decode cX0_isTrue 6 = .ok (.iload_n 3, 1) := dk_29 (dk_at dksX0_isTrue_0 6 rfl rfl)
theorem dX0_isTrue_7 : decode cX0_isTrue 7 = .ok (.invokevirtual 34, 3) := dk_182 0 34 (dk_at dksX0_isTrue_0 7 rfl rfl)
theorem dX0_isTrue_10 : decode cX0_isTrue 10 = .ok (.ifCond .eq 7, 3) := dk_153 0 7 (dk_at dksX0_isTrue_0 10 rfl rfl)
theorem dX0_isTrue_13 : decode cX0_isTrue 13 = .ok (.lconst 1, 1) := dk_10 (dk_at dksX0_isTrue_0 13 rfl rfl)
theorem dX0_isTrue_14 : decode cX0_isTrue 14 = .ok (.goto 4, 3) := dk_167 0 4 (dk_at dksX0_isTrue_0 14 rfl rfl)
theorem dX0_isTrue_17 : decode cX0_isTrue 17 = .ok (.lconst 0, 1) := dk_9 (dk_at dksX0_isTrue_0 17 rfl rfl)
theorem dX0_isTrue_18 : decode cX0_isTrue 18 = .ok (.lastore, 1) := dk_80 (dk_at dksX0_isTrue_0 18 rfl rfl)
theorem dX0_isTrue_19 : decode cX0_isTrue 19 = .ok (.goto 7, 3) := dk_167 0 7 (dk_at dksX0_isTrue_0 19 rfl rfl)
theorem dX0_isTrue_22 : decode cX0_isTrue 22 = .ok (.astore 5, 2) := dk_58 5 (dk_at dksX0_isTrue_0 22 rfl rfl)
theorem dX0_isTrue_24 : decode cX0_isTrue 24 = .ok (.iconst 1, 1) := dk_4 (dk_at dksX0_isTrue_1 0 rfl rfl)
theorem dX0_isTrue_25 : decode cX0_isTrue 25 = .ok (.ireturn, 1) := dk_172 (dk_at dksX0_isTrue_1 1 rfl rfl)
theorem dX0_isTrue_26 : decode cX0_isTrue 26 = .ok (.iconst 0, 1) := dk_3 (dk_at dksX0_isTrue_1 2 rfl rfl)
theorem dX0_isTrue_27 : decode cX0_isTrue 27 = .ok (.ireturn, 1) := dk_172 (dk_at dksX0_isTrue_1 3 rfl rfl)
abbrev cX0_isTrueByTrying : ByteArray := method_8_code
def yX0_isTrueByTrying : MethodName := ⟨RX0, "isTrueByTrying", "(LBrambleLogic;CII[J)I"⟩
def dkwX0_isTrueByTrying_1 : List UInt8 := [4, 172, 3, 172]
abbrev dktX0_isTrueByTrying_1 : List UInt8 := dkwX0_isTrueByTrying_1 ++ []
def dkwX0_isTrueByTrying_0 : List UInt8 := [25, 4, 3, 42, 27, 28, 29, 182, 0, 37, 153, 0, 7, 10, 167, 0, 4, 9, 80, 167, 0, 7, 58, 5]
abbrev dktX0_isTrueByTrying_0 : List UInt8 := dkwX0_isTrueByTrying_0 ++ dktX0_isTrueByTrying_1
theorem dksX0_isTrueByTrying_0 : cX0_isTrueByTrying.data.toList.drop 0 = dktX0_isTrueByTrying_0 := by decide +kernel
theorem dksX0_isTrueByTrying_1 : cX0_isTrueByTrying.data.toList.drop 24 = dktX0_isTrueByTrying_1 := dk_seg dksX0_isTrueByTrying_0 24 rfl rfl
theorem dX0_isTrueByTrying_0 : decode cX0_isTrueByTrying 0 = .ok (.aload 4, 2) := dk_25 4 (dk_at dksX0_isTrueByTrying_0 0 rfl rfl)
theorem dX0_isTrueByTrying_2 : decode cX0_isTrueByTrying 2 = .ok (.iconst 0, 1) := dk_3 (dk_at dksX0_isTrueByTrying_0 2 rfl rfl)
theorem dX0_isTrueByTrying_3 : decode cX0_isTrueByTrying 3 = .ok (.aload_n 0, 1) := dk_42 (dk_at dksX0_isTrueByTrying_0 3 rfl rfl)
theorem dX0_isTrueByTrying_4 : decode cX0_isTrueByTrying 4 = .ok (.iload_n 1, 1) := dk_27 (dk_at dksX0_isTrueByTrying_0 4 rfl rfl)
theorem dX0_isTrueByTrying_5 : decode cX0_isTrueByTrying 5 = .ok (.iload_n 2, 1) := dk_28 (dk_at dksX0_isTrueByTrying_0 5 rfl rfl)
theorem dX0_isTrueByTrying_6 : decode cX0_isTrueByTrying 6 = .ok (.iload_n 3, 1) := dk_29 (dk_at dksX0_isTrueByTrying_0 6 rfl rfl)
theorem dX0_isTrueByTrying_7 : decode cX0_isTrueByTrying 7 = .ok (.invokevirtual 37, 3) := dk_182 0 37 (dk_at dksX0_isTrueByTrying_0 7 rfl rfl)
theorem dX0_isTrueByTrying_10 : decode cX0_isTrueByTrying 10 = .ok (.ifCond .eq 7, 3) := dk_153 0 7 (dk_at dksX0_isTrueByTrying_0 10 rfl rfl)
theorem dX0_isTrueByTrying_13 : decode cX0_isTrueByTrying 13 = .ok (.lconst 1, 1) := dk_10 (dk_at dksX0_isTrueByTrying_0 13 rfl rfl)
theorem dX0_isTrueByTrying_14 : decode cX0_isTrueByTrying 14 = .ok (.goto 4, 3) := dk_167 0 4 (dk_at dksX0_isTrueByTrying_0 14 rfl rfl)
theorem dX0_isTrueByTrying_17 : decode cX0_isTrueByTrying 17 = .ok (.lconst 0, 1) := dk_9 (dk_at dksX0_isTrueByTrying_0 17 rfl rfl)
theorem dX0_isTrueByTrying_18 : decode cX0_isTrueByTrying 18 = .ok (.lastore, 1) := dk_80 (dk_at dksX0_isTrueByTrying_0 18 rfl rfl)
theorem dX0_isTrueByTrying_19 : decode cX0_isTrueByTrying 19 = .ok (.goto 7, 3) := dk_167 0 7 (dk_at dksX0_isTrueByTrying_0 19 rfl rfl)
theorem dX0_isTrueByTrying_22 : decode cX0_isTrueByTrying 22 = .ok (.astore 5, 2) := dk_58 5 (dk_at dksX0_isTrueByTrying_0 22 rfl rfl)
theorem dX0_isTrueByTrying_24 : decode cX0_isTrueByTrying 24 = .ok (.iconst 1, 1) := dk_4 (dk_at dksX0_isTrueByTrying_1 0 rfl rfl)
theorem dX0_isTrueByTrying_25 : decode cX0_isTrueByTrying 25 = .ok (.ireturn, 1) := dk_172 (dk_at dksX0_isTrueByTrying_1 1 rfl rfl)
theorem dX0_isTrueByTrying_26 : decode cX0_isTrueByTrying 26 = .ok (.iconst 0, 1) := dk_3 (dk_at dksX0_isTrueByTrying_1 2 rfl rfl)
theorem dX0_isTrueByTrying_27 : decode cX0_isTrueByTrying 27 = .ok (.ireturn, 1) := dk_172 (dk_at dksX0_isTrueByTrying_1 3 rfl rfl)
abbrev cX0_trueCount : ByteArray := method_9_code
def yX0_trueCount : MethodName := ⟨RX0, "trueCount", "(LBrambleLogic;C[J)I"⟩
def dkwX0_trueCount_0 : List UInt8 := [44, 3, 42, 27, 182, 0, 40, 133, 80, 167, 0, 6, 78, 4, 172, 3, 172]
abbrev dktX0_trueCount_0 : List UInt8 := dkwX0_trueCount_0 ++ []
theorem dksX0_trueCount_0 : cX0_trueCount.data.toList.drop 0 = dktX0_trueCount_0 := by decide +kernel
theorem dX0_trueCount_0 : decode cX0_trueCount 0 = .ok (.aload_n 2, 1) := dk_44 (dk_at dksX0_trueCount_0 0 rfl rfl)
theorem dX0_trueCount_1 : decode cX0_trueCount 1 = .ok (.iconst 0, 1) := dk_3 (dk_at dksX0_trueCount_0 1 rfl rfl)
theorem dX0_trueCount_2 : decode cX0_trueCount 2 = .ok (.aload_n 0, 1) := dk_42 (dk_at dksX0_trueCount_0 2 rfl rfl)
theorem dX0_trueCount_3 : decode cX0_trueCount 3 = .ok (.iload_n 1, 1) := dk_27 (dk_at dksX0_trueCount_0 3 rfl rfl)
theorem dX0_trueCount_4 : decode cX0_trueCount 4 = .ok (.invokevirtual 40, 3) := dk_182 0 40 (dk_at dksX0_trueCount_0 4 rfl rfl)
theorem dX0_trueCount_7 : decode cX0_trueCount 7 = .ok (.i2l, 1) := dk_133 (dk_at dksX0_trueCount_0 7 rfl rfl)
theorem dX0_trueCount_8 : decode cX0_trueCount 8 = .ok (.lastore, 1) := dk_80 (dk_at dksX0_trueCount_0 8 rfl rfl)
theorem dX0_trueCount_9 : decode cX0_trueCount 9 = .ok (.goto 6, 3) := dk_167 0 6 (dk_at dksX0_trueCount_0 9 rfl rfl)
theorem dX0_trueCount_12 : decode cX0_trueCount 12 = .ok (.astore_n 3, 1) := dk_78 (dk_at dksX0_trueCount_0 12 rfl rfl)
theorem dX0_trueCount_13 : decode cX0_trueCount 13 = .ok (.iconst 1, 1) := dk_4 (dk_at dksX0_trueCount_0 13 rfl rfl)
theorem dX0_trueCount_14 : decode cX0_trueCount 14 = .ok (.ireturn, 1) := dk_172 (dk_at dksX0_trueCount_0 14 rfl rfl)
theorem dX0_trueCount_15 : decode cX0_trueCount 15 = .ok (.iconst 0, 1) := dk_3 (dk_at dksX0_trueCount_0 15 rfl rfl)
theorem dX0_trueCount_16 : decode cX0_trueCount 16 = .ok (.ireturn, 1) := dk_172 (dk_at dksX0_trueCount_0 16 rfl rfl)
abbrev cX0_gainedWithout : ByteArray := method_10_code
def yX0_gainedWithout : MethodName := ⟨RX0, "gainedWithout", "(LBrambleLogic;CII[J)I"⟩
def dkwX0_gainedWithout_1 : List UInt8 := [172]
abbrev dktX0_gainedWithout_1 : List UInt8 := dkwX0_gainedWithout_1 ++ []
def dkwX0_gainedWithout_0 : List UInt8 := [25, 4, 3, 42, 27, 28, 29, 182, 0, 44, 133, 80, 167, 0, 11, 58, 5, 4, 172, 58, 5, 5, 172, 3]
abbrev dktX0_gainedWithout_0 : List UInt8 := dkwX0_gainedWithout_0 ++ dktX0_gainedWithout_1
theorem dksX0_gainedWithout_0 : cX0_gainedWithout.data.toList.drop 0 = dktX0_gainedWithout_0 := by decide +kernel
theorem dksX0_gainedWithout_1 : cX0_gainedWithout.data.toList.drop 24 = dktX0_gainedWithout_1 := dk_seg dksX0_gainedWithout_0 24 rfl rfl
theorem dX0_gainedWithout_0 : decode cX0_gainedWithout 0 = .ok (.aload 4, 2) := dk_25 4 (dk_at dksX0_gainedWithout_0 0 rfl rfl)
theorem dX0_gainedWithout_2 : decode cX0_gainedWithout 2 = .ok (.iconst 0, 1) := dk_3 (dk_at dksX0_gainedWithout_0 2 rfl rfl)
theorem dX0_gainedWithout_3 : decode cX0_gainedWithout 3 = .ok (.aload_n 0, 1) := dk_42 (dk_at dksX0_gainedWithout_0 3 rfl rfl)
theorem dX0_gainedWithout_4 : decode cX0_gainedWithout 4 = .ok (.iload_n 1, 1) := dk_27 (dk_at dksX0_gainedWithout_0 4 rfl rfl)
theorem dX0_gainedWithout_5 : decode cX0_gainedWithout 5 = .ok (.iload_n 2, 1) := dk_28 (dk_at dksX0_gainedWithout_0 5 rfl rfl)
theorem dX0_gainedWithout_6 : decode cX0_gainedWithout 6 = .ok (.iload_n 3, 1) := dk_29 (dk_at dksX0_gainedWithout_0 6 rfl rfl)
theorem dX0_gainedWithout_7 : decode cX0_gainedWithout 7 = .ok (.invokevirtual 44, 3) := dk_182 0 44 (dk_at dksX0_gainedWithout_0 7 rfl rfl)
theorem dX0_gainedWithout_10 : decode cX0_gainedWithout 10 = .ok (.i2l, 1) := dk_133 (dk_at dksX0_gainedWithout_0 10 rfl rfl)
theorem dX0_gainedWithout_11 : decode cX0_gainedWithout 11 = .ok (.lastore, 1) := dk_80 (dk_at dksX0_gainedWithout_0 11 rfl rfl)
theorem dX0_gainedWithout_12 : decode cX0_gainedWithout 12 = .ok (.goto 11, 3) := dk_167 0 11 (dk_at dksX0_gainedWithout_0 12 rfl rfl)
theorem dX0_gainedWithout_15 : decode cX0_gainedWithout 15 = .ok (.astore 5, 2) := dk_58 5 (dk_at dksX0_gainedWithout_0 15 rfl rfl)
theorem dX0_gainedWithout_17 : decode cX0_gainedWithout 17 = .ok (.iconst 1, 1) := dk_4 (dk_at dksX0_gainedWithout_0 17 rfl rfl)
theorem dX0_gainedWithout_18 : decode cX0_gainedWithout 18 = .ok (.ireturn, 1) := dk_172 (dk_at dksX0_gainedWithout_0 18 rfl rfl)
theorem dX0_gainedWithout_19 : decode cX0_gainedWithout 19 = .ok (.astore 5, 2) := dk_58 5 (dk_at dksX0_gainedWithout_0 19 rfl rfl)
theorem dX0_gainedWithout_21 : decode cX0_gainedWithout 21 = .ok (.iconst 2, 1) := dk_5 (dk_at dksX0_gainedWithout_0 21 rfl rfl)
theorem dX0_gainedWithout_22 : decode cX0_gainedWithout 22 = .ok (.ireturn, 1) := dk_172 (dk_at dksX0_gainedWithout_0 22 rfl rfl)
theorem dX0_gainedWithout_23 : decode cX0_gainedWithout 23 = .ok (.iconst 0, 1) := dk_3 (dk_at dksX0_gainedWithout_0 23 rfl rfl)
theorem dX0_gainedWithout_24 : decode cX0_gainedWithout 24 = .ok (.ireturn, 1) := dk_172 (dk_at dksX0_gainedWithout_1 0 rfl rfl)
abbrev cX0_constantAtRank : ByteArray := method_11_code
def yX0_constantAtRank : MethodName := ⟨RX0, "constantAtRank", "(LBrambleLogic;CI[J)I"⟩
def dkwX0_constantAtRank_0 : List UInt8 := [45, 3, 42, 27, 28, 182, 0, 47, 133, 80, 167, 0, 11, 58, 4, 4, 172, 58, 4, 5, 172, 3, 172]
abbrev dktX0_constantAtRank_0 : List UInt8 := dkwX0_constantAtRank_0 ++ []
theorem dksX0_constantAtRank_0 : cX0_constantAtRank.data.toList.drop 0 = dktX0_constantAtRank_0 := by decide +kernel
theorem dX0_constantAtRank_0 : decode cX0_constantAtRank 0 = .ok (.aload_n 3, 1) := dk_45 (dk_at dksX0_constantAtRank_0 0 rfl rfl)
theorem dX0_constantAtRank_1 : decode cX0_constantAtRank 1 = .ok (.iconst 0, 1) := dk_3 (dk_at dksX0_constantAtRank_0 1 rfl rfl)
theorem dX0_constantAtRank_2 : decode cX0_constantAtRank 2 = .ok (.aload_n 0, 1) := dk_42 (dk_at dksX0_constantAtRank_0 2 rfl rfl)
theorem dX0_constantAtRank_3 : decode cX0_constantAtRank 3 = .ok (.iload_n 1, 1) := dk_27 (dk_at dksX0_constantAtRank_0 3 rfl rfl)
theorem dX0_constantAtRank_4 : decode cX0_constantAtRank 4 = .ok (.iload_n 2, 1) := dk_28 (dk_at dksX0_constantAtRank_0 4 rfl rfl)
theorem dX0_constantAtRank_5 : decode cX0_constantAtRank 5 = .ok (.invokevirtual 47, 3) := dk_182 0 47 (dk_at dksX0_constantAtRank_0 5 rfl rfl)
theorem dX0_constantAtRank_8 : decode cX0_constantAtRank 8 = .ok (.i2l, 1) := dk_133 (dk_at dksX0_constantAtRank_0 8 rfl rfl)
theorem dX0_constantAtRank_9 : decode cX0_constantAtRank 9 = .ok (.lastore, 1) := dk_80 (dk_at dksX0_constantAtRank_0 9 rfl rfl)
theorem dX0_constantAtRank_10 : decode cX0_constantAtRank 10 = .ok (.goto 11, 3) := dk_167 0 11 (dk_at dksX0_constantAtRank_0 10 rfl rfl)
theorem dX0_constantAtRank_13 : decode cX0_constantAtRank 13 = .ok (.astore 4, 2) := dk_58 4 (dk_at dksX0_constantAtRank_0 13 rfl rfl)
theorem dX0_constantAtRank_15 : decode cX0_constantAtRank 15 = .ok (.iconst 1, 1) := dk_4 (dk_at dksX0_constantAtRank_0 15 rfl rfl)
theorem dX0_constantAtRank_16 : decode cX0_constantAtRank 16 = .ok (.ireturn, 1) := dk_172 (dk_at dksX0_constantAtRank_0 16 rfl rfl)
theorem dX0_constantAtRank_17 : decode cX0_constantAtRank 17 = .ok (.astore 4, 2) := dk_58 4 (dk_at dksX0_constantAtRank_0 17 rfl rfl)
theorem dX0_constantAtRank_19 : decode cX0_constantAtRank 19 = .ok (.iconst 2, 1) := dk_5 (dk_at dksX0_constantAtRank_0 19 rfl rfl)
theorem dX0_constantAtRank_20 : decode cX0_constantAtRank 20 = .ok (.ireturn, 1) := dk_172 (dk_at dksX0_constantAtRank_0 20 rfl rfl)
theorem dX0_constantAtRank_21 : decode cX0_constantAtRank 21 = .ok (.iconst 0, 1) := dk_3 (dk_at dksX0_constantAtRank_0 21 rfl rfl)
theorem dX0_constantAtRank_22 : decode cX0_constantAtRank 22 = .ok (.ireturn, 1) := dk_172 (dk_at dksX0_constantAtRank_0 22 rfl rfl)
abbrev cX0_greatest : ByteArray := method_12_code
def yX0_greatest : MethodName := ⟨RX0, "greatest", "(LBrambleLogic;C[J)I"⟩
def dkwX0_greatest_0 : List UInt8 := [44, 3, 42, 27, 182, 0, 51, 133, 80, 167, 0, 9, 78, 4, 172, 78, 5, 172, 3, 172]
abbrev dktX0_greatest_0 : List UInt8 := dkwX0_greatest_0 ++ []
theorem dksX0_greatest_0 : cX0_greatest.data.toList.drop 0 = dktX0_greatest_0 := by decide +kernel
theorem dX0_greatest_0 : decode cX0_greatest 0 = .ok (.aload_n 2, 1) := dk_44 (dk_at dksX0_greatest_0 0 rfl rfl)
theorem dX0_greatest_1 : decode cX0_greatest 1 = .ok (.iconst 0, 1) := dk_3 (dk_at dksX0_greatest_0 1 rfl rfl)
theorem dX0_greatest_2 : decode cX0_greatest 2 = .ok (.aload_n 0, 1) := dk_42 (dk_at dksX0_greatest_0 2 rfl rfl)
theorem dX0_greatest_3 : decode cX0_greatest 3 = .ok (.iload_n 1, 1) := dk_27 (dk_at dksX0_greatest_0 3 rfl rfl)
theorem dX0_greatest_4 : decode cX0_greatest 4 = .ok (.invokevirtual 51, 3) := dk_182 0 51 (dk_at dksX0_greatest_0 4 rfl rfl)
theorem dX0_greatest_7 : decode cX0_greatest 7 = .ok (.i2l, 1) := dk_133 (dk_at dksX0_greatest_0 7 rfl rfl)
theorem dX0_greatest_8 : decode cX0_greatest 8 = .ok (.lastore, 1) := dk_80 (dk_at dksX0_greatest_0 8 rfl rfl)
theorem dX0_greatest_9 : decode cX0_greatest 9 = .ok (.goto 9, 3) := dk_167 0 9 (dk_at dksX0_greatest_0 9 rfl rfl)
theorem dX0_greatest_12 : decode cX0_greatest 12 = .ok (.astore_n 3, 1) := dk_78 (dk_at dksX0_greatest_0 12 rfl rfl)
theorem dX0_greatest_13 : decode cX0_greatest 13 = .ok (.iconst 1, 1) := dk_4 (dk_at dksX0_greatest_0 13 rfl rfl)
theorem dX0_greatest_14 : decode cX0_greatest 14 = .ok (.ireturn, 1) := dk_172 (dk_at dksX0_greatest_0 14 rfl rfl)
theorem dX0_greatest_15 : decode cX0_greatest 15 = .ok (.astore_n 3, 1) := dk_78 (dk_at dksX0_greatest_0 15 rfl rfl)
theorem dX0_greatest_16 : decode cX0_greatest 16 = .ok (.iconst 2, 1) := dk_5 (dk_at dksX0_greatest_0 16 rfl rfl)
theorem dX0_greatest_17 : decode cX0_greatest 17 = .ok (.ireturn, 1) := dk_172 (dk_at dksX0_greatest_0 17 rfl rfl)
theorem dX0_greatest_18 : decode cX0_greatest 18 = .ok (.iconst 0, 1) := dk_3 (dk_at dksX0_greatest_0 18 rfl rfl)
theorem dX0_greatest_19 : decode cX0_greatest 19 = .ok (.ireturn, 1) := dk_172 (dk_at dksX0_greatest_0 19 rfl rfl)
abbrev cX0_height : ByteArray := method_13_code
def yX0_height : MethodName := ⟨RX0, "height", "(LBrambleLogic;CII[J)I"⟩
def dkwX0_height_1 : List UInt8 := [172]
abbrev dktX0_height_1 : List UInt8 := dkwX0_height_1 ++ []
def dkwX0_height_0 : List UInt8 := [25, 4, 3, 42, 27, 28, 29, 182, 0, 54, 133, 80, 167, 0, 11, 58, 5, 4, 172, 58, 5, 5, 172, 3]
abbrev dktX0_height_0 : List UInt8 := dkwX0_height_0 ++ dktX0_height_1
theorem dksX0_height_0 : cX0_height.data.toList.drop 0 = dktX0_height_0 := by decide +kernel
theorem dksX0_height_1 : cX0_height.data.toList.drop 24 = dktX0_height_1 := dk_seg dksX0_height_0 24 rfl rfl
theorem dX0_height_0 : decode cX0_height 0 = .ok (.aload 4, 2) := dk_25 4 (dk_at dksX0_height_0 0 rfl rfl)
theorem dX0_height_2 : decode cX0_height 2 = .ok (.iconst 0, 1) := dk_3 (dk_at dksX0_height_0 2 rfl rfl)
theorem dX0_height_3 : decode cX0_height 3 = .ok (.aload_n 0, 1) := dk_42 (dk_at dksX0_height_0 3 rfl rfl)
theorem dX0_height_4 : decode cX0_height 4 = .ok (.iload_n 1, 1) := dk_27 (dk_at dksX0_height_0 4 rfl rfl)
theorem dX0_height_5 : decode cX0_height 5 = .ok (.iload_n 2, 1) := dk_28 (dk_at dksX0_height_0 5 rfl rfl)
theorem dX0_height_6 : decode cX0_height 6 = .ok (.iload_n 3, 1) := dk_29 (dk_at dksX0_height_0 6 rfl rfl)
theorem dX0_height_7 : decode cX0_height 7 = .ok (.invokevirtual 54, 3) := dk_182 0 54 (dk_at dksX0_height_0 7 rfl rfl)
theorem dX0_height_10 : decode cX0_height 10 = .ok (.i2l, 1) := dk_133 (dk_at dksX0_height_0 10 rfl rfl)
theorem dX0_height_11 : decode cX0_height 11 = .ok (.lastore, 1) := dk_80 (dk_at dksX0_height_0 11 rfl rfl)
theorem dX0_height_12 : decode cX0_height 12 = .ok (.goto 11, 3) := dk_167 0 11 (dk_at dksX0_height_0 12 rfl rfl)
theorem dX0_height_15 : decode cX0_height 15 = .ok (.astore 5, 2) := dk_58 5 (dk_at dksX0_height_0 15 rfl rfl)
theorem dX0_height_17 : decode cX0_height 17 = .ok (.iconst 1, 1) := dk_4 (dk_at dksX0_height_0 17 rfl rfl)
theorem dX0_height_18 : decode cX0_height 18 = .ok (.ireturn, 1) := dk_172 (dk_at dksX0_height_0 18 rfl rfl)
theorem dX0_height_19 : decode cX0_height 19 = .ok (.astore 5, 2) := dk_58 5 (dk_at dksX0_height_0 19 rfl rfl)
theorem dX0_height_21 : decode cX0_height 21 = .ok (.iconst 2, 1) := dk_5 (dk_at dksX0_height_0 21 rfl rfl)
theorem dX0_height_22 : decode cX0_height 22 = .ok (.ireturn, 1) := dk_172 (dk_at dksX0_height_0 22 rfl rfl)
theorem dX0_height_23 : decode cX0_height 23 = .ok (.iconst 0, 1) := dk_3 (dk_at dksX0_height_0 23 rfl rfl)
theorem dX0_height_24 : decode cX0_height 24 = .ok (.ireturn, 1) := dk_172 (dk_at dksX0_height_1 0 rfl rfl)
abbrev cX0_heightByLevels : ByteArray := method_14_code
def yX0_heightByLevels : MethodName := ⟨RX0, "heightByLevels", "(LBrambleLogic;CII[J)I"⟩
def dkwX0_heightByLevels_1 : List UInt8 := [172]
abbrev dktX0_heightByLevels_1 : List UInt8 := dkwX0_heightByLevels_1 ++ []
def dkwX0_heightByLevels_0 : List UInt8 := [25, 4, 3, 42, 27, 28, 29, 182, 0, 57, 133, 80, 167, 0, 11, 58, 5, 4, 172, 58, 5, 5, 172, 3]
abbrev dktX0_heightByLevels_0 : List UInt8 := dkwX0_heightByLevels_0 ++ dktX0_heightByLevels_1
theorem dksX0_heightByLevels_0 : cX0_heightByLevels.data.toList.drop 0 = dktX0_heightByLevels_0 := by decide +kernel
theorem dksX0_heightByLevels_1 : cX0_heightByLevels.data.toList.drop 24 = dktX0_heightByLevels_1 := dk_seg dksX0_heightByLevels_0 24 rfl rfl
theorem dX0_heightByLevels_0 : decode cX0_heightByLevels 0 = .ok (.aload 4, 2) := dk_25 4 (dk_at dksX0_heightByLevels_0 0 rfl rfl)
theorem dX0_heightByLevels_2 : decode cX0_heightByLevels 2 = .ok (.iconst 0, 1) := dk_3 (dk_at dksX0_heightByLevels_0 2 rfl rfl)
theorem dX0_heightByLevels_3 : decode cX0_heightByLevels 3 = .ok (.aload_n 0, 1) := dk_42 (dk_at dksX0_heightByLevels_0 3 rfl rfl)
theorem dX0_heightByLevels_4 : decode cX0_heightByLevels 4 = .ok (.iload_n 1, 1) := dk_27 (dk_at dksX0_heightByLevels_0 4 rfl rfl)
theorem dX0_heightByLevels_5 : decode cX0_heightByLevels 5 = .ok (.iload_n 2, 1) := dk_28 (dk_at dksX0_heightByLevels_0 5 rfl rfl)
theorem dX0_heightByLevels_6 : decode cX0_heightByLevels 6 = .ok (.iload_n 3, 1) := dk_29 (dk_at dksX0_heightByLevels_0 6 rfl rfl)
theorem dX0_heightByLevels_7 : decode cX0_heightByLevels 7 = .ok (.invokevirtual 57, 3) := dk_182 0 57 (dk_at dksX0_heightByLevels_0 7 rfl rfl)
theorem dX0_heightByLevels_10 : decode cX0_heightByLevels 10 = .ok (.i2l, 1) := dk_133 (dk_at dksX0_heightByLevels_0 10 rfl rfl)
theorem dX0_heightByLevels_11 : decode cX0_heightByLevels 11 = .ok (.lastore, 1) := dk_80 (dk_at dksX0_heightByLevels_0 11 rfl rfl)
theorem dX0_heightByLevels_12 : decode cX0_heightByLevels 12 = .ok (.goto 11, 3) := dk_167 0 11 (dk_at dksX0_heightByLevels_0 12 rfl rfl)
theorem dX0_heightByLevels_15 : decode cX0_heightByLevels 15 = .ok (.astore 5, 2) := dk_58 5 (dk_at dksX0_heightByLevels_0 15 rfl rfl)
theorem dX0_heightByLevels_17 : decode cX0_heightByLevels 17 = .ok (.iconst 1, 1) := dk_4 (dk_at dksX0_heightByLevels_0 17 rfl rfl)
theorem dX0_heightByLevels_18 : decode cX0_heightByLevels 18 = .ok (.ireturn, 1) := dk_172 (dk_at dksX0_heightByLevels_0 18 rfl rfl)
theorem dX0_heightByLevels_19 : decode cX0_heightByLevels 19 = .ok (.astore 5, 2) := dk_58 5 (dk_at dksX0_heightByLevels_0 19 rfl rfl)
theorem dX0_heightByLevels_21 : decode cX0_heightByLevels 21 = .ok (.iconst 2, 1) := dk_5 (dk_at dksX0_heightByLevels_0 21 rfl rfl)
theorem dX0_heightByLevels_22 : decode cX0_heightByLevels 22 = .ok (.ireturn, 1) := dk_172 (dk_at dksX0_heightByLevels_0 22 rfl rfl)
theorem dX0_heightByLevels_23 : decode cX0_heightByLevels 23 = .ok (.iconst 0, 1) := dk_3 (dk_at dksX0_heightByLevels_0 23 rfl rfl)
theorem dX0_heightByLevels_24 : decode cX0_heightByLevels 24 = .ok (.ireturn, 1) := dk_172 (dk_at dksX0_heightByLevels_1 0 rfl rfl)
abbrev cX0_ruleOf : ByteArray := method_15_code
def yX0_ruleOf : MethodName := ⟨RX0, "ruleOf", "(LBrambleLogic;CII[J)I"⟩
def dkwX0_ruleOf_1 : List UInt8 := [172]
abbrev dktX0_ruleOf_1 : List UInt8 := dkwX0_ruleOf_1 ++ []
def dkwX0_ruleOf_0 : List UInt8 := [25, 4, 3, 42, 27, 28, 29, 182, 0, 60, 133, 80, 167, 0, 11, 58, 5, 4, 172, 58, 5, 5, 172, 3]
abbrev dktX0_ruleOf_0 : List UInt8 := dkwX0_ruleOf_0 ++ dktX0_ruleOf_1
theorem dksX0_ruleOf_0 : cX0_ruleOf.data.toList.drop 0 = dktX0_ruleOf_0 := by decide +kernel
theorem dksX0_ruleOf_1 : cX0_ruleOf.data.toList.drop 24 = dktX0_ruleOf_1 := dk_seg dksX0_ruleOf_0 24 rfl rfl
theorem dX0_ruleOf_0 : decode cX0_ruleOf 0 = .ok (.aload 4, 2) := dk_25 4 (dk_at dksX0_ruleOf_0 0 rfl rfl)
theorem dX0_ruleOf_2 : decode cX0_ruleOf 2 = .ok (.iconst 0, 1) := dk_3 (dk_at dksX0_ruleOf_0 2 rfl rfl)
theorem dX0_ruleOf_3 : decode cX0_ruleOf 3 = .ok (.aload_n 0, 1) := dk_42 (dk_at dksX0_ruleOf_0 3 rfl rfl)
theorem dX0_ruleOf_4 : decode cX0_ruleOf 4 = .ok (.iload_n 1, 1) := dk_27 (dk_at dksX0_ruleOf_0 4 rfl rfl)
theorem dX0_ruleOf_5 : decode cX0_ruleOf 5 = .ok (.iload_n 2, 1) := dk_28 (dk_at dksX0_ruleOf_0 5 rfl rfl)
theorem dX0_ruleOf_6 : decode cX0_ruleOf 6 = .ok (.iload_n 3, 1) := dk_29 (dk_at dksX0_ruleOf_0 6 rfl rfl)
theorem dX0_ruleOf_7 : decode cX0_ruleOf 7 = .ok (.invokevirtual 60, 3) := dk_182 0 60 (dk_at dksX0_ruleOf_0 7 rfl rfl)
theorem dX0_ruleOf_10 : decode cX0_ruleOf 10 = .ok (.i2l, 1) := dk_133 (dk_at dksX0_ruleOf_0 10 rfl rfl)
theorem dX0_ruleOf_11 : decode cX0_ruleOf 11 = .ok (.lastore, 1) := dk_80 (dk_at dksX0_ruleOf_0 11 rfl rfl)
theorem dX0_ruleOf_12 : decode cX0_ruleOf 12 = .ok (.goto 11, 3) := dk_167 0 11 (dk_at dksX0_ruleOf_0 12 rfl rfl)
theorem dX0_ruleOf_15 : decode cX0_ruleOf 15 = .ok (.astore 5, 2) := dk_58 5 (dk_at dksX0_ruleOf_0 15 rfl rfl)
theorem dX0_ruleOf_17 : decode cX0_ruleOf 17 = .ok (.iconst 1, 1) := dk_4 (dk_at dksX0_ruleOf_0 17 rfl rfl)
theorem dX0_ruleOf_18 : decode cX0_ruleOf 18 = .ok (.ireturn, 1) := dk_172 (dk_at dksX0_ruleOf_0 18 rfl rfl)
theorem dX0_ruleOf_19 : decode cX0_ruleOf 19 = .ok (.astore 5, 2) := dk_58 5 (dk_at dksX0_ruleOf_0 19 rfl rfl)
theorem dX0_ruleOf_21 : decode cX0_ruleOf 21 = .ok (.iconst 2, 1) := dk_5 (dk_at dksX0_ruleOf_0 21 rfl rfl)
theorem dX0_ruleOf_22 : decode cX0_ruleOf 22 = .ok (.ireturn, 1) := dk_172 (dk_at dksX0_ruleOf_0 22 rfl rfl)
theorem dX0_ruleOf_23 : decode cX0_ruleOf 23 = .ok (.iconst 0, 1) := dk_3 (dk_at dksX0_ruleOf_0 23 rfl rfl)
theorem dX0_ruleOf_24 : decode cX0_ruleOf 24 = .ok (.ireturn, 1) := dk_172 (dk_at dksX0_ruleOf_1 0 rfl rfl)
abbrev cX0_proofSize : ByteArray := method_16_code
def yX0_proofSize : MethodName := ⟨RX0, "proofSize", "(LBrambleLogic;CII[J)I"⟩
def dkwX0_proofSize_0 : List UInt8 := [25, 4, 3, 42, 27, 28, 29, 182, 0, 63, 80, 167, 0, 11, 58, 5, 4, 172, 58, 5, 5, 172, 3, 172]
abbrev dktX0_proofSize_0 : List UInt8 := dkwX0_proofSize_0 ++ []
theorem dksX0_proofSize_0 : cX0_proofSize.data.toList.drop 0 = dktX0_proofSize_0 := by decide +kernel
theorem dX0_proofSize_0 : decode cX0_proofSize 0 = .ok (.aload 4, 2) := dk_25 4 (dk_at dksX0_proofSize_0 0 rfl rfl)
theorem dX0_proofSize_2 : decode cX0_proofSize 2 = .ok (.iconst 0, 1) := dk_3 (dk_at dksX0_proofSize_0 2 rfl rfl)
theorem dX0_proofSize_3 : decode cX0_proofSize 3 = .ok (.aload_n 0, 1) := dk_42 (dk_at dksX0_proofSize_0 3 rfl rfl)
theorem dX0_proofSize_4 : decode cX0_proofSize 4 = .ok (.iload_n 1, 1) := dk_27 (dk_at dksX0_proofSize_0 4 rfl rfl)
theorem dX0_proofSize_5 : decode cX0_proofSize 5 = .ok (.iload_n 2, 1) := dk_28 (dk_at dksX0_proofSize_0 5 rfl rfl)
theorem dX0_proofSize_6 : decode cX0_proofSize 6 = .ok (.iload_n 3, 1) := dk_29 (dk_at dksX0_proofSize_0 6 rfl rfl)
theorem dX0_proofSize_7 : decode cX0_proofSize 7 = .ok (.invokevirtual 63, 3) := dk_182 0 63 (dk_at dksX0_proofSize_0 7 rfl rfl)
theorem dX0_proofSize_10 : decode cX0_proofSize 10 = .ok (.lastore, 1) := dk_80 (dk_at dksX0_proofSize_0 10 rfl rfl)
theorem dX0_proofSize_11 : decode cX0_proofSize 11 = .ok (.goto 11, 3) := dk_167 0 11 (dk_at dksX0_proofSize_0 11 rfl rfl)
theorem dX0_proofSize_14 : decode cX0_proofSize 14 = .ok (.astore 5, 2) := dk_58 5 (dk_at dksX0_proofSize_0 14 rfl rfl)
theorem dX0_proofSize_16 : decode cX0_proofSize 16 = .ok (.iconst 1, 1) := dk_4 (dk_at dksX0_proofSize_0 16 rfl rfl)
theorem dX0_proofSize_17 : decode cX0_proofSize 17 = .ok (.ireturn, 1) := dk_172 (dk_at dksX0_proofSize_0 17 rfl rfl)
theorem dX0_proofSize_18 : decode cX0_proofSize 18 = .ok (.astore 5, 2) := dk_58 5 (dk_at dksX0_proofSize_0 18 rfl rfl)
theorem dX0_proofSize_20 : decode cX0_proofSize 20 = .ok (.iconst 2, 1) := dk_5 (dk_at dksX0_proofSize_0 20 rfl rfl)
theorem dX0_proofSize_21 : decode cX0_proofSize 21 = .ok (.ireturn, 1) := dk_172 (dk_at dksX0_proofSize_0 21 rfl rfl)
theorem dX0_proofSize_22 : decode cX0_proofSize 22 = .ok (.iconst 0, 1) := dk_3 (dk_at dksX0_proofSize_0 22 rfl rfl)
theorem dX0_proofSize_23 : decode cX0_proofSize 23 = .ok (.ireturn, 1) := dk_172 (dk_at dksX0_proofSize_0 23 rfl rfl)
abbrev cX0_answers : ByteArray := method_17_code
def yX0_answers : MethodName := ⟨RX0, "answers", "(LBrambleLogic;CII[J)I"⟩
def dkwX0_answers_0 : List UInt8 := [25, 4, 3, 42, 27, 28, 29, 182, 0, 67, 133, 80, 167, 0, 7, 58, 5, 4, 172, 3, 172]
abbrev dktX0_answers_0 : List UInt8 := dkwX0_answers_0 ++ []
theorem dksX0_answers_0 : cX0_answers.data.toList.drop 0 = dktX0_answers_0 := by decide +kernel
theorem dX0_answers_0 : decode cX0_answers 0 = .ok (.aload 4, 2) := dk_25 4 (dk_at dksX0_answers_0 0 rfl rfl)
theorem dX0_answers_2 : decode cX0_answers 2 = .ok (.iconst 0, 1) := dk_3 (dk_at dksX0_answers_0 2 rfl rfl)
theorem dX0_answers_3 : decode cX0_answers 3 = .ok (.aload_n 0, 1) := dk_42 (dk_at dksX0_answers_0 3 rfl rfl)
theorem dX0_answers_4 : decode cX0_answers 4 = .ok (.iload_n 1, 1) := dk_27 (dk_at dksX0_answers_0 4 rfl rfl)
theorem dX0_answers_5 : decode cX0_answers 5 = .ok (.iload_n 2, 1) := dk_28 (dk_at dksX0_answers_0 5 rfl rfl)
theorem dX0_answers_6 : decode cX0_answers 6 = .ok (.iload_n 3, 1) := dk_29 (dk_at dksX0_answers_0 6 rfl rfl)
theorem dX0_answers_7 : decode cX0_answers 7 = .ok (.invokevirtual 67, 3) := dk_182 0 67 (dk_at dksX0_answers_0 7 rfl rfl)
theorem dX0_answers_10 : decode cX0_answers 10 = .ok (.i2l, 1) := dk_133 (dk_at dksX0_answers_0 10 rfl rfl)
theorem dX0_answers_11 : decode cX0_answers 11 = .ok (.lastore, 1) := dk_80 (dk_at dksX0_answers_0 11 rfl rfl)
theorem dX0_answers_12 : decode cX0_answers 12 = .ok (.goto 7, 3) := dk_167 0 7 (dk_at dksX0_answers_0 12 rfl rfl)
theorem dX0_answers_15 : decode cX0_answers 15 = .ok (.astore 5, 2) := dk_58 5 (dk_at dksX0_answers_0 15 rfl rfl)
theorem dX0_answers_17 : decode cX0_answers 17 = .ok (.iconst 1, 1) := dk_4 (dk_at dksX0_answers_0 17 rfl rfl)
theorem dX0_answers_18 : decode cX0_answers 18 = .ok (.ireturn, 1) := dk_172 (dk_at dksX0_answers_0 18 rfl rfl)
theorem dX0_answers_19 : decode cX0_answers 19 = .ok (.iconst 0, 1) := dk_3 (dk_at dksX0_answers_0 19 rfl rfl)
theorem dX0_answers_20 : decode cX0_answers 20 = .ok (.ireturn, 1) := dk_172 (dk_at dksX0_answers_0 20 rfl rfl)
abbrev cX0_answersByGoals : ByteArray := method_18_code
def yX0_answersByGoals : MethodName := ⟨RX0, "answersByGoals", "(LBrambleLogic;CII[J)I"⟩
def dkwX0_answersByGoals_0 : List UInt8 := [25, 4, 3, 42, 27, 28, 29, 182, 0, 70, 133, 80, 167, 0, 7, 58, 5, 4, 172, 3, 172]
abbrev dktX0_answersByGoals_0 : List UInt8 := dkwX0_answersByGoals_0 ++ []
theorem dksX0_answersByGoals_0 : cX0_answersByGoals.data.toList.drop 0 = dktX0_answersByGoals_0 := by decide +kernel
theorem dX0_answersByGoals_0 : decode cX0_answersByGoals 0 = .ok (.aload 4, 2) := dk_25 4 (dk_at dksX0_answersByGoals_0 0 rfl rfl)
theorem dX0_answersByGoals_2 : decode cX0_answersByGoals 2 = .ok (.iconst 0, 1) := dk_3 (dk_at dksX0_answersByGoals_0 2 rfl rfl)
theorem dX0_answersByGoals_3 : decode cX0_answersByGoals 3 = .ok (.aload_n 0, 1) := dk_42 (dk_at dksX0_answersByGoals_0 3 rfl rfl)
theorem dX0_answersByGoals_4 : decode cX0_answersByGoals 4 = .ok (.iload_n 1, 1) := dk_27 (dk_at dksX0_answersByGoals_0 4 rfl rfl)
theorem dX0_answersByGoals_5 : decode cX0_answersByGoals 5 = .ok (.iload_n 2, 1) := dk_28 (dk_at dksX0_answersByGoals_0 5 rfl rfl)
theorem dX0_answersByGoals_6 : decode cX0_answersByGoals 6 = .ok (.iload_n 3, 1) := dk_29 (dk_at dksX0_answersByGoals_0 6 rfl rfl)
theorem dX0_answersByGoals_7 : decode cX0_answersByGoals 7 = .ok (.invokevirtual 70, 3) := dk_182 0 70 (dk_at dksX0_answersByGoals_0 7 rfl rfl)
theorem dX0_answersByGoals_10 : decode cX0_answersByGoals 10 = .ok (.i2l, 1) := dk_133 (dk_at dksX0_answersByGoals_0 10 rfl rfl)
theorem dX0_answersByGoals_11 : decode cX0_answersByGoals 11 = .ok (.lastore, 1) := dk_80 (dk_at dksX0_answersByGoals_0 11 rfl rfl)
theorem dX0_answersByGoals_12 : decode cX0_answersByGoals 12 = .ok (.goto 7, 3) := dk_167 0 7 (dk_at dksX0_answersByGoals_0 12 rfl rfl)
theorem dX0_answersByGoals_15 : decode cX0_answersByGoals 15 = .ok (.astore 5, 2) := dk_58 5 (dk_at dksX0_answersByGoals_0 15 rfl rfl)
theorem dX0_answersByGoals_17 : decode cX0_answersByGoals 17 = .ok (.iconst 1, 1) := dk_4 (dk_at dksX0_answersByGoals_0 17 rfl rfl)
theorem dX0_answersByGoals_18 : decode cX0_answersByGoals 18 = .ok (.ireturn, 1) := dk_172 (dk_at dksX0_answersByGoals_0 18 rfl rfl)
theorem dX0_answersByGoals_19 : decode cX0_answersByGoals 19 = .ok (.iconst 0, 1) := dk_3 (dk_at dksX0_answersByGoals_0 19 rfl rfl)
theorem dX0_answersByGoals_20 : decode cX0_answersByGoals 20 = .ok (.ireturn, 1) := dk_172 (dk_at dksX0_answersByGoals_0 20 rfl rfl)
abbrev cX0_answerAt : ByteArray := method_19_code
def yX0_answerAt : MethodName := ⟨RX0, "answerAt", "(LBrambleLogic;CIII[J)I"⟩
def dkwX0_answerAt_1 : List UInt8 := [172, 3, 172]
abbrev dktX0_answerAt_1 : List UInt8 := dkwX0_answerAt_1 ++ []
def dkwX0_answerAt_0 : List UInt8 := [25, 5, 3, 42, 27, 28, 29, 21, 4, 182, 0, 73, 133, 80, 167, 0, 11, 58, 6, 4, 172, 58, 6, 5]
abbrev dktX0_answerAt_0 : List UInt8 := dkwX0_answerAt_0 ++ dktX0_answerAt_1
theorem dksX0_answerAt_0 : cX0_answerAt.data.toList.drop 0 = dktX0_answerAt_0 := by decide +kernel
theorem dksX0_answerAt_1 : cX0_answerAt.data.toList.drop 24 = dktX0_answerAt_1 := dk_seg dksX0_answerAt_0 24 rfl rfl
theorem dX0_answerAt_0 : decode cX0_answerAt 0 = .ok (.aload 5, 2) := dk_25 5 (dk_at dksX0_answerAt_0 0 rfl rfl)
theorem dX0_answerAt_2 : decode cX0_answerAt 2 = .ok (.iconst 0, 1) := dk_3 (dk_at dksX0_answerAt_0 2 rfl rfl)
theorem dX0_answerAt_3 : decode cX0_answerAt 3 = .ok (.aload_n 0, 1) := dk_42 (dk_at dksX0_answerAt_0 3 rfl rfl)
theorem dX0_answerAt_4 : decode cX0_answerAt 4 = .ok (.iload_n 1, 1) := dk_27 (dk_at dksX0_answerAt_0 4 rfl rfl)
theorem dX0_answerAt_5 : decode cX0_answerAt 5 = .ok (.iload_n 2, 1) := dk_28 (dk_at dksX0_answerAt_0 5 rfl rfl)
theorem dX0_answerAt_6 : decode cX0_answerAt 6 = .ok (.iload_n 3, 1) := dk_29 (dk_at dksX0_answerAt_0 6 rfl rfl)
theorem dX0_answerAt_7 : decode cX0_answerAt 7 = .ok (.iload 4, 2) := dk_21 4 (dk_at dksX0_answerAt_0 7 rfl rfl)
theorem dX0_answerAt_9 : decode cX0_answerAt 9 = .ok (.invokevirtual 73, 3) := dk_182 0 73 (dk_at dksX0_answerAt_0 9 rfl rfl)
theorem dX0_answerAt_12 : decode cX0_answerAt 12 = .ok (.i2l, 1) := dk_133 (dk_at dksX0_answerAt_0 12 rfl rfl)
theorem dX0_answerAt_13 : decode cX0_answerAt 13 = .ok (.lastore, 1) := dk_80 (dk_at dksX0_answerAt_0 13 rfl rfl)
theorem dX0_answerAt_14 : decode cX0_answerAt 14 = .ok (.goto 11, 3) := dk_167 0 11 (dk_at dksX0_answerAt_0 14 rfl rfl)
theorem dX0_answerAt_17 : decode cX0_answerAt 17 = .ok (.astore 6, 2) := dk_58 6 (dk_at dksX0_answerAt_0 17 rfl rfl)
theorem dX0_answerAt_19 : decode cX0_answerAt 19 = .ok (.iconst 1, 1) := dk_4 (dk_at dksX0_answerAt_0 19 rfl rfl)
theorem dX0_answerAt_20 : decode cX0_answerAt 20 = .ok (.ireturn, 1) := dk_172 (dk_at dksX0_answerAt_0 20 rfl rfl)
theorem dX0_answerAt_21 : decode cX0_answerAt 21 = .ok (.astore 6, 2) := dk_58 6 (dk_at dksX0_answerAt_0 21 rfl rfl)
theorem dX0_answerAt_23 : decode cX0_answerAt 23 = .ok (.iconst 2, 1) := dk_5 (dk_at dksX0_answerAt_0 23 rfl rfl)
theorem dX0_answerAt_24 : decode cX0_answerAt 24 = .ok (.ireturn, 1) := dk_172 (dk_at dksX0_answerAt_1 0 rfl rfl)
theorem dX0_answerAt_25 : decode cX0_answerAt 25 = .ok (.iconst 0, 1) := dk_3 (dk_at dksX0_answerAt_1 1 rfl rfl)
theorem dX0_answerAt_26 : decode cX0_answerAt 26 = .ok (.ireturn, 1) := dk_172 (dk_at dksX0_answerAt_1 2 rfl rfl)
abbrev cX0_variables : ByteArray := method_20_code
def yX0_variables : MethodName := ⟨RX0, "variables", "(LBrambleLogic;I[J)I"⟩
def dkwX0_variables_0 : List UInt8 := [44, 3, 42, 27, 182, 0, 77, 133, 80, 167, 0, 6, 78, 4, 172, 3, 172]
abbrev dktX0_variables_0 : List UInt8 := dkwX0_variables_0 ++ []
theorem dksX0_variables_0 : cX0_variables.data.toList.drop 0 = dktX0_variables_0 := by decide +kernel
theorem dX0_variables_0 : decode cX0_variables 0 = .ok (.aload_n 2, 1) := dk_44 (dk_at dksX0_variables_0 0 rfl rfl)
theorem dX0_variables_1 : decode cX0_variables 1 = .ok (.iconst 0, 1) := dk_3 (dk_at dksX0_variables_0 1 rfl rfl)
theorem dX0_variables_2 : decode cX0_variables 2 = .ok (.aload_n 0, 1) := dk_42 (dk_at dksX0_variables_0 2 rfl rfl)
theorem dX0_variables_3 : decode cX0_variables 3 = .ok (.iload_n 1, 1) := dk_27 (dk_at dksX0_variables_0 3 rfl rfl)
theorem dX0_variables_4 : decode cX0_variables 4 = .ok (.invokevirtual 77, 3) := dk_182 0 77 (dk_at dksX0_variables_0 4 rfl rfl)
theorem dX0_variables_7 : decode cX0_variables 7 = .ok (.i2l, 1) := dk_133 (dk_at dksX0_variables_0 7 rfl rfl)
theorem dX0_variables_8 : decode cX0_variables 8 = .ok (.lastore, 1) := dk_80 (dk_at dksX0_variables_0 8 rfl rfl)
theorem dX0_variables_9 : decode cX0_variables 9 = .ok (.goto 6, 3) := dk_167 0 6 (dk_at dksX0_variables_0 9 rfl rfl)
theorem dX0_variables_12 : decode cX0_variables 12 = .ok (.astore_n 3, 1) := dk_78 (dk_at dksX0_variables_0 12 rfl rfl)
theorem dX0_variables_13 : decode cX0_variables 13 = .ok (.iconst 1, 1) := dk_4 (dk_at dksX0_variables_0 13 rfl rfl)
theorem dX0_variables_14 : decode cX0_variables 14 = .ok (.ireturn, 1) := dk_172 (dk_at dksX0_variables_0 14 rfl rfl)
theorem dX0_variables_15 : decode cX0_variables 15 = .ok (.iconst 0, 1) := dk_3 (dk_at dksX0_variables_0 15 rfl rfl)
theorem dX0_variables_16 : decode cX0_variables 16 = .ok (.ireturn, 1) := dk_172 (dk_at dksX0_variables_0 16 rfl rfl)
abbrev cX0_isRecursive : ByteArray := method_21_code
def yX0_isRecursive : MethodName := ⟨RX0, "isRecursive", "(LBrambleLogic;I[J)I"⟩
def dkwX0_isRecursive_0 : List UInt8 := [44, 3, 42, 27, 182, 0, 80, 153, 0, 7, 10, 167, 0, 4, 9, 80, 167, 0, 6, 78, 4, 172, 3, 172]
abbrev dktX0_isRecursive_0 : List UInt8 := dkwX0_isRecursive_0 ++ []
theorem dksX0_isRecursive_0 : cX0_isRecursive.data.toList.drop 0 = dktX0_isRecursive_0 := by decide +kernel
theorem dX0_isRecursive_0 : decode cX0_isRecursive 0 = .ok (.aload_n 2, 1) := dk_44 (dk_at dksX0_isRecursive_0 0 rfl rfl)
theorem dX0_isRecursive_1 : decode cX0_isRecursive 1 = .ok (.iconst 0, 1) := dk_3 (dk_at dksX0_isRecursive_0 1 rfl rfl)
theorem dX0_isRecursive_2 : decode cX0_isRecursive 2 = .ok (.aload_n 0, 1) := dk_42 (dk_at dksX0_isRecursive_0 2 rfl rfl)
theorem dX0_isRecursive_3 : decode cX0_isRecursive 3 = .ok (.iload_n 1, 1) := dk_27 (dk_at dksX0_isRecursive_0 3 rfl rfl)
theorem dX0_isRecursive_4 : decode cX0_isRecursive 4 = .ok (.invokevirtual 80, 3) := dk_182 0 80 (dk_at dksX0_isRecursive_0 4 rfl rfl)
theorem dX0_isRecursive_7 : decode cX0_isRecursive 7 = .ok (.ifCond .eq 7, 3) := dk_153 0 7 (dk_at dksX0_isRecursive_0 7 rfl rfl)
theorem dX0_isRecursive_10 : decode cX0_isRecursive 10 = .ok (.lconst 1, 1) := dk_10 (dk_at dksX0_isRecursive_0 10 rfl rfl)
theorem dX0_isRecursive_11 : decode cX0_isRecursive 11 = .ok (.goto 4, 3) := dk_167 0 4 (dk_at dksX0_isRecursive_0 11 rfl rfl)
theorem dX0_isRecursive_14 : decode cX0_isRecursive 14 = .ok (.lconst 0, 1) := dk_9 (dk_at dksX0_isRecursive_0 14 rfl rfl)
theorem dX0_isRecursive_15 : decode cX0_isRecursive 15 = .ok (.lastore, 1) := dk_80 (dk_at dksX0_isRecursive_0 15 rfl rfl)
theorem dX0_isRecursive_16 : decode cX0_isRecursive 16 = .ok (.goto 6, 3) := dk_167 0 6 (dk_at dksX0_isRecursive_0 16 rfl rfl)
theorem dX0_isRecursive_19 : decode cX0_isRecursive 19 = .ok (.astore_n 3, 1) := dk_78 (dk_at dksX0_isRecursive_0 19 rfl rfl)
theorem dX0_isRecursive_20 : decode cX0_isRecursive 20 = .ok (.iconst 1, 1) := dk_4 (dk_at dksX0_isRecursive_0 20 rfl rfl)
theorem dX0_isRecursive_21 : decode cX0_isRecursive 21 = .ok (.ireturn, 1) := dk_172 (dk_at dksX0_isRecursive_0 21 rfl rfl)
theorem dX0_isRecursive_22 : decode cX0_isRecursive 22 = .ok (.iconst 0, 1) := dk_3 (dk_at dksX0_isRecursive_0 22 rfl rfl)
theorem dX0_isRecursive_23 : decode cX0_isRecursive 23 = .ok (.ireturn, 1) := dk_172 (dk_at dksX0_isRecursive_0 23 rfl rfl)
abbrev cX0_stepsOf : ByteArray := method_22_code
def yX0_stepsOf : MethodName := ⟨RX0, "stepsOf", "(LBrambleLogic;I[J)I"⟩
def dkwX0_stepsOf_0 : List UInt8 := [44, 3, 42, 27, 182, 0, 84, 133, 80, 167, 0, 6, 78, 4, 172, 3, 172]
abbrev dktX0_stepsOf_0 : List UInt8 := dkwX0_stepsOf_0 ++ []
theorem dksX0_stepsOf_0 : cX0_stepsOf.data.toList.drop 0 = dktX0_stepsOf_0 := by decide +kernel
theorem dX0_stepsOf_0 : decode cX0_stepsOf 0 = .ok (.aload_n 2, 1) := dk_44 (dk_at dksX0_stepsOf_0 0 rfl rfl)
theorem dX0_stepsOf_1 : decode cX0_stepsOf 1 = .ok (.iconst 0, 1) := dk_3 (dk_at dksX0_stepsOf_0 1 rfl rfl)
theorem dX0_stepsOf_2 : decode cX0_stepsOf 2 = .ok (.aload_n 0, 1) := dk_42 (dk_at dksX0_stepsOf_0 2 rfl rfl)
theorem dX0_stepsOf_3 : decode cX0_stepsOf 3 = .ok (.iload_n 1, 1) := dk_27 (dk_at dksX0_stepsOf_0 3 rfl rfl)
theorem dX0_stepsOf_4 : decode cX0_stepsOf 4 = .ok (.invokevirtual 84, 3) := dk_182 0 84 (dk_at dksX0_stepsOf_0 4 rfl rfl)
theorem dX0_stepsOf_7 : decode cX0_stepsOf 7 = .ok (.i2l, 1) := dk_133 (dk_at dksX0_stepsOf_0 7 rfl rfl)
theorem dX0_stepsOf_8 : decode cX0_stepsOf 8 = .ok (.lastore, 1) := dk_80 (dk_at dksX0_stepsOf_0 8 rfl rfl)
theorem dX0_stepsOf_9 : decode cX0_stepsOf 9 = .ok (.goto 6, 3) := dk_167 0 6 (dk_at dksX0_stepsOf_0 9 rfl rfl)
theorem dX0_stepsOf_12 : decode cX0_stepsOf 12 = .ok (.astore_n 3, 1) := dk_78 (dk_at dksX0_stepsOf_0 12 rfl rfl)
theorem dX0_stepsOf_13 : decode cX0_stepsOf 13 = .ok (.iconst 1, 1) := dk_4 (dk_at dksX0_stepsOf_0 13 rfl rfl)
theorem dX0_stepsOf_14 : decode cX0_stepsOf 14 = .ok (.ireturn, 1) := dk_172 (dk_at dksX0_stepsOf_0 14 rfl rfl)
theorem dX0_stepsOf_15 : decode cX0_stepsOf 15 = .ok (.iconst 0, 1) := dk_3 (dk_at dksX0_stepsOf_0 15 rfl rfl)
theorem dX0_stepsOf_16 : decode cX0_stepsOf 16 = .ok (.ireturn, 1) := dk_172 (dk_at dksX0_stepsOf_0 16 rfl rfl)
abbrev cX0_layerOf : ByteArray := method_23_code
def yX0_layerOf : MethodName := ⟨RX0, "layerOf", "(LBrambleLogic;C[J)I"⟩
def dkwX0_layerOf_0 : List UInt8 := [44, 3, 42, 27, 182, 0, 87, 133, 80, 167, 0, 6, 78, 4, 172, 3, 172]
abbrev dktX0_layerOf_0 : List UInt8 := dkwX0_layerOf_0 ++ []
theorem dksX0_layerOf_0 : cX0_layerOf.data.toList.drop 0 = dktX0_layerOf_0 := by decide +kernel
theorem dX0_layerOf_0 : decode cX0_layerOf 0 = .ok (.aload_n 2, 1) := dk_44 (dk_at dksX0_layerOf_0 0 rfl rfl)
theorem dX0_layerOf_1 : decode cX0_layerOf 1 = .ok (.iconst 0, 1) := dk_3 (dk_at dksX0_layerOf_0 1 rfl rfl)
theorem dX0_layerOf_2 : decode cX0_layerOf 2 = .ok (.aload_n 0, 1) := dk_42 (dk_at dksX0_layerOf_0 2 rfl rfl)
theorem dX0_layerOf_3 : decode cX0_layerOf 3 = .ok (.iload_n 1, 1) := dk_27 (dk_at dksX0_layerOf_0 3 rfl rfl)
theorem dX0_layerOf_4 : decode cX0_layerOf 4 = .ok (.invokevirtual 87, 3) := dk_182 0 87 (dk_at dksX0_layerOf_0 4 rfl rfl)
theorem dX0_layerOf_7 : decode cX0_layerOf 7 = .ok (.i2l, 1) := dk_133 (dk_at dksX0_layerOf_0 7 rfl rfl)
theorem dX0_layerOf_8 : decode cX0_layerOf 8 = .ok (.lastore, 1) := dk_80 (dk_at dksX0_layerOf_0 8 rfl rfl)
theorem dX0_layerOf_9 : decode cX0_layerOf 9 = .ok (.goto 6, 3) := dk_167 0 6 (dk_at dksX0_layerOf_0 9 rfl rfl)
theorem dX0_layerOf_12 : decode cX0_layerOf 12 = .ok (.astore_n 3, 1) := dk_78 (dk_at dksX0_layerOf_0 12 rfl rfl)
theorem dX0_layerOf_13 : decode cX0_layerOf 13 = .ok (.iconst 1, 1) := dk_4 (dk_at dksX0_layerOf_0 13 rfl rfl)
theorem dX0_layerOf_14 : decode cX0_layerOf 14 = .ok (.ireturn, 1) := dk_172 (dk_at dksX0_layerOf_0 14 rfl rfl)
theorem dX0_layerOf_15 : decode cX0_layerOf 15 = .ok (.iconst 0, 1) := dk_3 (dk_at dksX0_layerOf_0 15 rfl rfl)
theorem dX0_layerOf_16 : decode cX0_layerOf 16 = .ok (.ireturn, 1) := dk_172 (dk_at dksX0_layerOf_0 16 rfl rfl)
abbrev cX0_layerByChains : ByteArray := method_24_code
def yX0_layerByChains : MethodName := ⟨RX0, "layerByChains", "(LBrambleLogic;C[J)I"⟩
def dkwX0_layerByChains_0 : List UInt8 := [44, 3, 42, 27, 182, 0, 90, 133, 80, 167, 0, 6, 78, 4, 172, 3, 172]
abbrev dktX0_layerByChains_0 : List UInt8 := dkwX0_layerByChains_0 ++ []
theorem dksX0_layerByChains_0 : cX0_layerByChains.data.toList.drop 0 = dktX0_layerByChains_0 := by decide +kernel
theorem dX0_layerByChains_0 : decode cX0_layerByChains 0 = .ok (.aload_n 2, 1) := dk_44 (dk_at dksX0_layerByChains_0 0 rfl rfl)
theorem dX0_layerByChains_1 : decode cX0_layerByChains 1 = .ok (.iconst 0, 1) := dk_3 (dk_at dksX0_layerByChains_0 1 rfl rfl)
theorem dX0_layerByChains_2 : decode cX0_layerByChains 2 = .ok (.aload_n 0, 1) := dk_42 (dk_at dksX0_layerByChains_0 2 rfl rfl)
theorem dX0_layerByChains_3 : decode cX0_layerByChains 3 = .ok (.iload_n 1, 1) := dk_27 (dk_at dksX0_layerByChains_0 3 rfl rfl)
theorem dX0_layerByChains_4 : decode cX0_layerByChains 4 = .ok (.invokevirtual 90, 3) := dk_182 0 90 (dk_at dksX0_layerByChains_0 4 rfl rfl)
theorem dX0_layerByChains_7 : decode cX0_layerByChains 7 = .ok (.i2l, 1) := dk_133 (dk_at dksX0_layerByChains_0 7 rfl rfl)
theorem dX0_layerByChains_8 : decode cX0_layerByChains 8 = .ok (.lastore, 1) := dk_80 (dk_at dksX0_layerByChains_0 8 rfl rfl)
theorem dX0_layerByChains_9 : decode cX0_layerByChains 9 = .ok (.goto 6, 3) := dk_167 0 6 (dk_at dksX0_layerByChains_0 9 rfl rfl)
theorem dX0_layerByChains_12 : decode cX0_layerByChains 12 = .ok (.astore_n 3, 1) := dk_78 (dk_at dksX0_layerByChains_0 12 rfl rfl)
theorem dX0_layerByChains_13 : decode cX0_layerByChains 13 = .ok (.iconst 1, 1) := dk_4 (dk_at dksX0_layerByChains_0 13 rfl rfl)
theorem dX0_layerByChains_14 : decode cX0_layerByChains 14 = .ok (.ireturn, 1) := dk_172 (dk_at dksX0_layerByChains_0 14 rfl rfl)
theorem dX0_layerByChains_15 : decode cX0_layerByChains 15 = .ok (.iconst 0, 1) := dk_3 (dk_at dksX0_layerByChains_0 15 rfl rfl)
theorem dX0_layerByChains_16 : decode cX0_layerByChains 16 = .ok (.ireturn, 1) := dk_172 (dk_at dksX0_layerByChains_0 16 rfl rfl)
abbrev cX0_dependsOn : ByteArray := method_25_code
def yX0_dependsOn : MethodName := ⟨RX0, "dependsOn", "(LBrambleLogic;CC[J)I"⟩
def dkwX0_dependsOn_1 : List UInt8 := [3, 172]
abbrev dktX0_dependsOn_1 : List UInt8 := dkwX0_dependsOn_1 ++ []
def dkwX0_dependsOn_0 : List UInt8 := [45, 3, 42, 27, 28, 182, 0, 93, 153, 0, 7, 10, 167, 0, 4, 9, 80, 167, 0, 7, 58, 4, 4, 172]
abbrev dktX0_dependsOn_0 : List UInt8 := dkwX0_dependsOn_0 ++ dktX0_dependsOn_1
theorem dksX0_dependsOn_0 : cX0_dependsOn.data.toList.drop 0 = dktX0_dependsOn_0 := by decide +kernel
theorem dksX0_dependsOn_1 : cX0_dependsOn.data.toList.drop 24 = dktX0_dependsOn_1 := dk_seg dksX0_dependsOn_0 24 rfl rfl
theorem dX0_dependsOn_0 : decode cX0_dependsOn 0 = .ok (.aload_n 3, 1) := dk_45 (dk_at dksX0_dependsOn_0 0 rfl rfl)
theorem dX0_dependsOn_1 : decode cX0_dependsOn 1 = .ok (.iconst 0, 1) := dk_3 (dk_at dksX0_dependsOn_0 1 rfl rfl)
theorem dX0_dependsOn_2 : decode cX0_dependsOn 2 = .ok (.aload_n 0, 1) := dk_42 (dk_at dksX0_dependsOn_0 2 rfl rfl)
theorem dX0_dependsOn_3 : decode cX0_dependsOn 3 = .ok (.iload_n 1, 1) := dk_27 (dk_at dksX0_dependsOn_0 3 rfl rfl)
theorem dX0_dependsOn_4 : decode cX0_dependsOn 4 = .ok (.iload_n 2, 1) := dk_28 (dk_at dksX0_dependsOn_0 4 rfl rfl)
theorem dX0_dependsOn_5 : decode cX0_dependsOn 5 = .ok (.invokevirtual 93, 3) := dk_182 0 93 (dk_at dksX0_dependsOn_0 5 rfl rfl)
theorem dX0_dependsOn_8 : decode cX0_dependsOn 8 = .ok (.ifCond .eq 7, 3) := dk_153 0 7 (dk_at dksX0_dependsOn_0 8 rfl rfl)
theorem dX0_dependsOn_11 : decode cX0_dependsOn 11 = .ok (.lconst 1, 1) := dk_10 (dk_at dksX0_dependsOn_0 11 rfl rfl)
theorem dX0_dependsOn_12 : decode cX0_dependsOn 12 = .ok (.goto 4, 3) := dk_167 0 4 (dk_at dksX0_dependsOn_0 12 rfl rfl)
theorem dX0_dependsOn_15 : decode cX0_dependsOn 15 = .ok (.lconst 0, 1) := dk_9 (dk_at dksX0_dependsOn_0 15 rfl rfl)
theorem dX0_dependsOn_16 : decode cX0_dependsOn 16 = .ok (.lastore, 1) := dk_80 (dk_at dksX0_dependsOn_0 16 rfl rfl)
theorem dX0_dependsOn_17 : decode cX0_dependsOn 17 = .ok (.goto 7, 3) := dk_167 0 7 (dk_at dksX0_dependsOn_0 17 rfl rfl)
theorem dX0_dependsOn_20 : decode cX0_dependsOn 20 = .ok (.astore 4, 2) := dk_58 4 (dk_at dksX0_dependsOn_0 20 rfl rfl)
theorem dX0_dependsOn_22 : decode cX0_dependsOn 22 = .ok (.iconst 1, 1) := dk_4 (dk_at dksX0_dependsOn_0 22 rfl rfl)
theorem dX0_dependsOn_23 : decode cX0_dependsOn 23 = .ok (.ireturn, 1) := dk_172 (dk_at dksX0_dependsOn_0 23 rfl rfl)
theorem dX0_dependsOn_24 : decode cX0_dependsOn 24 = .ok (.iconst 0, 1) := dk_3 (dk_at dksX0_dependsOn_1 0 rfl rfl)
theorem dX0_dependsOn_25 : decode cX0_dependsOn 25 = .ok (.ireturn, 1) := dk_172 (dk_at dksX0_dependsOn_1 1 rfl rfl)
abbrev cX0_reason : ByteArray := method_26_code
def yX0_reason : MethodName := ⟨RX0, "reason", "(LBrambleLogic;[J)I"⟩
def dkwX0_reason_0 : List UInt8 := [43, 3, 42, 182, 0, 97, 133, 80, 167, 0, 6, 77, 4, 172, 3, 172]
abbrev dktX0_reason_0 : List UInt8 := dkwX0_reason_0 ++ []
theorem dksX0_reason_0 : cX0_reason.data.toList.drop 0 = dktX0_reason_0 := by decide +kernel
theorem dX0_reason_0 : decode cX0_reason 0 = .ok (.aload_n 1, 1) := dk_43 (dk_at dksX0_reason_0 0 rfl rfl)
theorem dX0_reason_1 : decode cX0_reason 1 = .ok (.iconst 0, 1) := dk_3 (dk_at dksX0_reason_0 1 rfl rfl)
theorem dX0_reason_2 : decode cX0_reason 2 = .ok (.aload_n 0, 1) := dk_42 (dk_at dksX0_reason_0 2 rfl rfl)
theorem dX0_reason_3 : decode cX0_reason 3 = .ok (.invokevirtual 97, 3) := dk_182 0 97 (dk_at dksX0_reason_0 3 rfl rfl)
theorem dX0_reason_6 : decode cX0_reason 6 = .ok (.i2l, 1) := dk_133 (dk_at dksX0_reason_0 6 rfl rfl)
theorem dX0_reason_7 : decode cX0_reason 7 = .ok (.lastore, 1) := dk_80 (dk_at dksX0_reason_0 7 rfl rfl)
theorem dX0_reason_8 : decode cX0_reason 8 = .ok (.goto 6, 3) := dk_167 0 6 (dk_at dksX0_reason_0 8 rfl rfl)
theorem dX0_reason_11 : decode cX0_reason 11 = .ok (.astore_n 2, 1) := dk_77 (dk_at dksX0_reason_0 11 rfl rfl)
theorem dX0_reason_12 : decode cX0_reason 12 = .ok (.iconst 1, 1) := dk_4 (dk_at dksX0_reason_0 12 rfl rfl)
theorem dX0_reason_13 : decode cX0_reason 13 = .ok (.ireturn, 1) := dk_172 (dk_at dksX0_reason_0 13 rfl rfl)
theorem dX0_reason_14 : decode cX0_reason 14 = .ok (.iconst 0, 1) := dk_3 (dk_at dksX0_reason_0 14 rfl rfl)
theorem dX0_reason_15 : decode cX0_reason 15 = .ok (.ireturn, 1) := dk_172 (dk_at dksX0_reason_0 15 rfl rfl)
abbrev cX0_detail : ByteArray := method_27_code
def yX0_detail : MethodName := ⟨RX0, "detail", "(LBrambleLogic;[J)I"⟩
def dkwX0_detail_0 : List UInt8 := [43, 3, 42, 182, 0, 101, 133, 80, 167, 0, 6, 77, 4, 172, 3, 172]
abbrev dktX0_detail_0 : List UInt8 := dkwX0_detail_0 ++ []
theorem dksX0_detail_0 : cX0_detail.data.toList.drop 0 = dktX0_detail_0 := by decide +kernel
theorem dX0_detail_0 : decode cX0_detail 0 = .ok (.aload_n 1, 1) := dk_43 (dk_at dksX0_detail_0 0 rfl rfl)
theorem dX0_detail_1 : decode cX0_detail 1 = .ok (.iconst 0, 1) := dk_3 (dk_at dksX0_detail_0 1 rfl rfl)
theorem dX0_detail_2 : decode cX0_detail 2 = .ok (.aload_n 0, 1) := dk_42 (dk_at dksX0_detail_0 2 rfl rfl)
theorem dX0_detail_3 : decode cX0_detail 3 = .ok (.invokevirtual 101, 3) := dk_182 0 101 (dk_at dksX0_detail_0 3 rfl rfl)
theorem dX0_detail_6 : decode cX0_detail 6 = .ok (.i2l, 1) := dk_133 (dk_at dksX0_detail_0 6 rfl rfl)
theorem dX0_detail_7 : decode cX0_detail 7 = .ok (.lastore, 1) := dk_80 (dk_at dksX0_detail_0 7 rfl rfl)
theorem dX0_detail_8 : decode cX0_detail 8 = .ok (.goto 6, 3) := dk_167 0 6 (dk_at dksX0_detail_0 8 rfl rfl)
theorem dX0_detail_11 : decode cX0_detail 11 = .ok (.astore_n 2, 1) := dk_77 (dk_at dksX0_detail_0 11 rfl rfl)
theorem dX0_detail_12 : decode cX0_detail 12 = .ok (.iconst 1, 1) := dk_4 (dk_at dksX0_detail_0 12 rfl rfl)
theorem dX0_detail_13 : decode cX0_detail 13 = .ok (.ireturn, 1) := dk_172 (dk_at dksX0_detail_0 13 rfl rfl)
theorem dX0_detail_14 : decode cX0_detail 14 = .ok (.iconst 0, 1) := dk_3 (dk_at dksX0_detail_0 14 rfl rfl)
theorem dX0_detail_15 : decode cX0_detail 15 = .ok (.ireturn, 1) := dk_172 (dk_at dksX0_detail_0 15 rfl rfl)
abbrev cX0_meanHeight : ByteArray := method_28_code
def yX0_meanHeight : MethodName := ⟨RX0, "meanHeight", "(LBrambleLogic;[D)I"⟩
def dkwX0_meanHeight_0 : List UInt8 := [43, 3, 42, 182, 0, 104, 82, 167, 0, 6, 77, 4, 172, 3, 172]
abbrev dktX0_meanHeight_0 : List UInt8 := dkwX0_meanHeight_0 ++ []
theorem dksX0_meanHeight_0 : cX0_meanHeight.data.toList.drop 0 = dktX0_meanHeight_0 := by decide +kernel
theorem dX0_meanHeight_0 : decode cX0_meanHeight 0 = .ok (.aload_n 1, 1) := dk_43 (dk_at dksX0_meanHeight_0 0 rfl rfl)
theorem dX0_meanHeight_1 : decode cX0_meanHeight 1 = .ok (.iconst 0, 1) := dk_3 (dk_at dksX0_meanHeight_0 1 rfl rfl)
theorem dX0_meanHeight_2 : decode cX0_meanHeight 2 = .ok (.aload_n 0, 1) := dk_42 (dk_at dksX0_meanHeight_0 2 rfl rfl)
theorem dX0_meanHeight_3 : decode cX0_meanHeight 3 = .ok (.invokevirtual 104, 3) := dk_182 0 104 (dk_at dksX0_meanHeight_0 3 rfl rfl)
theorem dX0_meanHeight_6 : decode cX0_meanHeight 6 = .ok (.dastore, 1) := dk_82 (dk_at dksX0_meanHeight_0 6 rfl rfl)
theorem dX0_meanHeight_7 : decode cX0_meanHeight 7 = .ok (.goto 6, 3) := dk_167 0 6 (dk_at dksX0_meanHeight_0 7 rfl rfl)
theorem dX0_meanHeight_10 : decode cX0_meanHeight 10 = .ok (.astore_n 2, 1) := dk_77 (dk_at dksX0_meanHeight_0 10 rfl rfl)
theorem dX0_meanHeight_11 : decode cX0_meanHeight 11 = .ok (.iconst 1, 1) := dk_4 (dk_at dksX0_meanHeight_0 11 rfl rfl)
theorem dX0_meanHeight_12 : decode cX0_meanHeight 12 = .ok (.ireturn, 1) := dk_172 (dk_at dksX0_meanHeight_0 12 rfl rfl)
theorem dX0_meanHeight_13 : decode cX0_meanHeight 13 = .ok (.iconst 0, 1) := dk_3 (dk_at dksX0_meanHeight_0 13 rfl rfl)
theorem dX0_meanHeight_14 : decode cX0_meanHeight 14 = .ok (.ireturn, 1) := dk_172 (dk_at dksX0_meanHeight_0 14 rfl rfl)
abbrev cX0_derivedShare : ByteArray := method_29_code
def yX0_derivedShare : MethodName := ⟨RX0, "derivedShare", "(LBrambleLogic;[D)I"⟩
def dkwX0_derivedShare_0 : List UInt8 := [43, 3, 42, 182, 0, 110, 141, 82, 167, 0, 6, 77, 4, 172, 3, 172]
abbrev dktX0_derivedShare_0 : List UInt8 := dkwX0_derivedShare_0 ++ []
theorem dksX0_derivedShare_0 : cX0_derivedShare.data.toList.drop 0 = dktX0_derivedShare_0 := by decide +kernel
theorem dX0_derivedShare_0 : decode cX0_derivedShare 0 = .ok (.aload_n 1, 1) := dk_43 (dk_at dksX0_derivedShare_0 0 rfl rfl)
theorem dX0_derivedShare_1 : decode cX0_derivedShare 1 = .ok (.iconst 0, 1) := dk_3 (dk_at dksX0_derivedShare_0 1 rfl rfl)
theorem dX0_derivedShare_2 : decode cX0_derivedShare 2 = .ok (.aload_n 0, 1) := dk_42 (dk_at dksX0_derivedShare_0 2 rfl rfl)
theorem dX0_derivedShare_3 : decode cX0_derivedShare 3 = .ok (.invokevirtual 110, 3) := dk_182 0 110 (dk_at dksX0_derivedShare_0 3 rfl rfl)
theorem dX0_derivedShare_6 : decode cX0_derivedShare 6 = .ok (.f2d, 1) := dk_141 (dk_at dksX0_derivedShare_0 6 rfl rfl)
theorem dX0_derivedShare_7 : decode cX0_derivedShare 7 = .ok (.dastore, 1) := dk_82 (dk_at dksX0_derivedShare_0 7 rfl rfl)
theorem dX0_derivedShare_8 : decode cX0_derivedShare 8 = .ok (.goto 6, 3) := dk_167 0 6 (dk_at dksX0_derivedShare_0 8 rfl rfl)
theorem dX0_derivedShare_11 : decode cX0_derivedShare 11 = .ok (.astore_n 2, 1) := dk_77 (dk_at dksX0_derivedShare_0 11 rfl rfl)
theorem dX0_derivedShare_12 : decode cX0_derivedShare 12 = .ok (.iconst 1, 1) := dk_4 (dk_at dksX0_derivedShare_0 12 rfl rfl)
theorem dX0_derivedShare_13 : decode cX0_derivedShare 13 = .ok (.ireturn, 1) := dk_172 (dk_at dksX0_derivedShare_0 13 rfl rfl)
theorem dX0_derivedShare_14 : decode cX0_derivedShare 14 = .ok (.iconst 0, 1) := dk_3 (dk_at dksX0_derivedShare_0 14 rfl rfl)
theorem dX0_derivedShare_15 : decode cX0_derivedShare 15 = .ok (.ireturn, 1) := dk_172 (dk_at dksX0_derivedShare_0 15 rfl rfl)
abbrev cX0_append : ByteArray := method_30_code
def yX0_append : MethodName := ⟨RX0, "append", "(LBrambleLogic;C[J)I"⟩
def dkwX0_append_0 : List UInt8 := [44, 3, 42, 27, 182, 0, 114, 133, 80, 167, 0, 6, 78, 4, 172, 3, 172]
abbrev dktX0_append_0 : List UInt8 := dkwX0_append_0 ++ []
theorem dksX0_append_0 : cX0_append.data.toList.drop 0 = dktX0_append_0 := by decide +kernel
theorem dX0_append_0 : decode cX0_append 0 = .ok (.aload_n 2, 1) := dk_44 (dk_at dksX0_append_0 0 rfl rfl)
theorem dX0_append_1 : decode cX0_append 1 = .ok (.iconst 0, 1) := dk_3 (dk_at dksX0_append_0 1 rfl rfl)
theorem dX0_append_2 : decode cX0_append 2 = .ok (.aload_n 0, 1) := dk_42 (dk_at dksX0_append_0 2 rfl rfl)
theorem dX0_append_3 : decode cX0_append 3 = .ok (.iload_n 1, 1) := dk_27 (dk_at dksX0_append_0 3 rfl rfl)
theorem dX0_append_4 : decode cX0_append 4 = .ok (.invokevirtual 114, 3) := dk_182 0 114 (dk_at dksX0_append_0 4 rfl rfl)
theorem dX0_append_7 : decode cX0_append 7 = .ok (.i2l, 1) := dk_133 (dk_at dksX0_append_0 7 rfl rfl)
theorem dX0_append_8 : decode cX0_append 8 = .ok (.lastore, 1) := dk_80 (dk_at dksX0_append_0 8 rfl rfl)
theorem dX0_append_9 : decode cX0_append 9 = .ok (.goto 6, 3) := dk_167 0 6 (dk_at dksX0_append_0 9 rfl rfl)
theorem dX0_append_12 : decode cX0_append 12 = .ok (.astore_n 3, 1) := dk_78 (dk_at dksX0_append_0 12 rfl rfl)
theorem dX0_append_13 : decode cX0_append 13 = .ok (.iconst 1, 1) := dk_4 (dk_at dksX0_append_0 13 rfl rfl)
theorem dX0_append_14 : decode cX0_append 14 = .ok (.ireturn, 1) := dk_172 (dk_at dksX0_append_0 14 rfl rfl)
theorem dX0_append_15 : decode cX0_append 15 = .ok (.iconst 0, 1) := dk_3 (dk_at dksX0_append_0 15 rfl rfl)
theorem dX0_append_16 : decode cX0_append 16 = .ok (.ireturn, 1) := dk_172 (dk_at dksX0_append_0 16 rfl rfl)
abbrev cX0_run : ByteArray := method_31_code
def yX0_run : MethodName := ⟨RX0, "run", "(LBrambleLogic;[J)I"⟩
def dkwX0_run_0 : List UInt8 := [43, 3, 42, 182, 0, 117, 133, 80, 167, 0, 9, 77, 4, 172, 77, 5, 172, 3, 172]
abbrev dktX0_run_0 : List UInt8 := dkwX0_run_0 ++ []
theorem dksX0_run_0 : cX0_run.data.toList.drop 0 = dktX0_run_0 := by decide +kernel
theorem dX0_run_0 : decode cX0_run 0 = .ok (.aload_n 1, 1) := dk_43 (dk_at dksX0_run_0 0 rfl rfl)
theorem dX0_run_1 : decode cX0_run 1 = .ok (.iconst 0, 1) := dk_3 (dk_at dksX0_run_0 1 rfl rfl)
theorem dX0_run_2 : decode cX0_run 2 = .ok (.aload_n 0, 1) := dk_42 (dk_at dksX0_run_0 2 rfl rfl)
theorem dX0_run_3 : decode cX0_run 3 = .ok (.invokevirtual 117, 3) := dk_182 0 117 (dk_at dksX0_run_0 3 rfl rfl)
theorem dX0_run_6 : decode cX0_run 6 = .ok (.i2l, 1) := dk_133 (dk_at dksX0_run_0 6 rfl rfl)
theorem dX0_run_7 : decode cX0_run 7 = .ok (.lastore, 1) := dk_80 (dk_at dksX0_run_0 7 rfl rfl)
theorem dX0_run_8 : decode cX0_run 8 = .ok (.goto 9, 3) := dk_167 0 9 (dk_at dksX0_run_0 8 rfl rfl)
theorem dX0_run_11 : decode cX0_run 11 = .ok (.astore_n 2, 1) := dk_77 (dk_at dksX0_run_0 11 rfl rfl)
theorem dX0_run_12 : decode cX0_run 12 = .ok (.iconst 1, 1) := dk_4 (dk_at dksX0_run_0 12 rfl rfl)
theorem dX0_run_13 : decode cX0_run 13 = .ok (.ireturn, 1) := dk_172 (dk_at dksX0_run_0 13 rfl rfl)
theorem dX0_run_14 : decode cX0_run 14 = .ok (.astore_n 2, 1) := dk_77 (dk_at dksX0_run_0 14 rfl rfl)
theorem dX0_run_15 : decode cX0_run 15 = .ok (.iconst 2, 1) := dk_5 (dk_at dksX0_run_0 15 rfl rfl)
theorem dX0_run_16 : decode cX0_run 16 = .ok (.ireturn, 1) := dk_172 (dk_at dksX0_run_0 16 rfl rfl)
theorem dX0_run_17 : decode cX0_run 17 = .ok (.iconst 0, 1) := dk_3 (dk_at dksX0_run_0 17 rfl rfl)
theorem dX0_run_18 : decode cX0_run 18 = .ok (.ireturn, 1) := dk_172 (dk_at dksX0_run_0 18 rfl rfl)
abbrev cX0_errorPosition : ByteArray := method_32_code
def yX0_errorPosition : MethodName := ⟨RX0, "errorPosition", "(LBrambleLogic;[J)I"⟩
def dkwX0_errorPosition_0 : List UInt8 := [43, 3, 42, 182, 0, 120, 133, 80, 167, 0, 6, 77, 4, 172, 3, 172]
abbrev dktX0_errorPosition_0 : List UInt8 := dkwX0_errorPosition_0 ++ []
theorem dksX0_errorPosition_0 : cX0_errorPosition.data.toList.drop 0 = dktX0_errorPosition_0 := by decide +kernel
theorem dX0_errorPosition_0 : decode cX0_errorPosition 0 = .ok (.aload_n 1, 1) := dk_43 (dk_at dksX0_errorPosition_0 0 rfl rfl)
theorem dX0_errorPosition_1 : decode cX0_errorPosition 1 = .ok (.iconst 0, 1) := dk_3 (dk_at dksX0_errorPosition_0 1 rfl rfl)
theorem dX0_errorPosition_2 : decode cX0_errorPosition 2 = .ok (.aload_n 0, 1) := dk_42 (dk_at dksX0_errorPosition_0 2 rfl rfl)
theorem dX0_errorPosition_3 : decode cX0_errorPosition 3 = .ok (.invokevirtual 120, 3) := dk_182 0 120 (dk_at dksX0_errorPosition_0 3 rfl rfl)
theorem dX0_errorPosition_6 : decode cX0_errorPosition 6 = .ok (.i2l, 1) := dk_133 (dk_at dksX0_errorPosition_0 6 rfl rfl)
theorem dX0_errorPosition_7 : decode cX0_errorPosition 7 = .ok (.lastore, 1) := dk_80 (dk_at dksX0_errorPosition_0 7 rfl rfl)
theorem dX0_errorPosition_8 : decode cX0_errorPosition 8 = .ok (.goto 6, 3) := dk_167 0 6 (dk_at dksX0_errorPosition_0 8 rfl rfl)
theorem dX0_errorPosition_11 : decode cX0_errorPosition 11 = .ok (.astore_n 2, 1) := dk_77 (dk_at dksX0_errorPosition_0 11 rfl rfl)
theorem dX0_errorPosition_12 : decode cX0_errorPosition 12 = .ok (.iconst 1, 1) := dk_4 (dk_at dksX0_errorPosition_0 12 rfl rfl)
theorem dX0_errorPosition_13 : decode cX0_errorPosition 13 = .ok (.ireturn, 1) := dk_172 (dk_at dksX0_errorPosition_0 13 rfl rfl)
theorem dX0_errorPosition_14 : decode cX0_errorPosition 14 = .ok (.iconst 0, 1) := dk_3 (dk_at dksX0_errorPosition_0 14 rfl rfl)
theorem dX0_errorPosition_15 : decode cX0_errorPosition 15 = .ok (.ireturn, 1) := dk_172 (dk_at dksX0_errorPosition_0 15 rfl rfl)
abbrev cX0_failedCommand : ByteArray := method_33_code
def yX0_failedCommand : MethodName := ⟨RX0, "failedCommand", "(LBrambleLogic;[J)I"⟩
def dkwX0_failedCommand_0 : List UInt8 := [43, 3, 42, 182, 0, 123, 133, 80, 167, 0, 6, 77, 4, 172, 3, 172]
abbrev dktX0_failedCommand_0 : List UInt8 := dkwX0_failedCommand_0 ++ []
theorem dksX0_failedCommand_0 : cX0_failedCommand.data.toList.drop 0 = dktX0_failedCommand_0 := by decide +kernel
theorem dX0_failedCommand_0 : decode cX0_failedCommand 0 = .ok (.aload_n 1, 1) := dk_43 (dk_at dksX0_failedCommand_0 0 rfl rfl)
theorem dX0_failedCommand_1 : decode cX0_failedCommand 1 = .ok (.iconst 0, 1) := dk_3 (dk_at dksX0_failedCommand_0 1 rfl rfl)
theorem dX0_failedCommand_2 : decode cX0_failedCommand 2 = .ok (.aload_n 0, 1) := dk_42 (dk_at dksX0_failedCommand_0 2 rfl rfl)
theorem dX0_failedCommand_3 : decode cX0_failedCommand 3 = .ok (.invokevirtual 123, 3) := dk_182 0 123 (dk_at dksX0_failedCommand_0 3 rfl rfl)
theorem dX0_failedCommand_6 : decode cX0_failedCommand 6 = .ok (.i2l, 1) := dk_133 (dk_at dksX0_failedCommand_0 6 rfl rfl)
theorem dX0_failedCommand_7 : decode cX0_failedCommand 7 = .ok (.lastore, 1) := dk_80 (dk_at dksX0_failedCommand_0 7 rfl rfl)
theorem dX0_failedCommand_8 : decode cX0_failedCommand 8 = .ok (.goto 6, 3) := dk_167 0 6 (dk_at dksX0_failedCommand_0 8 rfl rfl)
theorem dX0_failedCommand_11 : decode cX0_failedCommand 11 = .ok (.astore_n 2, 1) := dk_77 (dk_at dksX0_failedCommand_0 11 rfl rfl)
theorem dX0_failedCommand_12 : decode cX0_failedCommand 12 = .ok (.iconst 1, 1) := dk_4 (dk_at dksX0_failedCommand_0 12 rfl rfl)
theorem dX0_failedCommand_13 : decode cX0_failedCommand 13 = .ok (.ireturn, 1) := dk_172 (dk_at dksX0_failedCommand_0 13 rfl rfl)
theorem dX0_failedCommand_14 : decode cX0_failedCommand 14 = .ok (.iconst 0, 1) := dk_3 (dk_at dksX0_failedCommand_0 14 rfl rfl)
theorem dX0_failedCommand_15 : decode cX0_failedCommand 15 = .ok (.ireturn, 1) := dk_172 (dk_at dksX0_failedCommand_0 15 rfl rfl)
abbrev cX0_writeRule : ByteArray := method_34_code
def yX0_writeRule : MethodName := ⟨RX0, "writeRule", "(LBrambleLogic;I[J)I"⟩
def dkwX0_writeRule_0 : List UInt8 := [44, 3, 42, 27, 182, 0, 126, 133, 80, 167, 0, 6, 78, 4, 172, 3, 172]
abbrev dktX0_writeRule_0 : List UInt8 := dkwX0_writeRule_0 ++ []
theorem dksX0_writeRule_0 : cX0_writeRule.data.toList.drop 0 = dktX0_writeRule_0 := by decide +kernel
theorem dX0_writeRule_0 : decode cX0_writeRule 0 = .ok (.aload_n 2, 1) := dk_44 (dk_at dksX0_writeRule_0 0 rfl rfl)
theorem dX0_writeRule_1 : decode cX0_writeRule 1 = .ok (.iconst 0, 1) := dk_3 (dk_at dksX0_writeRule_0 1 rfl rfl)
theorem dX0_writeRule_2 : decode cX0_writeRule 2 = .ok (.aload_n 0, 1) := dk_42 (dk_at dksX0_writeRule_0 2 rfl rfl)
theorem dX0_writeRule_3 : decode cX0_writeRule 3 = .ok (.iload_n 1, 1) := dk_27 (dk_at dksX0_writeRule_0 3 rfl rfl)
theorem dX0_writeRule_4 : decode cX0_writeRule 4 = .ok (.invokevirtual 126, 3) := dk_182 0 126 (dk_at dksX0_writeRule_0 4 rfl rfl)
theorem dX0_writeRule_7 : decode cX0_writeRule 7 = .ok (.i2l, 1) := dk_133 (dk_at dksX0_writeRule_0 7 rfl rfl)
theorem dX0_writeRule_8 : decode cX0_writeRule 8 = .ok (.lastore, 1) := dk_80 (dk_at dksX0_writeRule_0 8 rfl rfl)
theorem dX0_writeRule_9 : decode cX0_writeRule 9 = .ok (.goto 6, 3) := dk_167 0 6 (dk_at dksX0_writeRule_0 9 rfl rfl)
theorem dX0_writeRule_12 : decode cX0_writeRule 12 = .ok (.astore_n 3, 1) := dk_78 (dk_at dksX0_writeRule_0 12 rfl rfl)
theorem dX0_writeRule_13 : decode cX0_writeRule 13 = .ok (.iconst 1, 1) := dk_4 (dk_at dksX0_writeRule_0 13 rfl rfl)
theorem dX0_writeRule_14 : decode cX0_writeRule 14 = .ok (.ireturn, 1) := dk_172 (dk_at dksX0_writeRule_0 14 rfl rfl)
theorem dX0_writeRule_15 : decode cX0_writeRule 15 = .ok (.iconst 0, 1) := dk_3 (dk_at dksX0_writeRule_0 15 rfl rfl)
theorem dX0_writeRule_16 : decode cX0_writeRule 16 = .ok (.ireturn, 1) := dk_172 (dk_at dksX0_writeRule_0 16 rfl rfl)
abbrev cX0_writeStep : ByteArray := method_35_code
def yX0_writeStep : MethodName := ⟨RX0, "writeStep", "(LBrambleLogic;CII[J)I"⟩
def dkwX0_writeStep_1 : List UInt8 := [172]
abbrev dktX0_writeStep_1 : List UInt8 := dkwX0_writeStep_1 ++ []
def dkwX0_writeStep_0 : List UInt8 := [25, 4, 3, 42, 27, 28, 29, 182, 0, 129, 133, 80, 167, 0, 11, 58, 5, 4, 172, 58, 5, 5, 172, 3]
abbrev dktX0_writeStep_0 : List UInt8 := dkwX0_writeStep_0 ++ dktX0_writeStep_1
theorem dksX0_writeStep_0 : cX0_writeStep.data.toList.drop 0 = dktX0_writeStep_0 := by decide +kernel
theorem dksX0_writeStep_1 : cX0_writeStep.data.toList.drop 24 = dktX0_writeStep_1 := dk_seg dksX0_writeStep_0 24 rfl rfl
theorem dX0_writeStep_0 : decode cX0_writeStep 0 = .ok (.aload 4, 2) := dk_25 4 (dk_at dksX0_writeStep_0 0 rfl rfl)
theorem dX0_writeStep_2 : decode cX0_writeStep 2 = .ok (.iconst 0, 1) := dk_3 (dk_at dksX0_writeStep_0 2 rfl rfl)
theorem dX0_writeStep_3 : decode cX0_writeStep 3 = .ok (.aload_n 0, 1) := dk_42 (dk_at dksX0_writeStep_0 3 rfl rfl)
theorem dX0_writeStep_4 : decode cX0_writeStep 4 = .ok (.iload_n 1, 1) := dk_27 (dk_at dksX0_writeStep_0 4 rfl rfl)
theorem dX0_writeStep_5 : decode cX0_writeStep 5 = .ok (.iload_n 2, 1) := dk_28 (dk_at dksX0_writeStep_0 5 rfl rfl)
theorem dX0_writeStep_6 : decode cX0_writeStep 6 = .ok (.iload_n 3, 1) := dk_29 (dk_at dksX0_writeStep_0 6 rfl rfl)
theorem dX0_writeStep_7 : decode cX0_writeStep 7 = .ok (.invokevirtual 129, 3) := dk_182 0 129 (dk_at dksX0_writeStep_0 7 rfl rfl)
theorem dX0_writeStep_10 : decode cX0_writeStep 10 = .ok (.i2l, 1) := dk_133 (dk_at dksX0_writeStep_0 10 rfl rfl)
theorem dX0_writeStep_11 : decode cX0_writeStep 11 = .ok (.lastore, 1) := dk_80 (dk_at dksX0_writeStep_0 11 rfl rfl)
theorem dX0_writeStep_12 : decode cX0_writeStep 12 = .ok (.goto 11, 3) := dk_167 0 11 (dk_at dksX0_writeStep_0 12 rfl rfl)
theorem dX0_writeStep_15 : decode cX0_writeStep 15 = .ok (.astore 5, 2) := dk_58 5 (dk_at dksX0_writeStep_0 15 rfl rfl)
theorem dX0_writeStep_17 : decode cX0_writeStep 17 = .ok (.iconst 1, 1) := dk_4 (dk_at dksX0_writeStep_0 17 rfl rfl)
theorem dX0_writeStep_18 : decode cX0_writeStep 18 = .ok (.ireturn, 1) := dk_172 (dk_at dksX0_writeStep_0 18 rfl rfl)
theorem dX0_writeStep_19 : decode cX0_writeStep 19 = .ok (.astore 5, 2) := dk_58 5 (dk_at dksX0_writeStep_0 19 rfl rfl)
theorem dX0_writeStep_21 : decode cX0_writeStep 21 = .ok (.iconst 2, 1) := dk_5 (dk_at dksX0_writeStep_0 21 rfl rfl)
theorem dX0_writeStep_22 : decode cX0_writeStep 22 = .ok (.ireturn, 1) := dk_172 (dk_at dksX0_writeStep_0 22 rfl rfl)
theorem dX0_writeStep_23 : decode cX0_writeStep 23 = .ok (.iconst 0, 1) := dk_3 (dk_at dksX0_writeStep_0 23 rfl rfl)
theorem dX0_writeStep_24 : decode cX0_writeStep 24 = .ok (.ireturn, 1) := dk_172 (dk_at dksX0_writeStep_1 0 rfl rfl)
abbrev cX0_outputAt : ByteArray := method_36_code
def yX0_outputAt : MethodName := ⟨RX0, "outputAt", "(LBrambleLogic;I[J)I"⟩
def dkwX0_outputAt_0 : List UInt8 := [44, 3, 42, 27, 182, 0, 132, 133, 80, 167, 0, 6, 78, 4, 172, 3, 172]
abbrev dktX0_outputAt_0 : List UInt8 := dkwX0_outputAt_0 ++ []
theorem dksX0_outputAt_0 : cX0_outputAt.data.toList.drop 0 = dktX0_outputAt_0 := by decide +kernel
theorem dX0_outputAt_0 : decode cX0_outputAt 0 = .ok (.aload_n 2, 1) := dk_44 (dk_at dksX0_outputAt_0 0 rfl rfl)
theorem dX0_outputAt_1 : decode cX0_outputAt 1 = .ok (.iconst 0, 1) := dk_3 (dk_at dksX0_outputAt_0 1 rfl rfl)
theorem dX0_outputAt_2 : decode cX0_outputAt 2 = .ok (.aload_n 0, 1) := dk_42 (dk_at dksX0_outputAt_0 2 rfl rfl)
theorem dX0_outputAt_3 : decode cX0_outputAt 3 = .ok (.iload_n 1, 1) := dk_27 (dk_at dksX0_outputAt_0 3 rfl rfl)
theorem dX0_outputAt_4 : decode cX0_outputAt 4 = .ok (.invokevirtual 132, 3) := dk_182 0 132 (dk_at dksX0_outputAt_0 4 rfl rfl)
theorem dX0_outputAt_7 : decode cX0_outputAt 7 = .ok (.i2l, 1) := dk_133 (dk_at dksX0_outputAt_0 7 rfl rfl)
theorem dX0_outputAt_8 : decode cX0_outputAt 8 = .ok (.lastore, 1) := dk_80 (dk_at dksX0_outputAt_0 8 rfl rfl)
theorem dX0_outputAt_9 : decode cX0_outputAt 9 = .ok (.goto 6, 3) := dk_167 0 6 (dk_at dksX0_outputAt_0 9 rfl rfl)
theorem dX0_outputAt_12 : decode cX0_outputAt 12 = .ok (.astore_n 3, 1) := dk_78 (dk_at dksX0_outputAt_0 12 rfl rfl)
theorem dX0_outputAt_13 : decode cX0_outputAt 13 = .ok (.iconst 1, 1) := dk_4 (dk_at dksX0_outputAt_0 13 rfl rfl)
theorem dX0_outputAt_14 : decode cX0_outputAt 14 = .ok (.ireturn, 1) := dk_172 (dk_at dksX0_outputAt_0 14 rfl rfl)
theorem dX0_outputAt_15 : decode cX0_outputAt 15 = .ok (.iconst 0, 1) := dk_3 (dk_at dksX0_outputAt_0 15 rfl rfl)
theorem dX0_outputAt_16 : decode cX0_outputAt 16 = .ok (.ireturn, 1) := dk_172 (dk_at dksX0_outputAt_0 16 rfl rfl)
abbrev cX0_undo : ByteArray := method_37_code
def yX0_undo : MethodName := ⟨RX0, "undo", "(LBrambleLogic;[J)I"⟩
def dkwX0_undo_0 : List UInt8 := [43, 3, 42, 182, 0, 136, 133, 80, 167, 0, 6, 77, 4, 172, 3, 172]
abbrev dktX0_undo_0 : List UInt8 := dkwX0_undo_0 ++ []
theorem dksX0_undo_0 : cX0_undo.data.toList.drop 0 = dktX0_undo_0 := by decide +kernel
theorem dX0_undo_0 : decode cX0_undo 0 = .ok (.aload_n 1, 1) := dk_43 (dk_at dksX0_undo_0 0 rfl rfl)
theorem dX0_undo_1 : decode cX0_undo 1 = .ok (.iconst 0, 1) := dk_3 (dk_at dksX0_undo_0 1 rfl rfl)
theorem dX0_undo_2 : decode cX0_undo 2 = .ok (.aload_n 0, 1) := dk_42 (dk_at dksX0_undo_0 2 rfl rfl)
theorem dX0_undo_3 : decode cX0_undo 3 = .ok (.invokevirtual 136, 3) := dk_182 0 136 (dk_at dksX0_undo_0 3 rfl rfl)
theorem dX0_undo_6 : decode cX0_undo 6 = .ok (.i2l, 1) := dk_133 (dk_at dksX0_undo_0 6 rfl rfl)
theorem dX0_undo_7 : decode cX0_undo 7 = .ok (.lastore, 1) := dk_80 (dk_at dksX0_undo_0 7 rfl rfl)
theorem dX0_undo_8 : decode cX0_undo 8 = .ok (.goto 6, 3) := dk_167 0 6 (dk_at dksX0_undo_0 8 rfl rfl)
theorem dX0_undo_11 : decode cX0_undo 11 = .ok (.astore_n 2, 1) := dk_77 (dk_at dksX0_undo_0 11 rfl rfl)
theorem dX0_undo_12 : decode cX0_undo 12 = .ok (.iconst 1, 1) := dk_4 (dk_at dksX0_undo_0 12 rfl rfl)
theorem dX0_undo_13 : decode cX0_undo 13 = .ok (.ireturn, 1) := dk_172 (dk_at dksX0_undo_0 13 rfl rfl)
theorem dX0_undo_14 : decode cX0_undo 14 = .ok (.iconst 0, 1) := dk_3 (dk_at dksX0_undo_0 14 rfl rfl)
theorem dX0_undo_15 : decode cX0_undo 15 = .ok (.ireturn, 1) := dk_172 (dk_at dksX0_undo_0 15 rfl rfl)
abbrev cX0_restore : ByteArray := method_38_code
def yX0_restore : MethodName := ⟨RX0, "restore", "(LBrambleLogic;)I"⟩
def dkwX0_restore_0 : List UInt8 := [42, 182, 0, 139, 167, 0, 6, 76, 4, 172, 3, 172]
abbrev dktX0_restore_0 : List UInt8 := dkwX0_restore_0 ++ []
theorem dksX0_restore_0 : cX0_restore.data.toList.drop 0 = dktX0_restore_0 := by decide +kernel
theorem dX0_restore_0 : decode cX0_restore 0 = .ok (.aload_n 0, 1) := dk_42 (dk_at dksX0_restore_0 0 rfl rfl)
theorem dX0_restore_1 : decode cX0_restore 1 = .ok (.invokevirtual 139, 3) := dk_182 0 139 (dk_at dksX0_restore_0 1 rfl rfl)
theorem dX0_restore_4 : decode cX0_restore 4 = .ok (.goto 6, 3) := dk_167 0 6 (dk_at dksX0_restore_0 4 rfl rfl)
theorem dX0_restore_7 : decode cX0_restore 7 = .ok (.astore_n 1, 1) := dk_76 (dk_at dksX0_restore_0 7 rfl rfl)
theorem dX0_restore_8 : decode cX0_restore 8 = .ok (.iconst 1, 1) := dk_4 (dk_at dksX0_restore_0 8 rfl rfl)
theorem dX0_restore_9 : decode cX0_restore 9 = .ok (.ireturn, 1) := dk_172 (dk_at dksX0_restore_0 9 rfl rfl)
theorem dX0_restore_10 : decode cX0_restore 10 = .ok (.iconst 0, 1) := dk_3 (dk_at dksX0_restore_0 10 rfl rfl)
theorem dX0_restore_11 : decode cX0_restore 11 = .ok (.ireturn, 1) := dk_172 (dk_at dksX0_restore_0 11 rfl rfl)
theorem q107 : (Jvm.Cond.initialized "BrambleLogicLaw") ∈ lw_all := lw_g (lw_at lw_m1 0 rfl) rfl
theorem q167 : (Jvm.Cond.classLink "BrambleLogicLaw" (8 : Nat) "BrambleLogic") ∈ lw_all := lw_g (lw_at lw_m1 60 rfl) rfl
theorem q169 : (Jvm.Cond.methodLink "BrambleLogicLaw" (142 : Nat) ({ cls := "BrambleLogic", name := "<init>", desc := "()V" } : Jvm.MethodName)) ∈ lw_all := lw_g (lw_at lw_m1 62 rfl) rfl
theorem q346 : (Jvm.Cond.methodLink "BrambleLogicLaw" (162 : Nat) ({ cls := "BrambleLogic", name := "givenCount", desc := "()I" } : Jvm.MethodName)) ∈ lw_all := lw_g (lw_at lw_m1 239 rfl) rfl
theorem q364 : (Jvm.Cond.methodLink "BrambleLogicLaw" (179 : Nat) ({ cls := "BrambleLogic", name := "allTrue", desc := "()I" } : Jvm.MethodName)) ∈ lw_all := lw_g (lw_at lw_m2 17 rfl) rfl
theorem q875 : (Jvm.Cond.methodLink "BrambleLogicLaw" (215 : Nat) ({ cls := "BrambleLogic", name := "ruleCount", desc := "()I" } : Jvm.MethodName)) ∈ lw_all := lw_g (lw_at lw_m4 48 rfl) rfl
theorem q881 : (Jvm.Cond.methodLink "BrambleLogicLaw" (238 : Nat) ({ cls := "BrambleLogic", name := "givenByAccounts", desc := "()I" } : Jvm.MethodName)) ∈ lw_all := lw_g (lw_at lw_m4 54 rfl) rfl
theorem q889 : (Jvm.Cond.methodLink "BrambleLogicLaw" (256 : Nat) ({ cls := "BrambleLogic", name := "isConsistent", desc := "()Z" } : Jvm.MethodName)) ∈ lw_all := lw_g (lw_at lw_m4 62 rfl) rfl
theorem q1202 : (Jvm.Cond.methodLink "BrambleLogicLaw" (279 : Nat) ({ cls := "BrambleLogic", name := "writeGiven", desc := "()I" } : Jvm.MethodName)) ∈ lw_all := lw_g (lw_at lw_m5 135 rfl) rfl
theorem q1455 : (Jvm.Cond.methodLink "BrambleLogicLaw" (289 : Nat) ({ cls := "BrambleLogic", name := "save", desc := "()V" } : Jvm.MethodName)) ∈ lw_all := lw_g (lw_at lw_m6 148 rfl) rfl
theorem q1459 : (Jvm.Cond.methodLink "BrambleLogicLaw" (146 : Nat) ({ cls := "BrambleLogicLaw", name := "addFact", desc := "(LBrambleLogic;CII[J)I" } : Jvm.MethodName)) ∈ lw_all := lw_g (lw_at lw_m6 152 rfl) rfl
theorem q1460 : (Jvm.Cond.static ({ cls := "BrambleLogicLaw", name := "addFact", desc := "(LBrambleLogic;CII[J)I" } : Jvm.MethodName)) ∈ lw_all := lw_g (lw_at lw_m6 153 rfl) rfl
theorem q1461 : (Jvm.Cond.codeWith ({ cls := "BrambleLogicLaw", name := "addFact", desc := "(LBrambleLogic;CII[J)I" } : Jvm.MethodName) method_3_code (6 : Nat) (Option.some Jvm.ClassFile.FieldType.int) [((0 : Nat), (12 : Nat), (15 : Nat), (13 : Nat)), ((0 : Nat), (12 : Nat), (19 : Nat), (15 : Nat)), ((0 : Nat), (12 : Nat), (23 : Nat), (17 : Nat))]) ∈ lw_all := lw_g (lw_at lw_m6 154 rfl) rfl
theorem q1462 : (Jvm.Cond.classLink "BrambleLogicLaw" (13 : Nat) "java/lang/IllegalArgumentException") ∈ lw_all := lw_g (lw_at lw_m6 155 rfl) rfl
theorem q1463 : (Jvm.Cond.classLink "BrambleLogicLaw" (15 : Nat) "java/lang/UnsupportedOperationException") ∈ lw_all := lw_g (lw_at lw_m6 156 rfl) rfl
theorem q1464 : (Jvm.Cond.classLink "BrambleLogicLaw" (17 : Nat) "java/lang/IllegalStateException") ∈ lw_all := lw_g (lw_at lw_m6 157 rfl) rfl
theorem q1465 : (Jvm.Cond.methodLink "BrambleLogicLaw" (7 : Nat) ({ cls := "BrambleLogic", name := "addFact", desc := "(CII)I" } : Jvm.MethodName)) ∈ lw_all := lw_g (lw_at lw_m6 158 rfl) rfl
theorem q1639 : (Jvm.Cond.methodLink "BrambleLogicLaw" (155 : Nat) ({ cls := "BrambleLogicLaw", name := "takeFact", desc := "(LBrambleLogic;CII[J)I" } : Jvm.MethodName)) ∈ lw_all := lw_g (lw_at lw_m7 92 rfl) rfl
theorem q1640 : (Jvm.Cond.static ({ cls := "BrambleLogicLaw", name := "takeFact", desc := "(LBrambleLogic;CII[J)I" } : Jvm.MethodName)) ∈ lw_all := lw_g (lw_at lw_m7 93 rfl) rfl
theorem q1641 : (Jvm.Cond.codeWith ({ cls := "BrambleLogicLaw", name := "takeFact", desc := "(LBrambleLogic;CII[J)I" } : Jvm.MethodName) method_4_code (6 : Nat) (Option.some Jvm.ClassFile.FieldType.int) [((0 : Nat), (12 : Nat), (15 : Nat), (13 : Nat)), ((0 : Nat), (12 : Nat), (19 : Nat), (22 : Nat))]) ∈ lw_all := lw_g (lw_at lw_m7 94 rfl) rfl
theorem q1642 : (Jvm.Cond.classLink "BrambleLogicLaw" (22 : Nat) "java/util/NoSuchElementException") ∈ lw_all := lw_g (lw_at lw_m7 95 rfl) rfl
theorem q1643 : (Jvm.Cond.methodLink "BrambleLogicLaw" (19 : Nat) ({ cls := "BrambleLogic", name := "takeFact", desc := "(CII)I" } : Jvm.MethodName)) ∈ lw_all := lw_g (lw_at lw_m7 96 rfl) rfl
theorem q1670 : (Jvm.Cond.methodLink "BrambleLogicLaw" (158 : Nat) ({ cls := "BrambleLogicLaw", name := "dropRule", desc := "(LBrambleLogic;I[J)I" } : Jvm.MethodName)) ∈ lw_all := lw_g (lw_at lw_m7 123 rfl) rfl
theorem q1671 : (Jvm.Cond.static ({ cls := "BrambleLogicLaw", name := "dropRule", desc := "(LBrambleLogic;I[J)I" } : Jvm.MethodName)) ∈ lw_all := lw_g (lw_at lw_m7 124 rfl) rfl
theorem q1672 : (Jvm.Cond.codeWith ({ cls := "BrambleLogicLaw", name := "dropRule", desc := "(LBrambleLogic;I[J)I" } : Jvm.MethodName) method_5_code (4 : Nat) (Option.some Jvm.ClassFile.FieldType.int) [((0 : Nat), (9 : Nat), (12 : Nat), (28 : Nat))]) ∈ lw_all := lw_g (lw_at lw_m7 125 rfl) rfl
theorem q1673 : (Jvm.Cond.classLink "BrambleLogicLaw" (28 : Nat) "java/lang/IndexOutOfBoundsException") ∈ lw_all := lw_g (lw_at lw_m7 126 rfl) rfl
theorem q1692 : (Jvm.Cond.methodLink "BrambleLogicLaw" (24 : Nat) ({ cls := "BrambleLogic", name := "dropRule", desc := "(I)I" } : Jvm.MethodName)) ∈ lw_all := lw_g (lw_at lw_m7 145 rfl) rfl
theorem q1733 : (Jvm.Cond.methodLink "BrambleLogicLaw" (166 : Nat) ({ cls := "BrambleLogicLaw", name := "isGiven", desc := "(LBrambleLogic;CII[J)I" } : Jvm.MethodName)) ∈ lw_all := lw_g (lw_at lw_m7 186 rfl) rfl
theorem q1734 : (Jvm.Cond.static ({ cls := "BrambleLogicLaw", name := "isGiven", desc := "(LBrambleLogic;CII[J)I" } : Jvm.MethodName)) ∈ lw_all := lw_g (lw_at lw_m7 187 rfl) rfl
theorem q1735 : (Jvm.Cond.codeWith ({ cls := "BrambleLogicLaw", name := "isGiven", desc := "(LBrambleLogic;CII[J)I" } : Jvm.MethodName) method_6_code (6 : Nat) (Option.some Jvm.ClassFile.FieldType.int) [((0 : Nat), (19 : Nat), (22 : Nat), (13 : Nat))]) ∈ lw_all := lw_g (lw_at lw_m7 188 rfl) rfl
theorem q1736 : (Jvm.Cond.methodLink "BrambleLogicLaw" (30 : Nat) ({ cls := "BrambleLogic", name := "isGiven", desc := "(CII)Z" } : Jvm.MethodName)) ∈ lw_all := lw_g (lw_at lw_m7 189 rfl) rfl
theorem q1742 : (Jvm.Cond.methodLink "BrambleLogicLaw" (169 : Nat) ({ cls := "BrambleLogicLaw", name := "isTrue", desc := "(LBrambleLogic;CII[J)I" } : Jvm.MethodName)) ∈ lw_all := lw_g (lw_at lw_m7 195 rfl) rfl
theorem q1743 : (Jvm.Cond.static ({ cls := "BrambleLogicLaw", name := "isTrue", desc := "(LBrambleLogic;CII[J)I" } : Jvm.MethodName)) ∈ lw_all := lw_g (lw_at lw_m7 196 rfl) rfl
theorem q1744 : (Jvm.Cond.codeWith ({ cls := "BrambleLogicLaw", name := "isTrue", desc := "(LBrambleLogic;CII[J)I" } : Jvm.MethodName) method_7_code (6 : Nat) (Option.some Jvm.ClassFile.FieldType.int) [((0 : Nat), (19 : Nat), (22 : Nat), (13 : Nat))]) ∈ lw_all := lw_g (lw_at lw_m7 197 rfl) rfl
theorem q1745 : (Jvm.Cond.methodLink "BrambleLogicLaw" (34 : Nat) ({ cls := "BrambleLogic", name := "isTrue", desc := "(CII)Z" } : Jvm.MethodName)) ∈ lw_all := lw_g (lw_at lw_m7 198 rfl) rfl
theorem q1749 : (Jvm.Cond.methodLink "BrambleLogicLaw" (172 : Nat) ({ cls := "BrambleLogicLaw", name := "isTrueByTrying", desc := "(LBrambleLogic;CII[J)I" } : Jvm.MethodName)) ∈ lw_all := lw_g (lw_at lw_m7 202 rfl) rfl
theorem q1750 : (Jvm.Cond.static ({ cls := "BrambleLogicLaw", name := "isTrueByTrying", desc := "(LBrambleLogic;CII[J)I" } : Jvm.MethodName)) ∈ lw_all := lw_g (lw_at lw_m7 203 rfl) rfl
theorem q1751 : (Jvm.Cond.codeWith ({ cls := "BrambleLogicLaw", name := "isTrueByTrying", desc := "(LBrambleLogic;CII[J)I" } : Jvm.MethodName) method_8_code (6 : Nat) (Option.some Jvm.ClassFile.FieldType.int) [((0 : Nat), (19 : Nat), (22 : Nat), (13 : Nat))]) ∈ lw_all := lw_g (lw_at lw_m7 204 rfl) rfl
theorem q1752 : (Jvm.Cond.methodLink "BrambleLogicLaw" (37 : Nat) ({ cls := "BrambleLogic", name := "isTrueByTrying", desc := "(CII)Z" } : Jvm.MethodName)) ∈ lw_all := lw_g (lw_at lw_m7 205 rfl) rfl
theorem q1757 : (Jvm.Cond.methodLink "BrambleLogicLaw" (175 : Nat) ({ cls := "BrambleLogicLaw", name := "trueCount", desc := "(LBrambleLogic;C[J)I" } : Jvm.MethodName)) ∈ lw_all := lw_g (lw_at lw_m7 210 rfl) rfl
theorem q1758 : (Jvm.Cond.static ({ cls := "BrambleLogicLaw", name := "trueCount", desc := "(LBrambleLogic;C[J)I" } : Jvm.MethodName)) ∈ lw_all := lw_g (lw_at lw_m7 211 rfl) rfl
theorem q1759 : (Jvm.Cond.codeWith ({ cls := "BrambleLogicLaw", name := "trueCount", desc := "(LBrambleLogic;C[J)I" } : Jvm.MethodName) method_9_code (4 : Nat) (Option.some Jvm.ClassFile.FieldType.int) [((0 : Nat), (9 : Nat), (12 : Nat), (13 : Nat))]) ∈ lw_all := lw_g (lw_at lw_m7 212 rfl) rfl
theorem q1760 : (Jvm.Cond.methodLink "BrambleLogicLaw" (40 : Nat) ({ cls := "BrambleLogic", name := "trueCount", desc := "(C)I" } : Jvm.MethodName)) ∈ lw_all := lw_g (lw_at lw_m7 213 rfl) rfl
theorem q1765 : (Jvm.Cond.methodLink "BrambleLogicLaw" (183 : Nat) ({ cls := "BrambleLogicLaw", name := "gainedWithout", desc := "(LBrambleLogic;CII[J)I" } : Jvm.MethodName)) ∈ lw_all := lw_g (lw_at lw_m7 218 rfl) rfl
theorem q1766 : (Jvm.Cond.static ({ cls := "BrambleLogicLaw", name := "gainedWithout", desc := "(LBrambleLogic;CII[J)I" } : Jvm.MethodName)) ∈ lw_all := lw_g (lw_at lw_m7 219 rfl) rfl
theorem q1767 : (Jvm.Cond.codeWith ({ cls := "BrambleLogicLaw", name := "gainedWithout", desc := "(LBrambleLogic;CII[J)I" } : Jvm.MethodName) method_10_code (6 : Nat) (Option.some Jvm.ClassFile.FieldType.int) [((0 : Nat), (12 : Nat), (15 : Nat), (13 : Nat)), ((0 : Nat), (12 : Nat), (19 : Nat), (22 : Nat))]) ∈ lw_all := lw_g (lw_at lw_m7 220 rfl) rfl
theorem q1768 : (Jvm.Cond.methodLink "BrambleLogicLaw" (44 : Nat) ({ cls := "BrambleLogic", name := "gainedWithout", desc := "(CII)I" } : Jvm.MethodName)) ∈ lw_all := lw_g (lw_at lw_m7 221 rfl) rfl
theorem q1774 : (Jvm.Cond.methodLink "BrambleLogicLaw" (186 : Nat) ({ cls := "BrambleLogicLaw", name := "constantAtRank", desc := "(LBrambleLogic;CI[J)I" } : Jvm.MethodName)) ∈ lw_all := lw_g (lw_at lw_m7 227 rfl) rfl
theorem q1775 : (Jvm.Cond.static ({ cls := "BrambleLogicLaw", name := "constantAtRank", desc := "(LBrambleLogic;CI[J)I" } : Jvm.MethodName)) ∈ lw_all := lw_g (lw_at lw_m7 228 rfl) rfl
theorem q1776 : (Jvm.Cond.codeWith ({ cls := "BrambleLogicLaw", name := "constantAtRank", desc := "(LBrambleLogic;CI[J)I" } : Jvm.MethodName) method_11_code (5 : Nat) (Option.some Jvm.ClassFile.FieldType.int) [((0 : Nat), (10 : Nat), (13 : Nat), (13 : Nat)), ((0 : Nat), (10 : Nat), (17 : Nat), (22 : Nat))]) ∈ lw_all := lw_g (lw_at lw_m7 229 rfl) rfl
theorem q1777 : (Jvm.Cond.methodLink "BrambleLogicLaw" (47 : Nat) ({ cls := "BrambleLogic", name := "constantAtRank", desc := "(CI)I" } : Jvm.MethodName)) ∈ lw_all := lw_g (lw_at lw_m7 230 rfl) rfl
theorem q1794 : (Jvm.Cond.methodLink "BrambleLogicLaw" (190 : Nat) ({ cls := "BrambleLogicLaw", name := "greatest", desc := "(LBrambleLogic;C[J)I" } : Jvm.MethodName)) ∈ lw_all := lw_g (lw_at lw_m8 7 rfl) rfl
theorem q1795 : (Jvm.Cond.static ({ cls := "BrambleLogicLaw", name := "greatest", desc := "(LBrambleLogic;C[J)I" } : Jvm.MethodName)) ∈ lw_all := lw_g (lw_at lw_m8 8 rfl) rfl
theorem q1796 : (Jvm.Cond.codeWith ({ cls := "BrambleLogicLaw", name := "greatest", desc := "(LBrambleLogic;C[J)I" } : Jvm.MethodName) method_12_code (4 : Nat) (Option.some Jvm.ClassFile.FieldType.int) [((0 : Nat), (9 : Nat), (12 : Nat), (13 : Nat)), ((0 : Nat), (9 : Nat), (15 : Nat), (22 : Nat))]) ∈ lw_all := lw_g (lw_at lw_m8 9 rfl) rfl
theorem q1797 : (Jvm.Cond.methodLink "BrambleLogicLaw" (51 : Nat) ({ cls := "BrambleLogic", name := "greatest", desc := "(C)I" } : Jvm.MethodName)) ∈ lw_all := lw_g (lw_at lw_m8 10 rfl) rfl
theorem q1806 : (Jvm.Cond.methodLink "BrambleLogicLaw" (193 : Nat) ({ cls := "BrambleLogicLaw", name := "height", desc := "(LBrambleLogic;CII[J)I" } : Jvm.MethodName)) ∈ lw_all := lw_g (lw_at lw_m8 19 rfl) rfl
theorem q1807 : (Jvm.Cond.static ({ cls := "BrambleLogicLaw", name := "height", desc := "(LBrambleLogic;CII[J)I" } : Jvm.MethodName)) ∈ lw_all := lw_g (lw_at lw_m8 20 rfl) rfl
theorem q1808 : (Jvm.Cond.codeWith ({ cls := "BrambleLogicLaw", name := "height", desc := "(LBrambleLogic;CII[J)I" } : Jvm.MethodName) method_13_code (6 : Nat) (Option.some Jvm.ClassFile.FieldType.int) [((0 : Nat), (12 : Nat), (15 : Nat), (13 : Nat)), ((0 : Nat), (12 : Nat), (19 : Nat), (22 : Nat))]) ∈ lw_all := lw_g (lw_at lw_m8 21 rfl) rfl
theorem q1809 : (Jvm.Cond.methodLink "BrambleLogicLaw" (54 : Nat) ({ cls := "BrambleLogic", name := "height", desc := "(CII)I" } : Jvm.MethodName)) ∈ lw_all := lw_g (lw_at lw_m8 22 rfl) rfl
theorem q1824 : (Jvm.Cond.methodLink "BrambleLogicLaw" (196 : Nat) ({ cls := "BrambleLogicLaw", name := "heightByLevels", desc := "(LBrambleLogic;CII[J)I" } : Jvm.MethodName)) ∈ lw_all := lw_g (lw_at lw_m8 37 rfl) rfl
theorem q1825 : (Jvm.Cond.static ({ cls := "BrambleLogicLaw", name := "heightByLevels", desc := "(LBrambleLogic;CII[J)I" } : Jvm.MethodName)) ∈ lw_all := lw_g (lw_at lw_m8 38 rfl) rfl
theorem q1826 : (Jvm.Cond.codeWith ({ cls := "BrambleLogicLaw", name := "heightByLevels", desc := "(LBrambleLogic;CII[J)I" } : Jvm.MethodName) method_14_code (6 : Nat) (Option.some Jvm.ClassFile.FieldType.int) [((0 : Nat), (12 : Nat), (15 : Nat), (13 : Nat)), ((0 : Nat), (12 : Nat), (19 : Nat), (22 : Nat))]) ∈ lw_all := lw_g (lw_at lw_m8 39 rfl) rfl
theorem q1827 : (Jvm.Cond.methodLink "BrambleLogicLaw" (57 : Nat) ({ cls := "BrambleLogic", name := "heightByLevels", desc := "(CII)I" } : Jvm.MethodName)) ∈ lw_all := lw_g (lw_at lw_m8 40 rfl) rfl
theorem q1832 : (Jvm.Cond.methodLink "BrambleLogicLaw" (199 : Nat) ({ cls := "BrambleLogicLaw", name := "ruleOf", desc := "(LBrambleLogic;CII[J)I" } : Jvm.MethodName)) ∈ lw_all := lw_g (lw_at lw_m8 45 rfl) rfl
theorem q1833 : (Jvm.Cond.static ({ cls := "BrambleLogicLaw", name := "ruleOf", desc := "(LBrambleLogic;CII[J)I" } : Jvm.MethodName)) ∈ lw_all := lw_g (lw_at lw_m8 46 rfl) rfl
theorem q1834 : (Jvm.Cond.codeWith ({ cls := "BrambleLogicLaw", name := "ruleOf", desc := "(LBrambleLogic;CII[J)I" } : Jvm.MethodName) method_15_code (6 : Nat) (Option.some Jvm.ClassFile.FieldType.int) [((0 : Nat), (12 : Nat), (15 : Nat), (13 : Nat)), ((0 : Nat), (12 : Nat), (19 : Nat), (22 : Nat))]) ∈ lw_all := lw_g (lw_at lw_m8 47 rfl) rfl
theorem q1835 : (Jvm.Cond.methodLink "BrambleLogicLaw" (60 : Nat) ({ cls := "BrambleLogic", name := "ruleOf", desc := "(CII)I" } : Jvm.MethodName)) ∈ lw_all := lw_g (lw_at lw_m8 48 rfl) rfl
theorem q1897 : (Jvm.Cond.methodLink "BrambleLogicLaw" (202 : Nat) ({ cls := "BrambleLogicLaw", name := "proofSize", desc := "(LBrambleLogic;CII[J)I" } : Jvm.MethodName)) ∈ lw_all := lw_g (lw_at lw_m8 110 rfl) rfl
theorem q1898 : (Jvm.Cond.static ({ cls := "BrambleLogicLaw", name := "proofSize", desc := "(LBrambleLogic;CII[J)I" } : Jvm.MethodName)) ∈ lw_all := lw_g (lw_at lw_m8 111 rfl) rfl
theorem q1899 : (Jvm.Cond.codeWith ({ cls := "BrambleLogicLaw", name := "proofSize", desc := "(LBrambleLogic;CII[J)I" } : Jvm.MethodName) method_16_code (6 : Nat) (Option.some Jvm.ClassFile.FieldType.int) [((0 : Nat), (11 : Nat), (14 : Nat), (13 : Nat)), ((0 : Nat), (11 : Nat), (18 : Nat), (22 : Nat))]) ∈ lw_all := lw_g (lw_at lw_m8 112 rfl) rfl
theorem q1900 : (Jvm.Cond.methodLink "BrambleLogicLaw" (63 : Nat) ({ cls := "BrambleLogic", name := "proofSize", desc := "(CII)J" } : Jvm.MethodName)) ∈ lw_all := lw_g (lw_at lw_m8 113 rfl) rfl
theorem q1917 : (Jvm.Cond.methodLink "BrambleLogicLaw" (205 : Nat) ({ cls := "BrambleLogicLaw", name := "answers", desc := "(LBrambleLogic;CII[J)I" } : Jvm.MethodName)) ∈ lw_all := lw_g (lw_at lw_m8 130 rfl) rfl
theorem q1918 : (Jvm.Cond.static ({ cls := "BrambleLogicLaw", name := "answers", desc := "(LBrambleLogic;CII[J)I" } : Jvm.MethodName)) ∈ lw_all := lw_g (lw_at lw_m8 131 rfl) rfl
theorem q1919 : (Jvm.Cond.codeWith ({ cls := "BrambleLogicLaw", name := "answers", desc := "(LBrambleLogic;CII[J)I" } : Jvm.MethodName) method_17_code (6 : Nat) (Option.some Jvm.ClassFile.FieldType.int) [((0 : Nat), (12 : Nat), (15 : Nat), (13 : Nat))]) ∈ lw_all := lw_g (lw_at lw_m8 132 rfl) rfl
theorem q1920 : (Jvm.Cond.methodLink "BrambleLogicLaw" (67 : Nat) ({ cls := "BrambleLogic", name := "answers", desc := "(CII)I" } : Jvm.MethodName)) ∈ lw_all := lw_g (lw_at lw_m8 133 rfl) rfl
theorem q1934 : (Jvm.Cond.methodLink "BrambleLogicLaw" (208 : Nat) ({ cls := "BrambleLogicLaw", name := "answersByGoals", desc := "(LBrambleLogic;CII[J)I" } : Jvm.MethodName)) ∈ lw_all := lw_g (lw_at lw_m8 147 rfl) rfl
theorem q1935 : (Jvm.Cond.static ({ cls := "BrambleLogicLaw", name := "answersByGoals", desc := "(LBrambleLogic;CII[J)I" } : Jvm.MethodName)) ∈ lw_all := lw_g (lw_at lw_m8 148 rfl) rfl
theorem q1936 : (Jvm.Cond.codeWith ({ cls := "BrambleLogicLaw", name := "answersByGoals", desc := "(LBrambleLogic;CII[J)I" } : Jvm.MethodName) method_18_code (6 : Nat) (Option.some Jvm.ClassFile.FieldType.int) [((0 : Nat), (12 : Nat), (15 : Nat), (13 : Nat))]) ∈ lw_all := lw_g (lw_at lw_m8 149 rfl) rfl
theorem q1937 : (Jvm.Cond.methodLink "BrambleLogicLaw" (70 : Nat) ({ cls := "BrambleLogic", name := "answersByGoals", desc := "(CII)I" } : Jvm.MethodName)) ∈ lw_all := lw_g (lw_at lw_m8 150 rfl) rfl
theorem q1944 : (Jvm.Cond.methodLink "BrambleLogicLaw" (211 : Nat) ({ cls := "BrambleLogicLaw", name := "answerAt", desc := "(LBrambleLogic;CIII[J)I" } : Jvm.MethodName)) ∈ lw_all := lw_g (lw_at lw_m8 157 rfl) rfl
theorem q1945 : (Jvm.Cond.static ({ cls := "BrambleLogicLaw", name := "answerAt", desc := "(LBrambleLogic;CIII[J)I" } : Jvm.MethodName)) ∈ lw_all := lw_g (lw_at lw_m8 158 rfl) rfl
theorem q1946 : (Jvm.Cond.codeWith ({ cls := "BrambleLogicLaw", name := "answerAt", desc := "(LBrambleLogic;CIII[J)I" } : Jvm.MethodName) method_19_code (7 : Nat) (Option.some Jvm.ClassFile.FieldType.int) [((0 : Nat), (14 : Nat), (17 : Nat), (13 : Nat)), ((0 : Nat), (14 : Nat), (21 : Nat), (22 : Nat))]) ∈ lw_all := lw_g (lw_at lw_m8 159 rfl) rfl
theorem q1947 : (Jvm.Cond.methodLink "BrambleLogicLaw" (73 : Nat) ({ cls := "BrambleLogic", name := "answerAt", desc := "(CIII)I" } : Jvm.MethodName)) ∈ lw_all := lw_g (lw_at lw_m8 160 rfl) rfl
theorem q1955 : (Jvm.Cond.methodLink "BrambleLogicLaw" (219 : Nat) ({ cls := "BrambleLogicLaw", name := "variables", desc := "(LBrambleLogic;I[J)I" } : Jvm.MethodName)) ∈ lw_all := lw_g (lw_at lw_m8 168 rfl) rfl
theorem q1956 : (Jvm.Cond.static ({ cls := "BrambleLogicLaw", name := "variables", desc := "(LBrambleLogic;I[J)I" } : Jvm.MethodName)) ∈ lw_all := lw_g (lw_at lw_m8 169 rfl) rfl
theorem q1957 : (Jvm.Cond.codeWith ({ cls := "BrambleLogicLaw", name := "variables", desc := "(LBrambleLogic;I[J)I" } : Jvm.MethodName) method_20_code (4 : Nat) (Option.some Jvm.ClassFile.FieldType.int) [((0 : Nat), (9 : Nat), (12 : Nat), (28 : Nat))]) ∈ lw_all := lw_g (lw_at lw_m8 170 rfl) rfl
theorem q1958 : (Jvm.Cond.methodLink "BrambleLogicLaw" (77 : Nat) ({ cls := "BrambleLogic", name := "variables", desc := "(I)I" } : Jvm.MethodName)) ∈ lw_all := lw_g (lw_at lw_m8 171 rfl) rfl
theorem q1971 : (Jvm.Cond.methodLink "BrambleLogicLaw" (222 : Nat) ({ cls := "BrambleLogicLaw", name := "isRecursive", desc := "(LBrambleLogic;I[J)I" } : Jvm.MethodName)) ∈ lw_all := lw_g (lw_at lw_m8 184 rfl) rfl
theorem q1972 : (Jvm.Cond.static ({ cls := "BrambleLogicLaw", name := "isRecursive", desc := "(LBrambleLogic;I[J)I" } : Jvm.MethodName)) ∈ lw_all := lw_g (lw_at lw_m8 185 rfl) rfl
theorem q1973 : (Jvm.Cond.codeWith ({ cls := "BrambleLogicLaw", name := "isRecursive", desc := "(LBrambleLogic;I[J)I" } : Jvm.MethodName) method_21_code (4 : Nat) (Option.some Jvm.ClassFile.FieldType.int) [((0 : Nat), (16 : Nat), (19 : Nat), (28 : Nat))]) ∈ lw_all := lw_g (lw_at lw_m8 186 rfl) rfl
theorem q1974 : (Jvm.Cond.methodLink "BrambleLogicLaw" (80 : Nat) ({ cls := "BrambleLogic", name := "isRecursive", desc := "(I)Z" } : Jvm.MethodName)) ∈ lw_all := lw_g (lw_at lw_m8 187 rfl) rfl
theorem q2031 : (Jvm.Cond.methodLink "BrambleLogicLaw" (225 : Nat) ({ cls := "BrambleLogicLaw", name := "stepsOf", desc := "(LBrambleLogic;I[J)I" } : Jvm.MethodName)) ∈ lw_all := lw_g (lw_at lw_m9 4 rfl) rfl
theorem q2032 : (Jvm.Cond.static ({ cls := "BrambleLogicLaw", name := "stepsOf", desc := "(LBrambleLogic;I[J)I" } : Jvm.MethodName)) ∈ lw_all := lw_g (lw_at lw_m9 5 rfl) rfl
theorem q2033 : (Jvm.Cond.codeWith ({ cls := "BrambleLogicLaw", name := "stepsOf", desc := "(LBrambleLogic;I[J)I" } : Jvm.MethodName) method_22_code (4 : Nat) (Option.some Jvm.ClassFile.FieldType.int) [((0 : Nat), (9 : Nat), (12 : Nat), (28 : Nat))]) ∈ lw_all := lw_g (lw_at lw_m9 6 rfl) rfl
theorem q2034 : (Jvm.Cond.methodLink "BrambleLogicLaw" (84 : Nat) ({ cls := "BrambleLogic", name := "stepsOf", desc := "(I)I" } : Jvm.MethodName)) ∈ lw_all := lw_g (lw_at lw_m9 7 rfl) rfl
theorem q2056 : (Jvm.Cond.methodLink "BrambleLogicLaw" (228 : Nat) ({ cls := "BrambleLogicLaw", name := "layerOf", desc := "(LBrambleLogic;C[J)I" } : Jvm.MethodName)) ∈ lw_all := lw_g (lw_at lw_m9 29 rfl) rfl
theorem q2057 : (Jvm.Cond.static ({ cls := "BrambleLogicLaw", name := "layerOf", desc := "(LBrambleLogic;C[J)I" } : Jvm.MethodName)) ∈ lw_all := lw_g (lw_at lw_m9 30 rfl) rfl
theorem q2058 : (Jvm.Cond.codeWith ({ cls := "BrambleLogicLaw", name := "layerOf", desc := "(LBrambleLogic;C[J)I" } : Jvm.MethodName) method_23_code (4 : Nat) (Option.some Jvm.ClassFile.FieldType.int) [((0 : Nat), (9 : Nat), (12 : Nat), (13 : Nat))]) ∈ lw_all := lw_g (lw_at lw_m9 31 rfl) rfl
theorem q2059 : (Jvm.Cond.methodLink "BrambleLogicLaw" (87 : Nat) ({ cls := "BrambleLogic", name := "layerOf", desc := "(C)I" } : Jvm.MethodName)) ∈ lw_all := lw_g (lw_at lw_m9 32 rfl) rfl
theorem q2066 : (Jvm.Cond.methodLink "BrambleLogicLaw" (231 : Nat) ({ cls := "BrambleLogicLaw", name := "layerByChains", desc := "(LBrambleLogic;C[J)I" } : Jvm.MethodName)) ∈ lw_all := lw_g (lw_at lw_m9 39 rfl) rfl
theorem q2067 : (Jvm.Cond.static ({ cls := "BrambleLogicLaw", name := "layerByChains", desc := "(LBrambleLogic;C[J)I" } : Jvm.MethodName)) ∈ lw_all := lw_g (lw_at lw_m9 40 rfl) rfl
theorem q2068 : (Jvm.Cond.codeWith ({ cls := "BrambleLogicLaw", name := "layerByChains", desc := "(LBrambleLogic;C[J)I" } : Jvm.MethodName) method_24_code (4 : Nat) (Option.some Jvm.ClassFile.FieldType.int) [((0 : Nat), (9 : Nat), (12 : Nat), (13 : Nat))]) ∈ lw_all := lw_g (lw_at lw_m9 41 rfl) rfl
theorem q2069 : (Jvm.Cond.methodLink "BrambleLogicLaw" (90 : Nat) ({ cls := "BrambleLogic", name := "layerByChains", desc := "(C)I" } : Jvm.MethodName)) ∈ lw_all := lw_g (lw_at lw_m9 42 rfl) rfl
theorem q2074 : (Jvm.Cond.methodLink "BrambleLogicLaw" (234 : Nat) ({ cls := "BrambleLogicLaw", name := "dependsOn", desc := "(LBrambleLogic;CC[J)I" } : Jvm.MethodName)) ∈ lw_all := lw_g (lw_at lw_m9 47 rfl) rfl
theorem q2075 : (Jvm.Cond.static ({ cls := "BrambleLogicLaw", name := "dependsOn", desc := "(LBrambleLogic;CC[J)I" } : Jvm.MethodName)) ∈ lw_all := lw_g (lw_at lw_m9 48 rfl) rfl
theorem q2076 : (Jvm.Cond.codeWith ({ cls := "BrambleLogicLaw", name := "dependsOn", desc := "(LBrambleLogic;CC[J)I" } : Jvm.MethodName) method_25_code (5 : Nat) (Option.some Jvm.ClassFile.FieldType.int) [((0 : Nat), (17 : Nat), (20 : Nat), (13 : Nat))]) ∈ lw_all := lw_g (lw_at lw_m9 49 rfl) rfl
theorem q2077 : (Jvm.Cond.methodLink "BrambleLogicLaw" (93 : Nat) ({ cls := "BrambleLogic", name := "dependsOn", desc := "(CC)Z" } : Jvm.MethodName)) ∈ lw_all := lw_g (lw_at lw_m9 50 rfl) rfl
theorem q2082 : (Jvm.Cond.methodLink "BrambleLogicLaw" (242 : Nat) ({ cls := "BrambleLogicLaw", name := "reason", desc := "(LBrambleLogic;[J)I" } : Jvm.MethodName)) ∈ lw_all := lw_g (lw_at lw_m9 55 rfl) rfl
theorem q2083 : (Jvm.Cond.static ({ cls := "BrambleLogicLaw", name := "reason", desc := "(LBrambleLogic;[J)I" } : Jvm.MethodName)) ∈ lw_all := lw_g (lw_at lw_m9 56 rfl) rfl
theorem q2084 : (Jvm.Cond.codeWith ({ cls := "BrambleLogicLaw", name := "reason", desc := "(LBrambleLogic;[J)I" } : Jvm.MethodName) method_26_code (3 : Nat) (Option.some Jvm.ClassFile.FieldType.int) [((0 : Nat), (8 : Nat), (11 : Nat), (22 : Nat))]) ∈ lw_all := lw_g (lw_at lw_m9 57 rfl) rfl
theorem q2085 : (Jvm.Cond.methodLink "BrambleLogicLaw" (97 : Nat) ({ cls := "BrambleLogic", name := "reason", desc := "()I" } : Jvm.MethodName)) ∈ lw_all := lw_g (lw_at lw_m9 58 rfl) rfl
theorem q2093 : (Jvm.Cond.methodLink "BrambleLogicLaw" (246 : Nat) ({ cls := "BrambleLogicLaw", name := "detail", desc := "(LBrambleLogic;[J)I" } : Jvm.MethodName)) ∈ lw_all := lw_g (lw_at lw_m9 66 rfl) rfl
theorem q2094 : (Jvm.Cond.static ({ cls := "BrambleLogicLaw", name := "detail", desc := "(LBrambleLogic;[J)I" } : Jvm.MethodName)) ∈ lw_all := lw_g (lw_at lw_m9 67 rfl) rfl
theorem q2095 : (Jvm.Cond.codeWith ({ cls := "BrambleLogicLaw", name := "detail", desc := "(LBrambleLogic;[J)I" } : Jvm.MethodName) method_27_code (3 : Nat) (Option.some Jvm.ClassFile.FieldType.int) [((0 : Nat), (8 : Nat), (11 : Nat), (22 : Nat))]) ∈ lw_all := lw_g (lw_at lw_m9 68 rfl) rfl
theorem q2096 : (Jvm.Cond.methodLink "BrambleLogicLaw" (101 : Nat) ({ cls := "BrambleLogic", name := "detail", desc := "()I" } : Jvm.MethodName)) ∈ lw_all := lw_g (lw_at lw_m9 69 rfl) rfl
theorem q2100 : (Jvm.Cond.methodLink "BrambleLogicLaw" (249 : Nat) ({ cls := "BrambleLogicLaw", name := "meanHeight", desc := "(LBrambleLogic;[D)I" } : Jvm.MethodName)) ∈ lw_all := lw_g (lw_at lw_m9 73 rfl) rfl
theorem q2101 : (Jvm.Cond.static ({ cls := "BrambleLogicLaw", name := "meanHeight", desc := "(LBrambleLogic;[D)I" } : Jvm.MethodName)) ∈ lw_all := lw_g (lw_at lw_m9 74 rfl) rfl
theorem q2102 : (Jvm.Cond.codeWith ({ cls := "BrambleLogicLaw", name := "meanHeight", desc := "(LBrambleLogic;[D)I" } : Jvm.MethodName) method_28_code (3 : Nat) (Option.some Jvm.ClassFile.FieldType.int) [((0 : Nat), (7 : Nat), (10 : Nat), (108 : Nat))]) ∈ lw_all := lw_g (lw_at lw_m9 75 rfl) rfl
theorem q2103 : (Jvm.Cond.classLink "BrambleLogicLaw" (108 : Nat) "java/lang/ArithmeticException") ∈ lw_all := lw_g (lw_at lw_m9 76 rfl) rfl
theorem q2117 : (Jvm.Cond.methodLink "BrambleLogicLaw" (104 : Nat) ({ cls := "BrambleLogic", name := "meanHeight", desc := "()D" } : Jvm.MethodName)) ∈ lw_all := lw_g (lw_at lw_m9 90 rfl) rfl
theorem q2133 : (Jvm.Cond.methodLink "BrambleLogicLaw" (253 : Nat) ({ cls := "BrambleLogicLaw", name := "derivedShare", desc := "(LBrambleLogic;[D)I" } : Jvm.MethodName)) ∈ lw_all := lw_g (lw_at lw_m9 106 rfl) rfl
theorem q2134 : (Jvm.Cond.static ({ cls := "BrambleLogicLaw", name := "derivedShare", desc := "(LBrambleLogic;[D)I" } : Jvm.MethodName)) ∈ lw_all := lw_g (lw_at lw_m9 107 rfl) rfl
theorem q2135 : (Jvm.Cond.codeWith ({ cls := "BrambleLogicLaw", name := "derivedShare", desc := "(LBrambleLogic;[D)I" } : Jvm.MethodName) method_29_code (3 : Nat) (Option.some Jvm.ClassFile.FieldType.int) [((0 : Nat), (8 : Nat), (11 : Nat), (108 : Nat))]) ∈ lw_all := lw_g (lw_at lw_m9 108 rfl) rfl
theorem q2136 : (Jvm.Cond.methodLink "BrambleLogicLaw" (110 : Nat) ({ cls := "BrambleLogic", name := "derivedShare", desc := "()F" } : Jvm.MethodName)) ∈ lw_all := lw_g (lw_at lw_m9 109 rfl) rfl
theorem q2140 : (Jvm.Cond.methodLink "BrambleLogicLaw" (261 : Nat) ({ cls := "BrambleLogicLaw", name := "append", desc := "(LBrambleLogic;C[J)I" } : Jvm.MethodName)) ∈ lw_all := lw_g (lw_at lw_m9 113 rfl) rfl
theorem q2141 : (Jvm.Cond.static ({ cls := "BrambleLogicLaw", name := "append", desc := "(LBrambleLogic;C[J)I" } : Jvm.MethodName)) ∈ lw_all := lw_g (lw_at lw_m9 114 rfl) rfl
theorem q2142 : (Jvm.Cond.codeWith ({ cls := "BrambleLogicLaw", name := "append", desc := "(LBrambleLogic;C[J)I" } : Jvm.MethodName) method_30_code (4 : Nat) (Option.some Jvm.ClassFile.FieldType.int) [((0 : Nat), (9 : Nat), (12 : Nat), (17 : Nat))]) ∈ lw_all := lw_g (lw_at lw_m9 115 rfl) rfl
theorem q2143 : (Jvm.Cond.methodLink "BrambleLogicLaw" (114 : Nat) ({ cls := "BrambleLogic", name := "append", desc := "(C)I" } : Jvm.MethodName)) ∈ lw_all := lw_g (lw_at lw_m9 116 rfl) rfl
theorem q2149 : (Jvm.Cond.methodLink "BrambleLogicLaw" (264 : Nat) ({ cls := "BrambleLogicLaw", name := "run", desc := "(LBrambleLogic;[J)I" } : Jvm.MethodName)) ∈ lw_all := lw_g (lw_at lw_m9 122 rfl) rfl
theorem q2150 : (Jvm.Cond.static ({ cls := "BrambleLogicLaw", name := "run", desc := "(LBrambleLogic;[J)I" } : Jvm.MethodName)) ∈ lw_all := lw_g (lw_at lw_m9 123 rfl) rfl
theorem q2151 : (Jvm.Cond.codeWith ({ cls := "BrambleLogicLaw", name := "run", desc := "(LBrambleLogic;[J)I" } : Jvm.MethodName) method_31_code (3 : Nat) (Option.some Jvm.ClassFile.FieldType.int) [((0 : Nat), (8 : Nat), (11 : Nat), (13 : Nat)), ((0 : Nat), (8 : Nat), (14 : Nat), (15 : Nat))]) ∈ lw_all := lw_g (lw_at lw_m9 124 rfl) rfl
theorem q2152 : (Jvm.Cond.methodLink "BrambleLogicLaw" (117 : Nat) ({ cls := "BrambleLogic", name := "run", desc := "()I" } : Jvm.MethodName)) ∈ lw_all := lw_g (lw_at lw_m9 125 rfl) rfl
theorem q2676 : (Jvm.Cond.methodLink "BrambleLogicLaw" (267 : Nat) ({ cls := "BrambleLogicLaw", name := "errorPosition", desc := "(LBrambleLogic;[J)I" } : Jvm.MethodName)) ∈ lw_all := lw_g (lw_at lw_m11 169 rfl) rfl
theorem q2677 : (Jvm.Cond.static ({ cls := "BrambleLogicLaw", name := "errorPosition", desc := "(LBrambleLogic;[J)I" } : Jvm.MethodName)) ∈ lw_all := lw_g (lw_at lw_m11 170 rfl) rfl
theorem q2678 : (Jvm.Cond.codeWith ({ cls := "BrambleLogicLaw", name := "errorPosition", desc := "(LBrambleLogic;[J)I" } : Jvm.MethodName) method_32_code (3 : Nat) (Option.some Jvm.ClassFile.FieldType.int) [((0 : Nat), (8 : Nat), (11 : Nat), (22 : Nat))]) ∈ lw_all := lw_g (lw_at lw_m11 171 rfl) rfl
theorem q2679 : (Jvm.Cond.methodLink "BrambleLogicLaw" (120 : Nat) ({ cls := "BrambleLogic", name := "errorPosition", desc := "()I" } : Jvm.MethodName)) ∈ lw_all := lw_g (lw_at lw_m11 172 rfl) rfl
theorem q2683 : (Jvm.Cond.methodLink "BrambleLogicLaw" (270 : Nat) ({ cls := "BrambleLogicLaw", name := "failedCommand", desc := "(LBrambleLogic;[J)I" } : Jvm.MethodName)) ∈ lw_all := lw_g (lw_at lw_m11 176 rfl) rfl
theorem q2684 : (Jvm.Cond.static ({ cls := "BrambleLogicLaw", name := "failedCommand", desc := "(LBrambleLogic;[J)I" } : Jvm.MethodName)) ∈ lw_all := lw_g (lw_at lw_m11 177 rfl) rfl
theorem q2685 : (Jvm.Cond.codeWith ({ cls := "BrambleLogicLaw", name := "failedCommand", desc := "(LBrambleLogic;[J)I" } : Jvm.MethodName) method_33_code (3 : Nat) (Option.some Jvm.ClassFile.FieldType.int) [((0 : Nat), (8 : Nat), (11 : Nat), (22 : Nat))]) ∈ lw_all := lw_g (lw_at lw_m11 178 rfl) rfl
theorem q2686 : (Jvm.Cond.methodLink "BrambleLogicLaw" (123 : Nat) ({ cls := "BrambleLogic", name := "failedCommand", desc := "()I" } : Jvm.MethodName)) ∈ lw_all := lw_g (lw_at lw_m11 179 rfl) rfl
theorem q2690 : (Jvm.Cond.methodLink "BrambleLogicLaw" (273 : Nat) ({ cls := "BrambleLogicLaw", name := "writeRule", desc := "(LBrambleLogic;I[J)I" } : Jvm.MethodName)) ∈ lw_all := lw_g (lw_at lw_m11 183 rfl) rfl
theorem q2691 : (Jvm.Cond.static ({ cls := "BrambleLogicLaw", name := "writeRule", desc := "(LBrambleLogic;I[J)I" } : Jvm.MethodName)) ∈ lw_all := lw_g (lw_at lw_m11 184 rfl) rfl
theorem q2692 : (Jvm.Cond.codeWith ({ cls := "BrambleLogicLaw", name := "writeRule", desc := "(LBrambleLogic;I[J)I" } : Jvm.MethodName) method_34_code (4 : Nat) (Option.some Jvm.ClassFile.FieldType.int) [((0 : Nat), (9 : Nat), (12 : Nat), (28 : Nat))]) ∈ lw_all := lw_g (lw_at lw_m11 185 rfl) rfl
theorem q2693 : (Jvm.Cond.methodLink "BrambleLogicLaw" (126 : Nat) ({ cls := "BrambleLogic", name := "writeRule", desc := "(I)I" } : Jvm.MethodName)) ∈ lw_all := lw_g (lw_at lw_m11 186 rfl) rfl
theorem q2697 : (Jvm.Cond.methodLink "BrambleLogicLaw" (276 : Nat) ({ cls := "BrambleLogicLaw", name := "writeStep", desc := "(LBrambleLogic;CII[J)I" } : Jvm.MethodName)) ∈ lw_all := lw_g (lw_at lw_m11 190 rfl) rfl
theorem q2698 : (Jvm.Cond.static ({ cls := "BrambleLogicLaw", name := "writeStep", desc := "(LBrambleLogic;CII[J)I" } : Jvm.MethodName)) ∈ lw_all := lw_g (lw_at lw_m11 191 rfl) rfl
theorem q2699 : (Jvm.Cond.codeWith ({ cls := "BrambleLogicLaw", name := "writeStep", desc := "(LBrambleLogic;CII[J)I" } : Jvm.MethodName) method_35_code (6 : Nat) (Option.some Jvm.ClassFile.FieldType.int) [((0 : Nat), (12 : Nat), (15 : Nat), (13 : Nat)), ((0 : Nat), (12 : Nat), (19 : Nat), (22 : Nat))]) ∈ lw_all := lw_g (lw_at lw_m11 192 rfl) rfl
theorem q2700 : (Jvm.Cond.methodLink "BrambleLogicLaw" (129 : Nat) ({ cls := "BrambleLogic", name := "writeStep", desc := "(CII)I" } : Jvm.MethodName)) ∈ lw_all := lw_g (lw_at lw_m11 193 rfl) rfl
theorem q2729 : (Jvm.Cond.methodLink "BrambleLogicLaw" (283 : Nat) ({ cls := "BrambleLogicLaw", name := "outputAt", desc := "(LBrambleLogic;I[J)I" } : Jvm.MethodName)) ∈ lw_all := lw_g (lw_at lw_m11 222 rfl) rfl
theorem q2730 : (Jvm.Cond.static ({ cls := "BrambleLogicLaw", name := "outputAt", desc := "(LBrambleLogic;I[J)I" } : Jvm.MethodName)) ∈ lw_all := lw_g (lw_at lw_m11 223 rfl) rfl
theorem q2731 : (Jvm.Cond.codeWith ({ cls := "BrambleLogicLaw", name := "outputAt", desc := "(LBrambleLogic;I[J)I" } : Jvm.MethodName) method_36_code (4 : Nat) (Option.some Jvm.ClassFile.FieldType.int) [((0 : Nat), (9 : Nat), (12 : Nat), (28 : Nat))]) ∈ lw_all := lw_g (lw_at lw_m11 224 rfl) rfl
theorem q2732 : (Jvm.Cond.methodLink "BrambleLogicLaw" (132 : Nat) ({ cls := "BrambleLogic", name := "outputAt", desc := "(I)C" } : Jvm.MethodName)) ∈ lw_all := lw_g (lw_at lw_m11 225 rfl) rfl
theorem q2737 : (Jvm.Cond.methodLink "BrambleLogicLaw" (286 : Nat) ({ cls := "BrambleLogicLaw", name := "undo", desc := "(LBrambleLogic;[J)I" } : Jvm.MethodName)) ∈ lw_all := lw_g (lw_at lw_m11 230 rfl) rfl
theorem q2738 : (Jvm.Cond.static ({ cls := "BrambleLogicLaw", name := "undo", desc := "(LBrambleLogic;[J)I" } : Jvm.MethodName)) ∈ lw_all := lw_g (lw_at lw_m11 231 rfl) rfl
theorem q2739 : (Jvm.Cond.codeWith ({ cls := "BrambleLogicLaw", name := "undo", desc := "(LBrambleLogic;[J)I" } : Jvm.MethodName) method_37_code (3 : Nat) (Option.some Jvm.ClassFile.FieldType.int) [((0 : Nat), (8 : Nat), (11 : Nat), (17 : Nat))]) ∈ lw_all := lw_g (lw_at lw_m11 232 rfl) rfl
theorem q2740 : (Jvm.Cond.methodLink "BrambleLogicLaw" (136 : Nat) ({ cls := "BrambleLogic", name := "undo", desc := "()I" } : Jvm.MethodName)) ∈ lw_all := lw_g (lw_at lw_m11 233 rfl) rfl
theorem q2761 : (Jvm.Cond.methodLink "BrambleLogicLaw" (293 : Nat) ({ cls := "BrambleLogicLaw", name := "restore", desc := "(LBrambleLogic;)I" } : Jvm.MethodName)) ∈ lw_all := lw_g (lw_at lw_m12 14 rfl) rfl
theorem q2762 : (Jvm.Cond.static ({ cls := "BrambleLogicLaw", name := "restore", desc := "(LBrambleLogic;)I" } : Jvm.MethodName)) ∈ lw_all := lw_g (lw_at lw_m12 15 rfl) rfl
theorem q2763 : (Jvm.Cond.codeWith ({ cls := "BrambleLogicLaw", name := "restore", desc := "(LBrambleLogic;)I" } : Jvm.MethodName) method_38_code (2 : Nat) (Option.some Jvm.ClassFile.FieldType.int) [((0 : Nat), (4 : Nat), (7 : Nat), (17 : Nat))]) ∈ lw_all := lw_g (lw_at lw_m12 16 rfl) rfl
theorem q2764 : (Jvm.Cond.methodLink "BrambleLogicLaw" (139 : Nat) ({ cls := "BrambleLogic", name := "restore", desc := "()V" } : Jvm.MethodName)) ∈ lw_all := lw_g (lw_at lw_m12 17 rfl) rfl
theorem q2779 : (Jvm.Cond.classLink "BrambleLogicLaw" (143 : Nat) "BrambleLogicModel") ∈ lw_all := lw_g (lw_at lw_m12 32 rfl) rfl
theorem q2781 : (Jvm.Cond.methodLink "BrambleLogicLaw" (145 : Nat) ({ cls := "BrambleLogicModel", name := "<init>", desc := "()V" } : Jvm.MethodName)) ∈ lw_all := lw_g (lw_at lw_m12 34 rfl) rfl
theorem q2870 : (Jvm.Cond.methodLink "BrambleLogicLaw" (152 : Nat) ({ cls := "BrambleLogicModel", name := "thrown", desc := "()I" } : Jvm.MethodName)) ∈ lw_all := lw_g (lw_at lw_m12 123 rfl) rfl
theorem q2874 : (Jvm.Cond.methodLink "BrambleLogicLaw" (151 : Nat) ({ cls := "BrambleLogicModel", name := "addFact", desc := "(CII)I" } : Jvm.MethodName)) ∈ lw_all := lw_g (lw_at lw_m12 127 rfl) rfl
theorem q2915 : (Jvm.Cond.methodLink "BrambleLogicLaw" (157 : Nat) ({ cls := "BrambleLogicModel", name := "takeFact", desc := "(CII)I" } : Jvm.MethodName)) ∈ lw_all := lw_g (lw_at lw_m12 168 rfl) rfl
theorem q3016 : (Jvm.Cond.methodLink "BrambleLogicLaw" (161 : Nat) ({ cls := "BrambleLogicModel", name := "dropRule", desc := "(I)I" } : Jvm.MethodName)) ∈ lw_all := lw_g (lw_at lw_m13 29 rfl) rfl
theorem q3028 : (Jvm.Cond.methodLink "BrambleLogicLaw" (165 : Nat) ({ cls := "BrambleLogicModel", name := "givenCount", desc := "()I" } : Jvm.MethodName)) ∈ lw_all := lw_g (lw_at lw_m13 41 rfl) rfl
theorem q3032 : (Jvm.Cond.methodLink "BrambleLogicLaw" (168 : Nat) ({ cls := "BrambleLogicModel", name := "isGiven", desc := "(CII)Z" } : Jvm.MethodName)) ∈ lw_all := lw_g (lw_at lw_m13 45 rfl) rfl
theorem q3036 : (Jvm.Cond.methodLink "BrambleLogicLaw" (171 : Nat) ({ cls := "BrambleLogicModel", name := "isTrue", desc := "(CII)Z" } : Jvm.MethodName)) ∈ lw_all := lw_g (lw_at lw_m13 49 rfl) rfl
theorem q3040 : (Jvm.Cond.methodLink "BrambleLogicLaw" (174 : Nat) ({ cls := "BrambleLogicModel", name := "isTrueByTrying", desc := "(CII)Z" } : Jvm.MethodName)) ∈ lw_all := lw_g (lw_at lw_m13 53 rfl) rfl
theorem q3045 : (Jvm.Cond.methodLink "BrambleLogicLaw" (178 : Nat) ({ cls := "BrambleLogicModel", name := "trueCount", desc := "(C)I" } : Jvm.MethodName)) ∈ lw_all := lw_g (lw_at lw_m13 58 rfl) rfl
theorem q3059 : (Jvm.Cond.methodLink "BrambleLogicLaw" (182 : Nat) ({ cls := "BrambleLogicModel", name := "allTrue", desc := "()I" } : Jvm.MethodName)) ∈ lw_all := lw_g (lw_at lw_m13 72 rfl) rfl
theorem q3063 : (Jvm.Cond.methodLink "BrambleLogicLaw" (185 : Nat) ({ cls := "BrambleLogicModel", name := "gainedWithout", desc := "(CII)I" } : Jvm.MethodName)) ∈ lw_all := lw_g (lw_at lw_m13 76 rfl) rfl
theorem q3067 : (Jvm.Cond.methodLink "BrambleLogicLaw" (189 : Nat) ({ cls := "BrambleLogicModel", name := "constantAtRank", desc := "(CI)I" } : Jvm.MethodName)) ∈ lw_all := lw_g (lw_at lw_m13 80 rfl) rfl
theorem q3075 : (Jvm.Cond.methodLink "BrambleLogicLaw" (192 : Nat) ({ cls := "BrambleLogicModel", name := "greatest", desc := "(C)I" } : Jvm.MethodName)) ∈ lw_all := lw_g (lw_at lw_m13 88 rfl) rfl
theorem q3080 : (Jvm.Cond.methodLink "BrambleLogicLaw" (195 : Nat) ({ cls := "BrambleLogicModel", name := "height", desc := "(CII)I" } : Jvm.MethodName)) ∈ lw_all := lw_g (lw_at lw_m13 93 rfl) rfl
theorem q3088 : (Jvm.Cond.methodLink "BrambleLogicLaw" (198 : Nat) ({ cls := "BrambleLogicModel", name := "heightByLevels", desc := "(CII)I" } : Jvm.MethodName)) ∈ lw_all := lw_g (lw_at lw_m13 101 rfl) rfl
theorem q3093 : (Jvm.Cond.methodLink "BrambleLogicLaw" (201 : Nat) ({ cls := "BrambleLogicModel", name := "ruleOf", desc := "(CII)I" } : Jvm.MethodName)) ∈ lw_all := lw_g (lw_at lw_m13 106 rfl) rfl
theorem q3097 : (Jvm.Cond.methodLink "BrambleLogicLaw" (204 : Nat) ({ cls := "BrambleLogicModel", name := "proofSize", desc := "(CII)J" } : Jvm.MethodName)) ∈ lw_all := lw_g (lw_at lw_m13 110 rfl) rfl
theorem q3111 : (Jvm.Cond.methodLink "BrambleLogicLaw" (207 : Nat) ({ cls := "BrambleLogicModel", name := "answers", desc := "(CII)I" } : Jvm.MethodName)) ∈ lw_all := lw_g (lw_at lw_m13 124 rfl) rfl
theorem q3125 : (Jvm.Cond.methodLink "BrambleLogicLaw" (210 : Nat) ({ cls := "BrambleLogicModel", name := "answersByGoals", desc := "(CII)I" } : Jvm.MethodName)) ∈ lw_all := lw_g (lw_at lw_m13 138 rfl) rfl
theorem q3130 : (Jvm.Cond.methodLink "BrambleLogicLaw" (214 : Nat) ({ cls := "BrambleLogicModel", name := "answerAt", desc := "(CIII)I" } : Jvm.MethodName)) ∈ lw_all := lw_g (lw_at lw_m13 143 rfl) rfl
theorem q3134 : (Jvm.Cond.methodLink "BrambleLogicLaw" (218 : Nat) ({ cls := "BrambleLogicModel", name := "ruleCount", desc := "()I" } : Jvm.MethodName)) ∈ lw_all := lw_g (lw_at lw_m13 147 rfl) rfl
theorem q3138 : (Jvm.Cond.methodLink "BrambleLogicLaw" (221 : Nat) ({ cls := "BrambleLogicModel", name := "variables", desc := "(I)I" } : Jvm.MethodName)) ∈ lw_all := lw_g (lw_at lw_m13 151 rfl) rfl
theorem q3142 : (Jvm.Cond.methodLink "BrambleLogicLaw" (224 : Nat) ({ cls := "BrambleLogicModel", name := "isRecursive", desc := "(I)Z" } : Jvm.MethodName)) ∈ lw_all := lw_g (lw_at lw_m13 155 rfl) rfl
theorem q3150 : (Jvm.Cond.methodLink "BrambleLogicLaw" (227 : Nat) ({ cls := "BrambleLogicModel", name := "stepsOf", desc := "(I)I" } : Jvm.MethodName)) ∈ lw_all := lw_g (lw_at lw_m13 163 rfl) rfl
theorem q3154 : (Jvm.Cond.methodLink "BrambleLogicLaw" (230 : Nat) ({ cls := "BrambleLogicModel", name := "layerOf", desc := "(C)I" } : Jvm.MethodName)) ∈ lw_all := lw_g (lw_at lw_m13 167 rfl) rfl
theorem q3158 : (Jvm.Cond.methodLink "BrambleLogicLaw" (233 : Nat) ({ cls := "BrambleLogicModel", name := "layerByChains", desc := "(C)I" } : Jvm.MethodName)) ∈ lw_all := lw_g (lw_at lw_m13 171 rfl) rfl
theorem q3163 : (Jvm.Cond.methodLink "BrambleLogicLaw" (237 : Nat) ({ cls := "BrambleLogicModel", name := "dependsOn", desc := "(CC)Z" } : Jvm.MethodName)) ∈ lw_all := lw_g (lw_at lw_m13 176 rfl) rfl
theorem q3167 : (Jvm.Cond.methodLink "BrambleLogicLaw" (241 : Nat) ({ cls := "BrambleLogicModel", name := "givenByAccounts", desc := "()I" } : Jvm.MethodName)) ∈ lw_all := lw_g (lw_at lw_m13 180 rfl) rfl
theorem q3171 : (Jvm.Cond.methodLink "BrambleLogicLaw" (245 : Nat) ({ cls := "BrambleLogicModel", name := "reason", desc := "()I" } : Jvm.MethodName)) ∈ lw_all := lw_g (lw_at lw_m13 184 rfl) rfl
theorem q3175 : (Jvm.Cond.methodLink "BrambleLogicLaw" (248 : Nat) ({ cls := "BrambleLogicModel", name := "detail", desc := "()I" } : Jvm.MethodName)) ∈ lw_all := lw_g (lw_at lw_m13 188 rfl) rfl
theorem q3179 : (Jvm.Cond.methodLink "BrambleLogicLaw" (252 : Nat) ({ cls := "BrambleLogicModel", name := "meanHeight", desc := "()D" } : Jvm.MethodName)) ∈ lw_all := lw_g (lw_at lw_m13 192 rfl) rfl
theorem q3183 : (Jvm.Cond.methodLink "BrambleLogicLaw" (255 : Nat) ({ cls := "BrambleLogicModel", name := "derivedShare", desc := "()F" } : Jvm.MethodName)) ∈ lw_all := lw_g (lw_at lw_m13 196 rfl) rfl
theorem q3187 : (Jvm.Cond.methodLink "BrambleLogicLaw" (260 : Nat) ({ cls := "BrambleLogicModel", name := "isConsistent", desc := "()Z" } : Jvm.MethodName)) ∈ lw_all := lw_g (lw_at lw_m13 200 rfl) rfl
theorem q3191 : (Jvm.Cond.methodLink "BrambleLogicLaw" (263 : Nat) ({ cls := "BrambleLogicModel", name := "append", desc := "(C)I" } : Jvm.MethodName)) ∈ lw_all := lw_g (lw_at lw_m13 204 rfl) rfl
theorem q3195 : (Jvm.Cond.methodLink "BrambleLogicLaw" (266 : Nat) ({ cls := "BrambleLogicModel", name := "run", desc := "()I" } : Jvm.MethodName)) ∈ lw_all := lw_g (lw_at lw_m13 208 rfl) rfl
theorem q3285 : (Jvm.Cond.methodLink "BrambleLogicLaw" (269 : Nat) ({ cls := "BrambleLogicModel", name := "errorPosition", desc := "()I" } : Jvm.MethodName)) ∈ lw_all := lw_g (lw_at lw_m14 58 rfl) rfl
theorem q3289 : (Jvm.Cond.methodLink "BrambleLogicLaw" (272 : Nat) ({ cls := "BrambleLogicModel", name := "failedCommand", desc := "()I" } : Jvm.MethodName)) ∈ lw_all := lw_g (lw_at lw_m14 62 rfl) rfl
theorem q3293 : (Jvm.Cond.methodLink "BrambleLogicLaw" (275 : Nat) ({ cls := "BrambleLogicModel", name := "writeRule", desc := "(I)I" } : Jvm.MethodName)) ∈ lw_all := lw_g (lw_at lw_m14 66 rfl) rfl
theorem q3301 : (Jvm.Cond.methodLink "BrambleLogicLaw" (278 : Nat) ({ cls := "BrambleLogicModel", name := "writeStep", desc := "(CII)I" } : Jvm.MethodName)) ∈ lw_all := lw_g (lw_at lw_m14 74 rfl) rfl
theorem q3321 : (Jvm.Cond.methodLink "BrambleLogicLaw" (282 : Nat) ({ cls := "BrambleLogicModel", name := "writeGiven", desc := "()I" } : Jvm.MethodName)) ∈ lw_all := lw_g (lw_at lw_m14 94 rfl) rfl
theorem q3325 : (Jvm.Cond.methodLink "BrambleLogicLaw" (285 : Nat) ({ cls := "BrambleLogicModel", name := "outputAt", desc := "(I)C" } : Jvm.MethodName)) ∈ lw_all := lw_g (lw_at lw_m14 98 rfl) rfl
theorem q3329 : (Jvm.Cond.methodLink "BrambleLogicLaw" (288 : Nat) ({ cls := "BrambleLogicModel", name := "undo", desc := "()I" } : Jvm.MethodName)) ∈ lw_all := lw_g (lw_at lw_m14 102 rfl) rfl
theorem q3333 : (Jvm.Cond.methodLink "BrambleLogicLaw" (292 : Nat) ({ cls := "BrambleLogicModel", name := "save", desc := "()V" } : Jvm.MethodName)) ∈ lw_all := lw_g (lw_at lw_m14 106 rfl) rfl
theorem q3337 : (Jvm.Cond.methodLink "BrambleLogicLaw" (296 : Nat) ({ cls := "BrambleLogicModel", name := "restore", desc := "()V" } : Jvm.MethodName)) ∈ lw_all := lw_g (lw_at lw_m14 110 rfl) rfl
/-! the law's own entry -/
set_option maxRecDepth 100000
abbrev cL_law : ByteArray := code
def dkwL_law_109 : List UInt8 := [167, 245, 139, 4, 172]
abbrev dktL_law_109 : List UInt8 := dkwL_law_109 ++ []
def dkwL_law_108 : List UInt8 := [54, 6, 44, 182, 1, 40, 44, 182, 0, 152, 21, 6, 159, 0, 5, 3, 172, 167, 0, 3, 132, 5, 5]
abbrev dktL_law_108 : List UInt8 := dkwL_law_108 ++ dktL_law_109
def dkwL_law_107 : List UInt8 := [153, 0, 5, 3, 172, 167, 0, 38, 43, 182, 1, 33, 44, 182, 1, 36, 167, 0, 27, 43, 184, 1, 37]
abbrev dktL_law_107 : List UInt8 := dkwL_law_107 ++ dktL_law_108
def dkwL_law_106 : List UInt8 := [182, 0, 152, 21, 6, 159, 0, 5, 3, 172, 21, 6, 154, 0, 15, 45, 3, 47, 21, 7, 133, 148]
abbrev dktL_law_106 : List UInt8 := dkwL_law_106 ++ dktL_law_107
def dkwL_law_105 : List UInt8 := [153, 0, 5, 3, 172, 167, 0, 82, 43, 45, 184, 1, 30, 54, 6, 44, 182, 1, 32, 54, 7, 44]
abbrev dktL_law_105 : List UInt8 := dkwL_law_105 ++ dktL_law_106
def dkwL_law_104 : List UInt8 := [182, 0, 152, 21, 6, 159, 0, 5, 3, 172, 21, 6, 154, 0, 15, 45, 3, 47, 21, 7, 133, 148]
abbrev dktL_law_104 : List UInt8 := dkwL_law_104 ++ dktL_law_105
def dkwL_law_103 : List UInt8 := [21, 5, 4, 96, 46, 45, 184, 1, 27, 54, 6, 44, 42, 21, 5, 4, 96, 46, 182, 1, 29, 54, 7, 44]
abbrev dktL_law_103 : List UInt8 := dkwL_law_103 ++ dktL_law_104
def dkwL_law_102 : List UInt8 := [153, 0, 5, 3, 172, 167, 0, 151, 43, 182, 1, 23, 44, 182, 1, 26, 159, 0, 140, 3, 172, 43, 42]
abbrev dktL_law_102 : List UInt8 := dkwL_law_102 ++ dktL_law_103
def dkwL_law_101 : List UInt8 := [182, 0, 152, 21, 6, 159, 0, 5, 3, 172, 21, 6, 154, 0, 15, 45, 3, 47, 21, 7, 133, 148]
abbrev dktL_law_101 : List UInt8 := dkwL_law_101 ++ dktL_law_102
def dkwL_law_100 : List UInt8 := [4, 96, 46, 146, 42, 21, 5, 5, 96, 46, 42, 21, 5, 6, 96, 46, 182, 1, 22, 54, 7, 44]
abbrev dktL_law_100 : List UInt8 := dkwL_law_100 ++ dktL_law_101
def dkwL_law_99 : List UInt8 := [46, 146, 42, 21, 5, 5, 96, 46, 42, 21, 5, 6, 96, 46, 45, 184, 1, 20, 54, 6, 44, 42, 21, 5]
abbrev dktL_law_99 : List UInt8 := dkwL_law_99 ++ dktL_law_100
def dkwL_law_98 : List UInt8 := [154, 0, 15, 45, 3, 47, 21, 7, 133, 148, 153, 0, 5, 3, 172, 167, 0, 233, 43, 42, 21, 5, 4, 96]
abbrev dktL_law_98 : List UInt8 := dkwL_law_98 ++ dktL_law_99
def dkwL_law_97 : List UInt8 := [21, 5, 4, 96, 46, 182, 1, 19, 54, 7, 44, 182, 0, 152, 21, 6, 159, 0, 5, 3, 172, 21, 6]
abbrev dktL_law_97 : List UInt8 := dkwL_law_97 ++ dktL_law_98
def dkwL_law_96 : List UInt8 := [153, 0, 5, 3, 172, 167, 1, 33, 43, 42, 21, 5, 4, 96, 46, 45, 184, 1, 17, 54, 6, 44, 42]
abbrev dktL_law_96 : List UInt8 := dkwL_law_96 ++ dktL_law_97
def dkwL_law_95 : List UInt8 := [182, 0, 152, 21, 6, 159, 0, 5, 3, 172, 21, 6, 154, 0, 15, 45, 3, 47, 21, 7, 133, 148]
abbrev dktL_law_95 : List UInt8 := dkwL_law_95 ++ dktL_law_96
def dkwL_law_94 : List UInt8 := [153, 0, 5, 3, 172, 167, 1, 77, 43, 45, 184, 1, 14, 54, 6, 44, 182, 1, 16, 54, 7, 44]
abbrev dktL_law_94 : List UInt8 := dkwL_law_94 ++ dktL_law_95
def dkwL_law_93 : List UInt8 := [182, 0, 152, 21, 6, 159, 0, 5, 3, 172, 21, 6, 154, 0, 15, 45, 3, 47, 21, 7, 133, 148]
abbrev dktL_law_93 : List UInt8 := dkwL_law_93 ++ dktL_law_94
def dkwL_law_92 : List UInt8 := [153, 0, 5, 3, 172, 167, 1, 121, 43, 45, 184, 1, 11, 54, 6, 44, 182, 1, 13, 54, 7, 44]
abbrev dktL_law_92 : List UInt8 := dkwL_law_92 ++ dktL_law_93
def dkwL_law_91 : List UInt8 := [182, 0, 152, 21, 6, 159, 0, 5, 3, 172, 21, 6, 154, 0, 15, 45, 3, 47, 21, 7, 133, 148]
abbrev dktL_law_91 : List UInt8 := dkwL_law_91 ++ dktL_law_92
def dkwL_law_90 : List UInt8 := [148, 153, 0, 5, 3, 172, 167, 1, 165, 43, 45, 184, 1, 8, 54, 6, 44, 182, 1, 10, 54, 7, 44]
abbrev dktL_law_90 : List UInt8 := dkwL_law_90 ++ dktL_law_91
def dkwL_law_89 : List UInt8 := [54, 7, 44, 182, 0, 152, 21, 6, 159, 0, 5, 3, 172, 21, 6, 154, 0, 15, 45, 3, 47, 21, 7, 133]
abbrev dktL_law_89 : List UInt8 := dkwL_law_89 ++ dktL_law_90
def dkwL_law_88 : List UInt8 := [21, 5, 4, 96, 46, 146, 45, 184, 1, 5, 54, 6, 44, 42, 21, 5, 4, 96, 46, 146, 182, 1, 7]
abbrev dktL_law_88 : List UInt8 := dkwL_law_88 ++ dktL_law_89
def dkwL_law_87 : List UInt8 := [154, 0, 5, 3, 172, 167, 1, 236, 43, 182, 1, 0, 44, 182, 1, 4, 159, 1, 225, 3, 172, 43, 42]
abbrev dktL_law_87 : List UInt8 := dkwL_law_87 ++ dktL_law_88
def dkwL_law_86 : List UInt8 := [141, 151, 153, 0, 25, 25, 4, 3, 49, 25, 4, 3, 49, 151, 153, 0, 11, 23, 7, 23, 7, 149]
abbrev dktL_law_86 : List UInt8 := dkwL_law_86 ++ dktL_law_87
def dkwL_law_85 : List UInt8 := [56, 7, 44, 182, 0, 152, 21, 6, 159, 0, 5, 3, 172, 21, 6, 154, 0, 36, 25, 4, 3, 49, 23, 7]
abbrev dktL_law_85 : List UInt8 := dkwL_law_85 ++ dktL_law_86
def dkwL_law_84 : List UInt8 := [24, 7, 151, 154, 0, 5, 3, 172, 167, 2, 46, 43, 25, 4, 184, 0, 253, 54, 6, 44, 182, 0, 255]
abbrev dktL_law_84 : List UInt8 := dkwL_law_84 ++ dktL_law_85
def dkwL_law_83 : List UInt8 := [25, 4, 3, 49, 24, 7, 151, 153, 0, 25, 25, 4, 3, 49, 25, 4, 3, 49, 151, 153, 0, 11, 24, 7]
abbrev dktL_law_83 : List UInt8 := dkwL_law_83 ++ dktL_law_84
def dkwL_law_82 : List UInt8 := [54, 6, 44, 182, 0, 252, 57, 7, 44, 182, 0, 152, 21, 6, 159, 0, 5, 3, 172, 21, 6, 154, 0, 35]
abbrev dktL_law_82 : List UInt8 := dkwL_law_82 ++ dktL_law_83
def dkwL_law_81 : List UInt8 := [154, 0, 15, 45, 3, 47, 21, 7, 133, 148, 153, 0, 5, 3, 172, 167, 2, 111, 43, 25, 4, 184, 0, 249]
abbrev dktL_law_81 : List UInt8 := dkwL_law_81 ++ dktL_law_82
def dkwL_law_80 : List UInt8 := [184, 0, 246, 54, 6, 44, 182, 0, 248, 54, 7, 44, 182, 0, 152, 21, 6, 159, 0, 5, 3, 172, 21, 6]
abbrev dktL_law_80 : List UInt8 := dkwL_law_80 ++ dktL_law_81
def dkwL_law_79 : List UInt8 := [21, 6, 154, 0, 15, 45, 3, 47, 21, 7, 133, 148, 153, 0, 5, 3, 172, 167, 2, 155, 43, 45]
abbrev dktL_law_79 : List UInt8 := dkwL_law_79 ++ dktL_law_80
def dkwL_law_78 : List UInt8 := [45, 184, 0, 242, 54, 6, 44, 182, 0, 245, 54, 7, 44, 182, 0, 152, 21, 6, 159, 0, 5, 3, 172]
abbrev dktL_law_78 : List UInt8 := dkwL_law_78 ++ dktL_law_79
def dkwL_law_77 : List UInt8 := [9, 148, 153, 0, 5, 3, 172, 167, 2, 212, 43, 182, 0, 238, 44, 182, 0, 241, 159, 2, 201, 3, 172, 43]
abbrev dktL_law_77 : List UInt8 := dkwL_law_77 ++ dktL_law_78
def dkwL_law_76 : List UInt8 := [21, 6, 159, 0, 5, 3, 172, 21, 6, 154, 0, 22, 45, 3, 47, 21, 7, 153, 0, 7, 10, 167, 0, 4]
abbrev dktL_law_76 : List UInt8 := dkwL_law_76 ++ dktL_law_77
def dkwL_law_75 : List UInt8 := [44, 42, 21, 5, 4, 96, 46, 146, 42, 21, 5, 5, 96, 46, 146, 182, 0, 237, 54, 7, 44, 182, 0, 152]
abbrev dktL_law_75 : List UInt8 := dkwL_law_75 ++ dktL_law_76
def dkwL_law_74 : List UInt8 := [167, 3, 35, 43, 42, 21, 5, 4, 96, 46, 146, 42, 21, 5, 5, 96, 46, 146, 45, 184, 0, 234, 54, 6]
abbrev dktL_law_74 : List UInt8 := dkwL_law_74 ++ dktL_law_75
def dkwL_law_73 : List UInt8 := [159, 0, 5, 3, 172, 21, 6, 154, 0, 15, 45, 3, 47, 21, 7, 133, 148, 153, 0, 5, 3, 172]
abbrev dktL_law_73 : List UInt8 := dkwL_law_73 ++ dktL_law_74
def dkwL_law_72 : List UInt8 := [184, 0, 231, 54, 6, 44, 42, 21, 5, 4, 96, 46, 146, 182, 0, 233, 54, 7, 44, 182, 0, 152, 21, 6]
abbrev dktL_law_72 : List UInt8 := dkwL_law_72 ++ dktL_law_73
def dkwL_law_71 : List UInt8 := [47, 21, 7, 133, 148, 153, 0, 5, 3, 172, 167, 3, 93, 43, 42, 21, 5, 4, 96, 46, 146, 45]
abbrev dktL_law_71 : List UInt8 := dkwL_law_71 ++ dktL_law_72
def dkwL_law_70 : List UInt8 := [146, 182, 0, 230, 54, 7, 44, 182, 0, 152, 21, 6, 159, 0, 5, 3, 172, 21, 6, 154, 0, 15, 45, 3]
abbrev dktL_law_70 : List UInt8 := dkwL_law_70 ++ dktL_law_71
def dkwL_law_69 : List UInt8 := [167, 3, 151, 43, 42, 21, 5, 4, 96, 46, 146, 45, 184, 0, 228, 54, 6, 44, 42, 21, 5, 4, 96, 46]
abbrev dktL_law_69 : List UInt8 := dkwL_law_69 ++ dktL_law_70
def dkwL_law_68 : List UInt8 := [21, 6, 159, 0, 5, 3, 172, 21, 6, 154, 0, 15, 45, 3, 47, 21, 7, 133, 148, 153, 0, 5, 3, 172]
abbrev dktL_law_68 : List UInt8 := dkwL_law_68 ++ dktL_law_69
def dkwL_law_67 : List UInt8 := [96, 46, 45, 184, 0, 225, 54, 6, 44, 42, 21, 5, 4, 96, 46, 182, 0, 227, 54, 7, 44, 182, 0, 152]
abbrev dktL_law_67 : List UInt8 := dkwL_law_67 ++ dktL_law_68
def dkwL_law_66 : List UInt8 := [21, 7, 153, 0, 7, 10, 167, 0, 4, 9, 148, 153, 0, 5, 3, 172, 167, 3, 207, 43, 42, 21, 5, 4]
abbrev dktL_law_66 : List UInt8 := dkwL_law_66 ++ dktL_law_67
def dkwL_law_65 : List UInt8 := [182, 0, 224, 54, 7, 44, 182, 0, 152, 21, 6, 159, 0, 5, 3, 172, 21, 6, 154, 0, 22, 45, 3, 47]
abbrev dktL_law_65 : List UInt8 := dkwL_law_65 ++ dktL_law_66
def dkwL_law_64 : List UInt8 := [167, 4, 14, 43, 42, 21, 5, 4, 96, 46, 45, 184, 0, 222, 54, 6, 44, 42, 21, 5, 4, 96, 46]
abbrev dktL_law_64 : List UInt8 := dkwL_law_64 ++ dktL_law_65
def dkwL_law_63 : List UInt8 := [159, 0, 5, 3, 172, 21, 6, 154, 0, 15, 45, 3, 47, 21, 7, 133, 148, 153, 0, 5, 3, 172]
abbrev dktL_law_63 : List UInt8 := dkwL_law_63 ++ dktL_law_64
def dkwL_law_62 : List UInt8 := [184, 0, 219, 54, 6, 44, 42, 21, 5, 4, 96, 46, 182, 0, 221, 54, 7, 44, 182, 0, 152, 21, 6]
abbrev dktL_law_62 : List UInt8 := dkwL_law_62 ++ dktL_law_63
def dkwL_law_61 : List UInt8 := [167, 4, 83, 43, 182, 0, 215, 44, 182, 0, 218, 159, 4, 72, 3, 172, 43, 42, 21, 5, 4, 96, 46, 45]
abbrev dktL_law_61 : List UInt8 := dkwL_law_61 ++ dktL_law_62
def dkwL_law_60 : List UInt8 := [159, 0, 5, 3, 172, 21, 6, 154, 0, 15, 45, 3, 47, 21, 7, 133, 148, 153, 0, 5, 3, 172]
abbrev dktL_law_60 : List UInt8 := dkwL_law_60 ++ dktL_law_61
def dkwL_law_59 : List UInt8 := [46, 42, 21, 5, 6, 96, 46, 42, 21, 5, 7, 96, 46, 182, 0, 214, 54, 7, 44, 182, 0, 152, 21, 6]
abbrev dktL_law_59 : List UInt8 := dkwL_law_59 ++ dktL_law_60
def dkwL_law_58 : List UInt8 := [21, 5, 7, 96, 46, 45, 184, 0, 211, 54, 6, 44, 42, 21, 5, 4, 96, 46, 146, 42, 21, 5, 5, 96]
abbrev dktL_law_58 : List UInt8 := dkwL_law_58 ++ dktL_law_59
def dkwL_law_57 : List UInt8 := [167, 4, 177, 43, 42, 21, 5, 4, 96, 46, 146, 42, 21, 5, 5, 96, 46, 42, 21, 5, 6, 96, 46, 42]
abbrev dktL_law_57 : List UInt8 := dkwL_law_57 ++ dktL_law_58
def dkwL_law_56 : List UInt8 := [159, 0, 5, 3, 172, 21, 6, 154, 0, 15, 45, 3, 47, 21, 7, 133, 148, 153, 0, 5, 3, 172]
abbrev dktL_law_56 : List UInt8 := dkwL_law_56 ++ dktL_law_57
def dkwL_law_55 : List UInt8 := [146, 42, 21, 5, 5, 96, 46, 42, 21, 5, 6, 96, 46, 182, 0, 210, 54, 7, 44, 182, 0, 152, 21, 6]
abbrev dktL_law_55 : List UInt8 := dkwL_law_55 ++ dktL_law_56
def dkwL_law_54 : List UInt8 := [21, 5, 5, 96, 46, 42, 21, 5, 6, 96, 46, 45, 184, 0, 208, 54, 6, 44, 42, 21, 5, 4, 96, 46]
abbrev dktL_law_54 : List UInt8 := dkwL_law_54 ++ dktL_law_55
def dkwL_law_53 : List UInt8 := [45, 3, 47, 21, 7, 133, 148, 153, 0, 5, 3, 172, 167, 5, 3, 43, 42, 21, 5, 4, 96, 46, 146, 42]
abbrev dktL_law_53 : List UInt8 := dkwL_law_53 ++ dktL_law_54
def dkwL_law_52 : List UInt8 := [6, 96, 46, 182, 0, 207, 54, 7, 44, 182, 0, 152, 21, 6, 159, 0, 5, 3, 172, 21, 6, 154, 0, 15]
abbrev dktL_law_52 : List UInt8 := dkwL_law_52 ++ dktL_law_53
def dkwL_law_51 : List UInt8 := [46, 45, 184, 0, 205, 54, 6, 44, 42, 21, 5, 4, 96, 46, 146, 42, 21, 5, 5, 96, 46, 42, 21, 5]
abbrev dktL_law_51 : List UInt8 := dkwL_law_51 ++ dktL_law_52
def dkwL_law_50 : List UInt8 := [3, 172, 167, 5, 85, 43, 42, 21, 5, 4, 96, 46, 146, 42, 21, 5, 5, 96, 46, 42, 21, 5, 6, 96]
abbrev dktL_law_50 : List UInt8 := dkwL_law_50 ++ dktL_law_51
def dkwL_law_49 : List UInt8 := [182, 0, 152, 21, 6, 159, 0, 5, 3, 172, 21, 6, 154, 0, 14, 45, 3, 47, 22, 7, 148, 153, 0, 5]
abbrev dktL_law_49 : List UInt8 := dkwL_law_49 ++ dktL_law_50
def dkwL_law_48 : List UInt8 := [21, 5, 4, 96, 46, 146, 42, 21, 5, 5, 96, 46, 42, 21, 5, 6, 96, 46, 182, 0, 204, 55, 7, 44]
abbrev dktL_law_48 : List UInt8 := dkwL_law_48 ++ dktL_law_49
def dkwL_law_47 : List UInt8 := [4, 96, 46, 146, 42, 21, 5, 5, 96, 46, 42, 21, 5, 6, 96, 46, 45, 184, 0, 202, 54, 6, 44, 42]
abbrev dktL_law_47 : List UInt8 := dkwL_law_47 ++ dktL_law_48
def dkwL_law_46 : List UInt8 := [21, 6, 154, 0, 15, 45, 3, 47, 21, 7, 133, 148, 153, 0, 5, 3, 172, 167, 5, 166, 43, 42, 21, 5]
abbrev dktL_law_46 : List UInt8 := dkwL_law_46 ++ dktL_law_47
def dkwL_law_45 : List UInt8 := [46, 42, 21, 5, 6, 96, 46, 182, 0, 201, 54, 7, 44, 182, 0, 152, 21, 6, 159, 0, 5, 3, 172]
abbrev dktL_law_45 : List UInt8 := dkwL_law_45 ++ dktL_law_46
def dkwL_law_44 : List UInt8 := [21, 5, 6, 96, 46, 45, 184, 0, 199, 54, 6, 44, 42, 21, 5, 4, 96, 46, 146, 42, 21, 5, 5, 96]
abbrev dktL_law_44 : List UInt8 := dkwL_law_44 ++ dktL_law_45
def dkwL_law_43 : List UInt8 := [153, 0, 5, 3, 172, 167, 5, 248, 43, 42, 21, 5, 4, 96, 46, 146, 42, 21, 5, 5, 96, 46, 42]
abbrev dktL_law_43 : List UInt8 := dkwL_law_43 ++ dktL_law_44
def dkwL_law_42 : List UInt8 := [182, 0, 152, 21, 6, 159, 0, 5, 3, 172, 21, 6, 154, 0, 15, 45, 3, 47, 21, 7, 133, 148]
abbrev dktL_law_42 : List UInt8 := dkwL_law_42 ++ dktL_law_43
def dkwL_law_41 : List UInt8 := [21, 5, 4, 96, 46, 146, 42, 21, 5, 5, 96, 46, 42, 21, 5, 6, 96, 46, 182, 0, 198, 54, 7, 44]
abbrev dktL_law_41 : List UInt8 := dkwL_law_41 ++ dktL_law_42
def dkwL_law_40 : List UInt8 := [4, 96, 46, 146, 42, 21, 5, 5, 96, 46, 42, 21, 5, 6, 96, 46, 45, 184, 0, 196, 54, 6, 44, 42]
abbrev dktL_law_40 : List UInt8 := dkwL_law_40 ++ dktL_law_41
def dkwL_law_39 : List UInt8 := [21, 6, 154, 0, 15, 45, 3, 47, 21, 7, 133, 148, 153, 0, 5, 3, 172, 167, 6, 74, 43, 42, 21, 5]
abbrev dktL_law_39 : List UInt8 := dkwL_law_39 ++ dktL_law_40
def dkwL_law_38 : List UInt8 := [46, 42, 21, 5, 6, 96, 46, 182, 0, 195, 54, 7, 44, 182, 0, 152, 21, 6, 159, 0, 5, 3, 172]
abbrev dktL_law_38 : List UInt8 := dkwL_law_38 ++ dktL_law_39
def dkwL_law_37 : List UInt8 := [21, 5, 6, 96, 46, 45, 184, 0, 193, 54, 6, 44, 42, 21, 5, 4, 96, 46, 146, 42, 21, 5, 5, 96]
abbrev dktL_law_37 : List UInt8 := dkwL_law_37 ++ dktL_law_38
def dkwL_law_36 : List UInt8 := [153, 0, 5, 3, 172, 167, 6, 156, 43, 42, 21, 5, 4, 96, 46, 146, 42, 21, 5, 5, 96, 46, 42]
abbrev dktL_law_36 : List UInt8 := dkwL_law_36 ++ dktL_law_37
def dkwL_law_35 : List UInt8 := [182, 0, 152, 21, 6, 159, 0, 5, 3, 172, 21, 6, 154, 0, 15, 45, 3, 47, 21, 7, 133, 148]
abbrev dktL_law_35 : List UInt8 := dkwL_law_35 ++ dktL_law_36
def dkwL_law_34 : List UInt8 := [46, 146, 45, 184, 0, 190, 54, 6, 44, 42, 21, 5, 4, 96, 46, 146, 182, 0, 192, 54, 7, 44]
abbrev dktL_law_34 : List UInt8 := dkwL_law_34 ++ dktL_law_35
def dkwL_law_33 : List UInt8 := [154, 0, 15, 45, 3, 47, 21, 7, 133, 148, 153, 0, 5, 3, 172, 167, 6, 214, 43, 42, 21, 5, 4, 96]
abbrev dktL_law_33 : List UInt8 := dkwL_law_33 ++ dktL_law_34
def dkwL_law_32 : List UInt8 := [42, 21, 5, 5, 96, 46, 182, 0, 189, 54, 7, 44, 182, 0, 152, 21, 6, 159, 0, 5, 3, 172, 21, 6]
abbrev dktL_law_32 : List UInt8 := dkwL_law_32 ++ dktL_law_33
def dkwL_law_31 : List UInt8 := [4, 96, 46, 146, 42, 21, 5, 5, 96, 46, 45, 184, 0, 186, 54, 6, 44, 42, 21, 5, 4, 96, 46, 146]
abbrev dktL_law_31 : List UInt8 := dkwL_law_31 ++ dktL_law_32
def dkwL_law_30 : List UInt8 := [21, 6, 154, 0, 15, 45, 3, 47, 21, 7, 133, 148, 153, 0, 5, 3, 172, 167, 7, 28, 43, 42, 21, 5]
abbrev dktL_law_30 : List UInt8 := dkwL_law_30 ++ dktL_law_31
def dkwL_law_29 : List UInt8 := [46, 42, 21, 5, 6, 96, 46, 182, 0, 185, 54, 7, 44, 182, 0, 152, 21, 6, 159, 0, 5, 3, 172]
abbrev dktL_law_29 : List UInt8 := dkwL_law_29 ++ dktL_law_30
def dkwL_law_28 : List UInt8 := [21, 5, 6, 96, 46, 45, 184, 0, 183, 54, 6, 44, 42, 21, 5, 4, 96, 46, 146, 42, 21, 5, 5, 96]
abbrev dktL_law_28 : List UInt8 := dkwL_law_28 ++ dktL_law_29
def dkwL_law_27 : List UInt8 := [182, 0, 182, 159, 7, 112, 3, 172, 43, 42, 21, 5, 4, 96, 46, 146, 42, 21, 5, 5, 96, 46, 42]
abbrev dktL_law_27 : List UInt8 := dkwL_law_27 ++ dktL_law_28
def dkwL_law_26 : List UInt8 := [154, 0, 15, 45, 3, 47, 21, 7, 133, 148, 153, 0, 5, 3, 172, 167, 7, 123, 43, 182, 0, 179, 44]
abbrev dktL_law_26 : List UInt8 := dkwL_law_26 ++ dktL_law_27
def dkwL_law_25 : List UInt8 := [21, 5, 4, 96, 46, 146, 182, 0, 178, 54, 7, 44, 182, 0, 152, 21, 6, 159, 0, 5, 3, 172, 21, 6]
abbrev dktL_law_25 : List UInt8 := dkwL_law_25 ++ dktL_law_26
def dkwL_law_24 : List UInt8 := [153, 0, 5, 3, 172, 167, 7, 181, 43, 42, 21, 5, 4, 96, 46, 146, 45, 184, 0, 175, 54, 6, 44, 42]
abbrev dktL_law_24 : List UInt8 := dkwL_law_24 ++ dktL_law_25
def dkwL_law_23 : List UInt8 := [159, 0, 5, 3, 172, 21, 6, 154, 0, 22, 45, 3, 47, 21, 7, 153, 0, 7, 10, 167, 0, 4, 9, 148]
abbrev dktL_law_23 : List UInt8 := dkwL_law_23 ++ dktL_law_24
def dkwL_law_22 : List UInt8 := [21, 5, 5, 96, 46, 42, 21, 5, 6, 96, 46, 182, 0, 174, 54, 7, 44, 182, 0, 152, 21, 6]
abbrev dktL_law_22 : List UInt8 := dkwL_law_22 ++ dktL_law_23
def dkwL_law_21 : List UInt8 := [5, 96, 46, 42, 21, 5, 6, 96, 46, 45, 184, 0, 172, 54, 6, 44, 42, 21, 5, 4, 96, 46, 146, 42]
abbrev dktL_law_21 : List UInt8 := dkwL_law_21 ++ dktL_law_22
def dkwL_law_20 : List UInt8 := [167, 0, 4, 9, 148, 153, 0, 5, 3, 172, 167, 8, 14, 43, 42, 21, 5, 4, 96, 46, 146, 42, 21, 5]
abbrev dktL_law_20 : List UInt8 := dkwL_law_20 ++ dktL_law_21
def dkwL_law_19 : List UInt8 := [182, 0, 152, 21, 6, 159, 0, 5, 3, 172, 21, 6, 154, 0, 22, 45, 3, 47, 21, 7, 153, 0, 7, 10]
abbrev dktL_law_19 : List UInt8 := dkwL_law_19 ++ dktL_law_20
def dkwL_law_18 : List UInt8 := [21, 5, 4, 96, 46, 146, 42, 21, 5, 5, 96, 46, 42, 21, 5, 6, 96, 46, 182, 0, 171, 54, 7, 44]
abbrev dktL_law_18 : List UInt8 := dkwL_law_18 ++ dktL_law_19
def dkwL_law_17 : List UInt8 := [4, 96, 46, 146, 42, 21, 5, 5, 96, 46, 42, 21, 5, 6, 96, 46, 45, 184, 0, 169, 54, 6, 44, 42]
abbrev dktL_law_17 : List UInt8 := dkwL_law_17 ++ dktL_law_18
def dkwL_law_16 : List UInt8 := [47, 21, 7, 153, 0, 7, 10, 167, 0, 4, 9, 148, 153, 0, 5, 3, 172, 167, 8, 103, 43, 42, 21, 5]
abbrev dktL_law_16 : List UInt8 := dkwL_law_16 ++ dktL_law_17
def dkwL_law_15 : List UInt8 := [46, 182, 0, 168, 54, 7, 44, 182, 0, 152, 21, 6, 159, 0, 5, 3, 172, 21, 6, 154, 0, 22, 45, 3]
abbrev dktL_law_15 : List UInt8 := dkwL_law_15 ++ dktL_law_16
def dkwL_law_14 : List UInt8 := [184, 0, 166, 54, 6, 44, 42, 21, 5, 4, 96, 46, 146, 42, 21, 5, 5, 96, 46, 42, 21, 5, 6, 96]
abbrev dktL_law_14 : List UInt8 := dkwL_law_14 ++ dktL_law_15
def dkwL_law_13 : List UInt8 := [172, 43, 42, 21, 5, 4, 96, 46, 146, 42, 21, 5, 5, 96, 46, 42, 21, 5, 6, 96, 46, 45]
abbrev dktL_law_13 : List UInt8 := dkwL_law_13 ++ dktL_law_14
def dkwL_law_12 : List UInt8 := [21, 7, 133, 148, 153, 0, 5, 3, 172, 167, 8, 205, 43, 182, 0, 162, 44, 182, 0, 165, 159, 8, 194, 3]
abbrev dktL_law_12 : List UInt8 := dkwL_law_12 ++ dktL_law_13
def dkwL_law_11 : List UInt8 := [182, 0, 161, 54, 7, 44, 182, 0, 152, 21, 6, 159, 0, 5, 3, 172, 21, 6, 154, 0, 15, 45, 3, 47]
abbrev dktL_law_11 : List UInt8 := dkwL_law_11 ++ dktL_law_12
def dkwL_law_10 : List UInt8 := [167, 9, 5, 43, 42, 21, 5, 4, 96, 46, 45, 184, 0, 158, 54, 6, 44, 42, 21, 5, 4, 96, 46]
abbrev dktL_law_10 : List UInt8 := dkwL_law_10 ++ dktL_law_11
def dkwL_law_9 : List UInt8 := [159, 0, 5, 3, 172, 21, 6, 154, 0, 15, 45, 3, 47, 21, 7, 133, 148, 153, 0, 5, 3, 172]
abbrev dktL_law_9 : List UInt8 := dkwL_law_9 ++ dktL_law_10
def dkwL_law_8 : List UInt8 := [21, 5, 5, 96, 46, 42, 21, 5, 6, 96, 46, 182, 0, 157, 54, 7, 44, 182, 0, 152, 21, 6]
abbrev dktL_law_8 : List UInt8 := dkwL_law_8 ++ dktL_law_9
def dkwL_law_7 : List UInt8 := [96, 46, 42, 21, 5, 6, 96, 46, 45, 184, 0, 155, 54, 6, 44, 42, 21, 5, 4, 96, 46, 146, 42]
abbrev dktL_law_7 : List UInt8 := dkwL_law_7 ++ dktL_law_8
def dkwL_law_6 : List UInt8 := [21, 7, 133, 148, 153, 0, 5, 3, 172, 167, 9, 87, 43, 42, 21, 5, 4, 96, 46, 146, 42, 21, 5, 5]
abbrev dktL_law_6 : List UInt8 := dkwL_law_6 ++ dktL_law_7
def dkwL_law_5 : List UInt8 := [182, 0, 151, 54, 7, 44, 182, 0, 152, 21, 6, 159, 0, 5, 3, 172, 21, 6, 154, 0, 15, 45, 3, 47]
abbrev dktL_law_5 : List UInt8 := dkwL_law_5 ++ dktL_law_6
def dkwL_law_4 : List UInt8 := [54, 6, 44, 42, 21, 5, 4, 96, 46, 146, 42, 21, 5, 5, 96, 46, 42, 21, 5, 6, 96, 46]
abbrev dktL_law_4 : List UInt8 := dkwL_law_4 ++ dktL_law_5
def dkwL_law_3 : List UInt8 := [43, 42, 21, 5, 4, 96, 46, 146, 42, 21, 5, 5, 96, 46, 42, 21, 5, 6, 96, 46, 45, 184, 0, 146]
abbrev dktL_law_3 : List UInt8 := dkwL_law_3 ++ dktL_law_4
def dkwL_law_2 : List UInt8 := [170, 0, 0, 0, 0, 0, 10, 98, 0, 0, 0, 0, 0, 0, 0, 42, 0, 0, 0, 188, 0, 0, 1, 14, 0, 0, 1, 96, 0, 0, 1, 152, 0, 0, 1, 165, 0, 0, 1, 254, 0, 0, 2, 87, 0, 0, 2, 176, 0, 0, 2, 234, 0, 0, 2, 247, 0, 0, 3, 73, 0, 0, 3, 143, 0, 0, 3, 201, 0, 0, 4, 27, 0, 0, 4, 109, 0, 0, 4, 191, 0, 0, 5, 16, 0, 0, 5, 98, 0, 0, 5, 180, 0, 0, 6, 18, 0, 0, 6, 31, 0, 0, 6, 87, 0, 0, 6, 150, 0, 0, 6, 206, 0, 0, 7, 8, 0, 0, 7, 66, 0, 0, 7, 145, 0, 0, 7, 158, 0, 0, 7, 202, 0, 0, 7, 246, 0, 0, 8, 55, 0, 0, 8, 121, 0, 0, 8, 134, 0, 0, 8, 192, 0, 0, 8, 236, 0, 0, 9, 24, 0, 0, 9, 68, 0, 0, 9, 124, 0, 0, 9, 206, 0, 0, 9, 219, 0, 0, 10, 19, 0, 0, 10, 63, 0, 0, 10, 74]
abbrev dktL_law_2 : List UInt8 := dkwL_law_2 ++ dktL_law_3
def dkwL_law_1 : List UInt8 := [58, 4, 3, 54, 5, 21, 5, 42, 190, 8, 100, 163, 10, 114, 42, 21, 5, 46, 16, 63, 126]
abbrev dktL_law_1 : List UInt8 := dkwL_law_1 ++ dktL_law_2
def dkwL_law_0 : List UInt8 := [187, 0, 8, 89, 183, 0, 142, 76, 187, 0, 143, 89, 183, 0, 145, 77, 4, 188, 11, 78, 4, 188, 7]
abbrev dktL_law_0 : List UInt8 := dkwL_law_0 ++ dktL_law_1
theorem dksL_law_0 : cL_law.data.toList.drop 0 = dktL_law_0 := by decide +kernel
theorem dksL_law_1 : cL_law.data.toList.drop 23 = dktL_law_1 := dk_seg dksL_law_0 23 rfl rfl
theorem dksL_law_2 : cL_law.data.toList.drop 44 = dktL_law_2 := dk_seg dksL_law_1 21 rfl rfl
theorem dksL_law_3 : cL_law.data.toList.drop 232 = dktL_law_3 := dk_seg dksL_law_2 188 rfl rfl
theorem dksL_law_4 : cL_law.data.toList.drop 256 = dktL_law_4 := dk_seg dksL_law_3 24 rfl rfl
theorem dksL_law_5 : cL_law.data.toList.drop 278 = dktL_law_5 := dk_seg dksL_law_4 22 rfl rfl
theorem dksL_law_6 : cL_law.data.toList.drop 302 = dktL_law_6 := dk_seg dksL_law_5 24 rfl rfl
theorem dksL_law_7 : cL_law.data.toList.drop 326 = dktL_law_7 := dk_seg dksL_law_6 24 rfl rfl
theorem dksL_law_8 : cL_law.data.toList.drop 349 = dktL_law_8 := dk_seg dksL_law_7 23 rfl rfl
theorem dksL_law_9 : cL_law.data.toList.drop 371 = dktL_law_9 := dk_seg dksL_law_8 22 rfl rfl
theorem dksL_law_10 : cL_law.data.toList.drop 393 = dktL_law_10 := dk_seg dksL_law_9 22 rfl rfl
theorem dksL_law_11 : cL_law.data.toList.drop 416 = dktL_law_11 := dk_seg dksL_law_10 23 rfl rfl
theorem dksL_law_12 : cL_law.data.toList.drop 440 = dktL_law_12 := dk_seg dksL_law_11 24 rfl rfl
theorem dksL_law_13 : cL_law.data.toList.drop 464 = dktL_law_13 := dk_seg dksL_law_12 24 rfl rfl
theorem dksL_law_14 : cL_law.data.toList.drop 486 = dktL_law_14 := dk_seg dksL_law_13 22 rfl rfl
theorem dksL_law_15 : cL_law.data.toList.drop 510 = dktL_law_15 := dk_seg dksL_law_14 24 rfl rfl
theorem dksL_law_16 : cL_law.data.toList.drop 534 = dktL_law_16 := dk_seg dksL_law_15 24 rfl rfl
theorem dksL_law_17 : cL_law.data.toList.drop 558 = dktL_law_17 := dk_seg dksL_law_16 24 rfl rfl
theorem dksL_law_18 : cL_law.data.toList.drop 582 = dktL_law_18 := dk_seg dksL_law_17 24 rfl rfl
theorem dksL_law_19 : cL_law.data.toList.drop 606 = dktL_law_19 := dk_seg dksL_law_18 24 rfl rfl
theorem dksL_law_20 : cL_law.data.toList.drop 630 = dktL_law_20 := dk_seg dksL_law_19 24 rfl rfl
theorem dksL_law_21 : cL_law.data.toList.drop 654 = dktL_law_21 := dk_seg dksL_law_20 24 rfl rfl
theorem dksL_law_22 : cL_law.data.toList.drop 678 = dktL_law_22 := dk_seg dksL_law_21 24 rfl rfl
theorem dksL_law_23 : cL_law.data.toList.drop 700 = dktL_law_23 := dk_seg dksL_law_22 22 rfl rfl
theorem dksL_law_24 : cL_law.data.toList.drop 724 = dktL_law_24 := dk_seg dksL_law_23 24 rfl rfl
theorem dksL_law_25 : cL_law.data.toList.drop 748 = dktL_law_25 := dk_seg dksL_law_24 24 rfl rfl
theorem dksL_law_26 : cL_law.data.toList.drop 772 = dktL_law_26 := dk_seg dksL_law_25 24 rfl rfl
theorem dksL_law_27 : cL_law.data.toList.drop 795 = dktL_law_27 := dk_seg dksL_law_26 23 rfl rfl
theorem dksL_law_28 : cL_law.data.toList.drop 818 = dktL_law_28 := dk_seg dksL_law_27 23 rfl rfl
theorem dksL_law_29 : cL_law.data.toList.drop 842 = dktL_law_29 := dk_seg dksL_law_28 24 rfl rfl
theorem dksL_law_30 : cL_law.data.toList.drop 865 = dktL_law_30 := dk_seg dksL_law_29 23 rfl rfl
theorem dksL_law_31 : cL_law.data.toList.drop 889 = dktL_law_31 := dk_seg dksL_law_30 24 rfl rfl
theorem dksL_law_32 : cL_law.data.toList.drop 913 = dktL_law_32 := dk_seg dksL_law_31 24 rfl rfl
theorem dksL_law_33 : cL_law.data.toList.drop 937 = dktL_law_33 := dk_seg dksL_law_32 24 rfl rfl
theorem dksL_law_34 : cL_law.data.toList.drop 961 = dktL_law_34 := dk_seg dksL_law_33 24 rfl rfl
theorem dksL_law_35 : cL_law.data.toList.drop 983 = dktL_law_35 := dk_seg dksL_law_34 22 rfl rfl
theorem dksL_law_36 : cL_law.data.toList.drop 1005 = dktL_law_36 := dk_seg dksL_law_35 22 rfl rfl
theorem dksL_law_37 : cL_law.data.toList.drop 1028 = dktL_law_37 := dk_seg dksL_law_36 23 rfl rfl
theorem dksL_law_38 : cL_law.data.toList.drop 1052 = dktL_law_38 := dk_seg dksL_law_37 24 rfl rfl
theorem dksL_law_39 : cL_law.data.toList.drop 1075 = dktL_law_39 := dk_seg dksL_law_38 23 rfl rfl
theorem dksL_law_40 : cL_law.data.toList.drop 1099 = dktL_law_40 := dk_seg dksL_law_39 24 rfl rfl
theorem dksL_law_41 : cL_law.data.toList.drop 1123 = dktL_law_41 := dk_seg dksL_law_40 24 rfl rfl
theorem dksL_law_42 : cL_law.data.toList.drop 1147 = dktL_law_42 := dk_seg dksL_law_41 24 rfl rfl
theorem dksL_law_43 : cL_law.data.toList.drop 1169 = dktL_law_43 := dk_seg dksL_law_42 22 rfl rfl
theorem dksL_law_44 : cL_law.data.toList.drop 1192 = dktL_law_44 := dk_seg dksL_law_43 23 rfl rfl
theorem dksL_law_45 : cL_law.data.toList.drop 1216 = dktL_law_45 := dk_seg dksL_law_44 24 rfl rfl
theorem dksL_law_46 : cL_law.data.toList.drop 1239 = dktL_law_46 := dk_seg dksL_law_45 23 rfl rfl
theorem dksL_law_47 : cL_law.data.toList.drop 1263 = dktL_law_47 := dk_seg dksL_law_46 24 rfl rfl
theorem dksL_law_48 : cL_law.data.toList.drop 1287 = dktL_law_48 := dk_seg dksL_law_47 24 rfl rfl
theorem dksL_law_49 : cL_law.data.toList.drop 1311 = dktL_law_49 := dk_seg dksL_law_48 24 rfl rfl
theorem dksL_law_50 : cL_law.data.toList.drop 1335 = dktL_law_50 := dk_seg dksL_law_49 24 rfl rfl
theorem dksL_law_51 : cL_law.data.toList.drop 1359 = dktL_law_51 := dk_seg dksL_law_50 24 rfl rfl
theorem dksL_law_52 : cL_law.data.toList.drop 1383 = dktL_law_52 := dk_seg dksL_law_51 24 rfl rfl
theorem dksL_law_53 : cL_law.data.toList.drop 1407 = dktL_law_53 := dk_seg dksL_law_52 24 rfl rfl
theorem dksL_law_54 : cL_law.data.toList.drop 1431 = dktL_law_54 := dk_seg dksL_law_53 24 rfl rfl
theorem dksL_law_55 : cL_law.data.toList.drop 1455 = dktL_law_55 := dk_seg dksL_law_54 24 rfl rfl
theorem dksL_law_56 : cL_law.data.toList.drop 1479 = dktL_law_56 := dk_seg dksL_law_55 24 rfl rfl
theorem dksL_law_57 : cL_law.data.toList.drop 1501 = dktL_law_57 := dk_seg dksL_law_56 22 rfl rfl
theorem dksL_law_58 : cL_law.data.toList.drop 1525 = dktL_law_58 := dk_seg dksL_law_57 24 rfl rfl
theorem dksL_law_59 : cL_law.data.toList.drop 1549 = dktL_law_59 := dk_seg dksL_law_58 24 rfl rfl
theorem dksL_law_60 : cL_law.data.toList.drop 1573 = dktL_law_60 := dk_seg dksL_law_59 24 rfl rfl
theorem dksL_law_61 : cL_law.data.toList.drop 1595 = dktL_law_61 := dk_seg dksL_law_60 22 rfl rfl
theorem dksL_law_62 : cL_law.data.toList.drop 1619 = dktL_law_62 := dk_seg dksL_law_61 24 rfl rfl
theorem dksL_law_63 : cL_law.data.toList.drop 1642 = dktL_law_63 := dk_seg dksL_law_62 23 rfl rfl
theorem dksL_law_64 : cL_law.data.toList.drop 1664 = dktL_law_64 := dk_seg dksL_law_63 22 rfl rfl
theorem dksL_law_65 : cL_law.data.toList.drop 1687 = dktL_law_65 := dk_seg dksL_law_64 23 rfl rfl
theorem dksL_law_66 : cL_law.data.toList.drop 1711 = dktL_law_66 := dk_seg dksL_law_65 24 rfl rfl
theorem dksL_law_67 : cL_law.data.toList.drop 1735 = dktL_law_67 := dk_seg dksL_law_66 24 rfl rfl
theorem dksL_law_68 : cL_law.data.toList.drop 1759 = dktL_law_68 := dk_seg dksL_law_67 24 rfl rfl
theorem dksL_law_69 : cL_law.data.toList.drop 1783 = dktL_law_69 := dk_seg dksL_law_68 24 rfl rfl
theorem dksL_law_70 : cL_law.data.toList.drop 1807 = dktL_law_70 := dk_seg dksL_law_69 24 rfl rfl
theorem dksL_law_71 : cL_law.data.toList.drop 1831 = dktL_law_71 := dk_seg dksL_law_70 24 rfl rfl
theorem dksL_law_72 : cL_law.data.toList.drop 1853 = dktL_law_72 := dk_seg dksL_law_71 22 rfl rfl
theorem dksL_law_73 : cL_law.data.toList.drop 1877 = dktL_law_73 := dk_seg dksL_law_72 24 rfl rfl
theorem dksL_law_74 : cL_law.data.toList.drop 1899 = dktL_law_74 := dk_seg dksL_law_73 22 rfl rfl
theorem dksL_law_75 : cL_law.data.toList.drop 1923 = dktL_law_75 := dk_seg dksL_law_74 24 rfl rfl
theorem dksL_law_76 : cL_law.data.toList.drop 1947 = dktL_law_76 := dk_seg dksL_law_75 24 rfl rfl
theorem dksL_law_77 : cL_law.data.toList.drop 1971 = dktL_law_77 := dk_seg dksL_law_76 24 rfl rfl
theorem dksL_law_78 : cL_law.data.toList.drop 1995 = dktL_law_78 := dk_seg dksL_law_77 24 rfl rfl
theorem dksL_law_79 : cL_law.data.toList.drop 2018 = dktL_law_79 := dk_seg dksL_law_78 23 rfl rfl
theorem dksL_law_80 : cL_law.data.toList.drop 2040 = dktL_law_80 := dk_seg dksL_law_79 22 rfl rfl
theorem dksL_law_81 : cL_law.data.toList.drop 2064 = dktL_law_81 := dk_seg dksL_law_80 24 rfl rfl
theorem dksL_law_82 : cL_law.data.toList.drop 2088 = dktL_law_82 := dk_seg dksL_law_81 24 rfl rfl
theorem dksL_law_83 : cL_law.data.toList.drop 2112 = dktL_law_83 := dk_seg dksL_law_82 24 rfl rfl
theorem dksL_law_84 : cL_law.data.toList.drop 2136 = dktL_law_84 := dk_seg dksL_law_83 24 rfl rfl
theorem dksL_law_85 : cL_law.data.toList.drop 2159 = dktL_law_85 := dk_seg dksL_law_84 23 rfl rfl
theorem dksL_law_86 : cL_law.data.toList.drop 2183 = dktL_law_86 := dk_seg dksL_law_85 24 rfl rfl
theorem dksL_law_87 : cL_law.data.toList.drop 2205 = dktL_law_87 := dk_seg dksL_law_86 22 rfl rfl
theorem dksL_law_88 : cL_law.data.toList.drop 2228 = dktL_law_88 := dk_seg dksL_law_87 23 rfl rfl
theorem dksL_law_89 : cL_law.data.toList.drop 2251 = dktL_law_89 := dk_seg dksL_law_88 23 rfl rfl
theorem dksL_law_90 : cL_law.data.toList.drop 2275 = dktL_law_90 := dk_seg dksL_law_89 24 rfl rfl
theorem dksL_law_91 : cL_law.data.toList.drop 2298 = dktL_law_91 := dk_seg dksL_law_90 23 rfl rfl
theorem dksL_law_92 : cL_law.data.toList.drop 2320 = dktL_law_92 := dk_seg dksL_law_91 22 rfl rfl
theorem dksL_law_93 : cL_law.data.toList.drop 2342 = dktL_law_93 := dk_seg dksL_law_92 22 rfl rfl
theorem dksL_law_94 : cL_law.data.toList.drop 2364 = dktL_law_94 := dk_seg dksL_law_93 22 rfl rfl
theorem dksL_law_95 : cL_law.data.toList.drop 2386 = dktL_law_95 := dk_seg dksL_law_94 22 rfl rfl
theorem dksL_law_96 : cL_law.data.toList.drop 2408 = dktL_law_96 := dk_seg dksL_law_95 22 rfl rfl
theorem dksL_law_97 : cL_law.data.toList.drop 2431 = dktL_law_97 := dk_seg dksL_law_96 23 rfl rfl
theorem dksL_law_98 : cL_law.data.toList.drop 2454 = dktL_law_98 := dk_seg dksL_law_97 23 rfl rfl
theorem dksL_law_99 : cL_law.data.toList.drop 2478 = dktL_law_99 := dk_seg dksL_law_98 24 rfl rfl
theorem dksL_law_100 : cL_law.data.toList.drop 2502 = dktL_law_100 := dk_seg dksL_law_99 24 rfl rfl
theorem dksL_law_101 : cL_law.data.toList.drop 2524 = dktL_law_101 := dk_seg dksL_law_100 22 rfl rfl
theorem dksL_law_102 : cL_law.data.toList.drop 2546 = dktL_law_102 := dk_seg dksL_law_101 22 rfl rfl
theorem dksL_law_103 : cL_law.data.toList.drop 2569 = dktL_law_103 := dk_seg dksL_law_102 23 rfl rfl
theorem dksL_law_104 : cL_law.data.toList.drop 2593 = dktL_law_104 := dk_seg dksL_law_103 24 rfl rfl
theorem dksL_law_105 : cL_law.data.toList.drop 2615 = dktL_law_105 := dk_seg dksL_law_104 22 rfl rfl
theorem dksL_law_106 : cL_law.data.toList.drop 2637 = dktL_law_106 := dk_seg dksL_law_105 22 rfl rfl
theorem dksL_law_107 : cL_law.data.toList.drop 2659 = dktL_law_107 := dk_seg dksL_law_106 22 rfl rfl
theorem dksL_law_108 : cL_law.data.toList.drop 2682 = dktL_law_108 := dk_seg dksL_law_107 23 rfl rfl
theorem dksL_law_109 : cL_law.data.toList.drop 2705 = dktL_law_109 := dk_seg dksL_law_108 23 rfl rfl
theorem dL_law_0 : decode cL_law 0 = .ok (.new 8, 3) := dk_187 0 8 (dk_at dksL_law_0 0 rfl rfl)
theorem dL_law_3 : decode cL_law 3 = .ok (.dup, 1) := dk_89 (dk_at dksL_law_0 3 rfl rfl)
theorem dL_law_4 : decode cL_law 4 = .ok (.invokespecial 142, 3) := dk_183 0 142 (dk_at dksL_law_0 4 rfl rfl)
theorem dL_law_7 : decode cL_law 7 = .ok (.astore_n 1, 1) := dk_76 (dk_at dksL_law_0 7 rfl rfl)
theorem dL_law_8 : decode cL_law 8 = .ok (.new 143, 3) := dk_187 0 143 (dk_at dksL_law_0 8 rfl rfl)
theorem dL_law_11 : decode cL_law 11 = .ok (.dup, 1) := dk_89 (dk_at dksL_law_0 11 rfl rfl)
theorem dL_law_12 : decode cL_law 12 = .ok (.invokespecial 145, 3) := dk_183 0 145 (dk_at dksL_law_0 12 rfl rfl)
theorem dL_law_15 : decode cL_law 15 = .ok (.astore_n 2, 1) := dk_77 (dk_at dksL_law_0 15 rfl rfl)
theorem dL_law_16 : decode cL_law 16 = .ok (.iconst 1, 1) := dk_4 (dk_at dksL_law_0 16 rfl rfl)
theorem dL_law_17 : decode cL_law 17 = .ok (.newarray .long, 2) := dk_188_11 (dk_at dksL_law_0 17 rfl rfl)
theorem dL_law_19 : decode cL_law 19 = .ok (.astore_n 3, 1) := dk_78 (dk_at dksL_law_0 19 rfl rfl)
theorem dL_law_20 : decode cL_law 20 = .ok (.iconst 1, 1) := dk_4 (dk_at dksL_law_0 20 rfl rfl)
theorem dL_law_21 : decode cL_law 21 = .ok (.newarray .double, 2) := dk_188_7 (dk_at dksL_law_0 21 rfl rfl)
theorem dL_law_23 : decode cL_law 23 = .ok (.astore 4, 2) := dk_58 4 (dk_at dksL_law_1 0 rfl rfl)
theorem dL_law_25 : decode cL_law 25 = .ok (.iconst 0, 1) := dk_3 (dk_at dksL_law_1 2 rfl rfl)
theorem dL_law_26 : decode cL_law 26 = .ok (.istore 5, 2) := dk_54 5 (dk_at dksL_law_1 3 rfl rfl)
theorem dL_law_28 : decode cL_law 28 = .ok (.iload 5, 2) := dk_21 5 (dk_at dksL_law_1 5 rfl rfl)
theorem dL_law_30 : decode cL_law 30 = .ok (.aload_n 0, 1) := dk_42 (dk_at dksL_law_1 7 rfl rfl)
theorem dL_law_31 : decode cL_law 31 = .ok (.arraylength, 1) := dk_190 (dk_at dksL_law_1 8 rfl rfl)
theorem dL_law_32 : decode cL_law 32 = .ok (.iconst 5, 1) := dk_8 (dk_at dksL_law_1 9 rfl rfl)
theorem dL_law_33 : decode cL_law 33 = .ok (.isub, 1) := dk_100 (dk_at dksL_law_1 10 rfl rfl)
theorem dL_law_34 : decode cL_law 34 = .ok (.if_icmp .gt 2674, 3) := dk_163 10 114 (dk_at dksL_law_1 11 rfl rfl)
theorem dL_law_37 : decode cL_law 37 = .ok (.aload_n 0, 1) := dk_42 (dk_at dksL_law_1 14 rfl rfl)
theorem dL_law_38 : decode cL_law 38 = .ok (.iload 5, 2) := dk_21 5 (dk_at dksL_law_1 15 rfl rfl)
theorem dL_law_40 : decode cL_law 40 = .ok (.iaload, 1) := dk_46 (dk_at dksL_law_1 17 rfl rfl)
theorem dL_law_41 : decode cL_law 41 = .ok (.bipush 63, 2) := dk_16 63 (dk_at dksL_law_1 18 rfl rfl)
theorem dL_law_43 : decode cL_law 43 = .ok (.iand, 1) := dk_126 (dk_at dksL_law_1 20 rfl rfl)
theorem dL_law_44 : decode cL_law 44 = .ok (.tableswitch 2658 0 42 #[188, 270, 352, 408, 421, 510, 599, 688, 746, 759, 841, 911, 969, 1051, 1133, 1215, 1296, 1378, 1460, 1554, 1567, 1623, 1686, 1742, 1800, 1858, 1937, 1950, 1994, 2038, 2103, 2169, 2182, 2240, 2284, 2328, 2372, 2428, 2510, 2523, 2579, 2623, 2634], 188) := by decide +kernel
theorem dL_law_232 : decode cL_law 232 = .ok (.aload_n 1, 1) := dk_43 (dk_at dksL_law_3 0 rfl rfl)
theorem dL_law_233 : decode cL_law 233 = .ok (.aload_n 0, 1) := dk_42 (dk_at dksL_law_3 1 rfl rfl)
theorem dL_law_234 : decode cL_law 234 = .ok (.iload 5, 2) := dk_21 5 (dk_at dksL_law_3 2 rfl rfl)
theorem dL_law_236 : decode cL_law 236 = .ok (.iconst 1, 1) := dk_4 (dk_at dksL_law_3 4 rfl rfl)
theorem dL_law_237 : decode cL_law 237 = .ok (.iadd, 1) := dk_96 (dk_at dksL_law_3 5 rfl rfl)
theorem dL_law_238 : decode cL_law 238 = .ok (.iaload, 1) := dk_46 (dk_at dksL_law_3 6 rfl rfl)
theorem dL_law_239 : decode cL_law 239 = .ok (.i2c, 1) := dk_146 (dk_at dksL_law_3 7 rfl rfl)
theorem dL_law_240 : decode cL_law 240 = .ok (.aload_n 0, 1) := dk_42 (dk_at dksL_law_3 8 rfl rfl)
theorem dL_law_241 : decode cL_law 241 = .ok (.iload 5, 2) := dk_21 5 (dk_at dksL_law_3 9 rfl rfl)
theorem dL_law_243 : decode cL_law 243 = .ok (.iconst 2, 1) := dk_5 (dk_at dksL_law_3 11 rfl rfl)
theorem dL_law_244 : decode cL_law 244 = .ok (.iadd, 1) := dk_96 (dk_at dksL_law_3 12 rfl rfl)
theorem dL_law_245 : decode cL_law 245 = .ok (.iaload, 1) := dk_46 (dk_at dksL_law_3 13 rfl rfl)
theorem dL_law_246 : decode cL_law 246 = .ok (.aload_n 0, 1) := dk_42 (dk_at dksL_law_3 14 rfl rfl)
theorem dL_law_247 : decode cL_law 247 = .ok (.iload 5, 2) := dk_21 5 (dk_at dksL_law_3 15 rfl rfl)
theorem dL_law_249 : decode cL_law 249 = .ok (.iconst 3, 1) := dk_6 (dk_at dksL_law_3 17 rfl rfl)
theorem dL_law_250 : decode cL_law 250 = .ok (.iadd, 1) := dk_96 (dk_at dksL_law_3 18 rfl rfl)
theorem dL_law_251 : decode cL_law 251 = .ok (.iaload, 1) := dk_46 (dk_at dksL_law_3 19 rfl rfl)
theorem dL_law_252 : decode cL_law 252 = .ok (.aload_n 3, 1) := dk_45 (dk_at dksL_law_3 20 rfl rfl)
theorem dL_law_253 : decode cL_law 253 = .ok (.invokestatic 146, 3) := dk_184 0 146 (dk_at dksL_law_3 21 rfl rfl)
theorem dL_law_256 : decode cL_law 256 = .ok (.istore 6, 2) := dk_54 6 (dk_at dksL_law_4 0 rfl rfl)
theorem dL_law_258 : decode cL_law 258 = .ok (.aload_n 2, 1) := dk_44 (dk_at dksL_law_4 2 rfl rfl)
theorem dL_law_259 : decode cL_law 259 = .ok (.aload_n 0, 1) := dk_42 (dk_at dksL_law_4 3 rfl rfl)
theorem dL_law_260 : decode cL_law 260 = .ok (.iload 5, 2) := dk_21 5 (dk_at dksL_law_4 4 rfl rfl)
theorem dL_law_262 : decode cL_law 262 = .ok (.iconst 1, 1) := dk_4 (dk_at dksL_law_4 6 rfl rfl)
theorem dL_law_263 : decode cL_law 263 = .ok (.iadd, 1) := dk_96 (dk_at dksL_law_4 7 rfl rfl)
theorem dL_law_264 : decode cL_law 264 = .ok (.iaload, 1) := dk_46 (dk_at dksL_law_4 8 rfl rfl)
theorem dL_law_265 : decode cL_law 265 = .ok (.i2c, 1) := dk_146 (dk_at dksL_law_4 9 rfl rfl)
theorem dL_law_266 : decode cL_law 266 = .ok (.aload_n 0, 1) := dk_42 (dk_at dksL_law_4 10 rfl rfl)
theorem dL_law_267 : decode cL_law 267 = .ok (.iload 5, 2) := dk_21 5 (dk_at dksL_law_4 11 rfl rfl)
theorem dL_law_269 : decode cL_law 269 = .ok (.iconst 2, 1) := dk_5 (dk_at dksL_law_4 13 rfl rfl)
theorem dL_law_270 : decode cL_law 270 = .ok (.iadd, 1) := dk_96 (dk_at dksL_law_4 14 rfl rfl)
theorem dL_law_271 : decode cL_law 271 = .ok (.iaload, 1) := dk_46 (dk_at dksL_law_4 15 rfl rfl)
theorem dL_law_272 : decode cL_law 272 = .ok (.aload_n 0, 1) := dk_42 (dk_at dksL_law_4 16 rfl rfl)
theorem dL_law_273 : decode cL_law 273 = .ok (.iload 5, 2) := dk_21 5 (dk_at dksL_law_4 17 rfl rfl)
theorem dL_law_275 : decode cL_law 275 = .ok (.iconst 3, 1) := dk_6 (dk_at dksL_law_4 19 rfl rfl)
theorem dL_law_276 : decode cL_law 276 = .ok (.iadd, 1) := dk_96 (dk_at dksL_law_4 20 rfl rfl)
theorem dL_law_277 : decode cL_law 277 = .ok (.iaload, 1) := dk_46 (dk_at dksL_law_4 21 rfl rfl)
theorem dL_law_278 : decode cL_law 278 = .ok (.invokevirtual 151, 3) := dk_182 0 151 (dk_at dksL_law_5 0 rfl rfl)
theorem dL_law_281 : decode cL_law 281 = .ok (.istore 7, 2) := dk_54 7 (dk_at dksL_law_5 3 rfl rfl)
theorem dL_law_283 : decode cL_law 283 = .ok (.aload_n 2, 1) := dk_44 (dk_at dksL_law_5 5 rfl rfl)
theorem dL_law_284 : decode cL_law 284 = .ok (.invokevirtual 152, 3) := dk_182 0 152 (dk_at dksL_law_5 6 rfl rfl)
theorem dL_law_287 : decode cL_law 287 = .ok (.iload 6, 2) := dk_21 6 (dk_at dksL_law_5 9 rfl rfl)
theorem dL_law_289 : decode cL_law 289 = .ok (.if_icmp .eq 5, 3) := dk_159 0 5 (dk_at dksL_law_5 11 rfl rfl)
theorem dL_law_292 : decode cL_law 292 = .ok (.iconst 0, 1) := dk_3 (dk_at dksL_law_5 14 rfl rfl)
theorem dL_law_293 : decode cL_law 293 = .ok (.ireturn, 1) := dk_172 (dk_at dksL_law_5 15 rfl rfl)
theorem dL_law_294 : decode cL_law 294 = .ok (.iload 6, 2) := dk_21 6 (dk_at dksL_law_5 16 rfl rfl)
theorem dL_law_296 : decode cL_law 296 = .ok (.ifCond .ne 15, 3) := dk_154 0 15 (dk_at dksL_law_5 18 rfl rfl)
theorem dL_law_299 : decode cL_law 299 = .ok (.aload_n 3, 1) := dk_45 (dk_at dksL_law_5 21 rfl rfl)
theorem dL_law_300 : decode cL_law 300 = .ok (.iconst 0, 1) := dk_3 (dk_at dksL_law_5 22 rfl rfl)
theorem dL_law_301 : decode cL_law 301 = .ok (.laload, 1) := dk_47 (dk_at dksL_law_5 23 rfl rfl)
theorem dL_law_302 : decode cL_law 302 = .ok (.iload 7, 2) := dk_21 7 (dk_at dksL_law_6 0 rfl rfl)
theorem dL_law_304 : decode cL_law 304 = .ok (.i2l, 1) := dk_133 (dk_at dksL_law_6 2 rfl rfl)
theorem dL_law_305 : decode cL_law 305 = .ok (.lcmp, 1) := dk_148 (dk_at dksL_law_6 3 rfl rfl)
theorem dL_law_306 : decode cL_law 306 = .ok (.ifCond .eq 5, 3) := dk_153 0 5 (dk_at dksL_law_6 4 rfl rfl)
theorem dL_law_309 : decode cL_law 309 = .ok (.iconst 0, 1) := dk_3 (dk_at dksL_law_6 7 rfl rfl)
theorem dL_law_310 : decode cL_law 310 = .ok (.ireturn, 1) := dk_172 (dk_at dksL_law_6 8 rfl rfl)
theorem dL_law_311 : decode cL_law 311 = .ok (.goto 2391, 3) := dk_167 9 87 (dk_at dksL_law_6 9 rfl rfl)
theorem dL_law_314 : decode cL_law 314 = .ok (.aload_n 1, 1) := dk_43 (dk_at dksL_law_6 12 rfl rfl)
theorem dL_law_315 : decode cL_law 315 = .ok (.aload_n 0, 1) := dk_42 (dk_at dksL_law_6 13 rfl rfl)
theorem dL_law_316 : decode cL_law 316 = .ok (.iload 5, 2) := dk_21 5 (dk_at dksL_law_6 14 rfl rfl)
theorem dL_law_318 : decode cL_law 318 = .ok (.iconst 1, 1) := dk_4 (dk_at dksL_law_6 16 rfl rfl)
theorem dL_law_319 : decode cL_law 319 = .ok (.iadd, 1) := dk_96 (dk_at dksL_law_6 17 rfl rfl)
theorem dL_law_320 : decode cL_law 320 = .ok (.iaload, 1) := dk_46 (dk_at dksL_law_6 18 rfl rfl)
theorem dL_law_321 : decode cL_law 321 = .ok (.i2c, 1) := dk_146 (dk_at dksL_law_6 19 rfl rfl)
theorem dL_law_322 : decode cL_law 322 = .ok (.aload_n 0, 1) := dk_42 (dk_at dksL_law_6 20 rfl rfl)
theorem dL_law_323 : decode cL_law 323 = .ok (.iload 5, 2) := dk_21 5 (dk_at dksL_law_6 21 rfl rfl)
theorem dL_law_325 : decode cL_law 325 = .ok (.iconst 2, 1) := dk_5 (dk_at dksL_law_6 23 rfl rfl)
theorem dL_law_326 : decode cL_law 326 = .ok (.iadd, 1) := dk_96 (dk_at dksL_law_7 0 rfl rfl)
theorem dL_law_327 : decode cL_law 327 = .ok (.iaload, 1) := dk_46 (dk_at dksL_law_7 1 rfl rfl)
theorem dL_law_328 : decode cL_law 328 = .ok (.aload_n 0, 1) := dk_42 (dk_at dksL_law_7 2 rfl rfl)
theorem dL_law_329 : decode cL_law 329 = .ok (.iload 5, 2) := dk_21 5 (dk_at dksL_law_7 3 rfl rfl)
theorem dL_law_331 : decode cL_law 331 = .ok (.iconst 3, 1) := dk_6 (dk_at dksL_law_7 5 rfl rfl)
theorem dL_law_332 : decode cL_law 332 = .ok (.iadd, 1) := dk_96 (dk_at dksL_law_7 6 rfl rfl)
theorem dL_law_333 : decode cL_law 333 = .ok (.iaload, 1) := dk_46 (dk_at dksL_law_7 7 rfl rfl)
theorem dL_law_334 : decode cL_law 334 = .ok (.aload_n 3, 1) := dk_45 (dk_at dksL_law_7 8 rfl rfl)
theorem dL_law_335 : decode cL_law 335 = .ok (.invokestatic 155, 3) := dk_184 0 155 (dk_at dksL_law_7 9 rfl rfl)
theorem dL_law_338 : decode cL_law 338 = .ok (.istore 6, 2) := dk_54 6 (dk_at dksL_law_7 12 rfl rfl)
theorem dL_law_340 : decode cL_law 340 = .ok (.aload_n 2, 1) := dk_44 (dk_at dksL_law_7 14 rfl rfl)
theorem dL_law_341 : decode cL_law 341 = .ok (.aload_n 0, 1) := dk_42 (dk_at dksL_law_7 15 rfl rfl)
theorem dL_law_342 : decode cL_law 342 = .ok (.iload 5, 2) := dk_21 5 (dk_at dksL_law_7 16 rfl rfl)
theorem dL_law_344 : decode cL_law 344 = .ok (.iconst 1, 1) := dk_4 (dk_at dksL_law_7 18 rfl rfl)
theorem dL_law_345 : decode cL_law 345 = .ok (.iadd, 1) := dk_96 (dk_at dksL_law_7 19 rfl rfl)
theorem dL_law_346 : decode cL_law 346 = .ok (.iaload, 1) := dk_46 (dk_at dksL_law_7 20 rfl rfl)
theorem dL_law_347 : decode cL_law 347 = .ok (.i2c, 1) := dk_146 (dk_at dksL_law_7 21 rfl rfl)
theorem dL_law_348 : decode cL_law 348 = .ok (.aload_n 0, 1) := dk_42 (dk_at dksL_law_7 22 rfl rfl)
theorem dL_law_349 : decode cL_law 349 = .ok (.iload 5, 2) := dk_21 5 (dk_at dksL_law_8 0 rfl rfl)
theorem dL_law_351 : decode cL_law 351 = .ok (.iconst 2, 1) := dk_5 (dk_at dksL_law_8 2 rfl rfl)
theorem dL_law_352 : decode cL_law 352 = .ok (.iadd, 1) := dk_96 (dk_at dksL_law_8 3 rfl rfl)
theorem dL_law_353 : decode cL_law 353 = .ok (.iaload, 1) := dk_46 (dk_at dksL_law_8 4 rfl rfl)
theorem dL_law_354 : decode cL_law 354 = .ok (.aload_n 0, 1) := dk_42 (dk_at dksL_law_8 5 rfl rfl)
theorem dL_law_355 : decode cL_law 355 = .ok (.iload 5, 2) := dk_21 5 (dk_at dksL_law_8 6 rfl rfl)
theorem dL_law_357 : decode cL_law 357 = .ok (.iconst 3, 1) := dk_6 (dk_at dksL_law_8 8 rfl rfl)
theorem dL_law_358 : decode cL_law 358 = .ok (.iadd, 1) := dk_96 (dk_at dksL_law_8 9 rfl rfl)
theorem dL_law_359 : decode cL_law 359 = .ok (.iaload, 1) := dk_46 (dk_at dksL_law_8 10 rfl rfl)
theorem dL_law_360 : decode cL_law 360 = .ok (.invokevirtual 157, 3) := dk_182 0 157 (dk_at dksL_law_8 11 rfl rfl)
theorem dL_law_363 : decode cL_law 363 = .ok (.istore 7, 2) := dk_54 7 (dk_at dksL_law_8 14 rfl rfl)
theorem dL_law_365 : decode cL_law 365 = .ok (.aload_n 2, 1) := dk_44 (dk_at dksL_law_8 16 rfl rfl)
theorem dL_law_366 : decode cL_law 366 = .ok (.invokevirtual 152, 3) := dk_182 0 152 (dk_at dksL_law_8 17 rfl rfl)
theorem dL_law_369 : decode cL_law 369 = .ok (.iload 6, 2) := dk_21 6 (dk_at dksL_law_8 20 rfl rfl)
theorem dL_law_371 : decode cL_law 371 = .ok (.if_icmp .eq 5, 3) := dk_159 0 5 (dk_at dksL_law_9 0 rfl rfl)
theorem dL_law_374 : decode cL_law 374 = .ok (.iconst 0, 1) := dk_3 (dk_at dksL_law_9 3 rfl rfl)
theorem dL_law_375 : decode cL_law 375 = .ok (.ireturn, 1) := dk_172 (dk_at dksL_law_9 4 rfl rfl)
theorem dL_law_376 : decode cL_law 376 = .ok (.iload 6, 2) := dk_21 6 (dk_at dksL_law_9 5 rfl rfl)
theorem dL_law_378 : decode cL_law 378 = .ok (.ifCond .ne 15, 3) := dk_154 0 15 (dk_at dksL_law_9 7 rfl rfl)
theorem dL_law_381 : decode cL_law 381 = .ok (.aload_n 3, 1) := dk_45 (dk_at dksL_law_9 10 rfl rfl)
theorem dL_law_382 : decode cL_law 382 = .ok (.iconst 0, 1) := dk_3 (dk_at dksL_law_9 11 rfl rfl)
theorem dL_law_383 : decode cL_law 383 = .ok (.laload, 1) := dk_47 (dk_at dksL_law_9 12 rfl rfl)
theorem dL_law_384 : decode cL_law 384 = .ok (.iload 7, 2) := dk_21 7 (dk_at dksL_law_9 13 rfl rfl)
theorem dL_law_386 : decode cL_law 386 = .ok (.i2l, 1) := dk_133 (dk_at dksL_law_9 15 rfl rfl)
theorem dL_law_387 : decode cL_law 387 = .ok (.lcmp, 1) := dk_148 (dk_at dksL_law_9 16 rfl rfl)
theorem dL_law_388 : decode cL_law 388 = .ok (.ifCond .eq 5, 3) := dk_153 0 5 (dk_at dksL_law_9 17 rfl rfl)
theorem dL_law_391 : decode cL_law 391 = .ok (.iconst 0, 1) := dk_3 (dk_at dksL_law_9 20 rfl rfl)
theorem dL_law_392 : decode cL_law 392 = .ok (.ireturn, 1) := dk_172 (dk_at dksL_law_9 21 rfl rfl)
theorem dL_law_393 : decode cL_law 393 = .ok (.goto 2309, 3) := dk_167 9 5 (dk_at dksL_law_10 0 rfl rfl)
theorem dL_law_396 : decode cL_law 396 = .ok (.aload_n 1, 1) := dk_43 (dk_at dksL_law_10 3 rfl rfl)
theorem dL_law_397 : decode cL_law 397 = .ok (.aload_n 0, 1) := dk_42 (dk_at dksL_law_10 4 rfl rfl)
theorem dL_law_398 : decode cL_law 398 = .ok (.iload 5, 2) := dk_21 5 (dk_at dksL_law_10 5 rfl rfl)
theorem dL_law_400 : decode cL_law 400 = .ok (.iconst 1, 1) := dk_4 (dk_at dksL_law_10 7 rfl rfl)
theorem dL_law_401 : decode cL_law 401 = .ok (.iadd, 1) := dk_96 (dk_at dksL_law_10 8 rfl rfl)
theorem dL_law_402 : decode cL_law 402 = .ok (.iaload, 1) := dk_46 (dk_at dksL_law_10 9 rfl rfl)
theorem dL_law_403 : decode cL_law 403 = .ok (.aload_n 3, 1) := dk_45 (dk_at dksL_law_10 10 rfl rfl)
theorem dL_law_404 : decode cL_law 404 = .ok (.invokestatic 158, 3) := dk_184 0 158 (dk_at dksL_law_10 11 rfl rfl)
theorem dL_law_407 : decode cL_law 407 = .ok (.istore 6, 2) := dk_54 6 (dk_at dksL_law_10 14 rfl rfl)
theorem dL_law_409 : decode cL_law 409 = .ok (.aload_n 2, 1) := dk_44 (dk_at dksL_law_10 16 rfl rfl)
theorem dL_law_410 : decode cL_law 410 = .ok (.aload_n 0, 1) := dk_42 (dk_at dksL_law_10 17 rfl rfl)
theorem dL_law_411 : decode cL_law 411 = .ok (.iload 5, 2) := dk_21 5 (dk_at dksL_law_10 18 rfl rfl)
theorem dL_law_413 : decode cL_law 413 = .ok (.iconst 1, 1) := dk_4 (dk_at dksL_law_10 20 rfl rfl)
theorem dL_law_414 : decode cL_law 414 = .ok (.iadd, 1) := dk_96 (dk_at dksL_law_10 21 rfl rfl)
theorem dL_law_415 : decode cL_law 415 = .ok (.iaload, 1) := dk_46 (dk_at dksL_law_10 22 rfl rfl)
theorem dL_law_416 : decode cL_law 416 = .ok (.invokevirtual 161, 3) := dk_182 0 161 (dk_at dksL_law_11 0 rfl rfl)
theorem dL_law_419 : decode cL_law 419 = .ok (.istore 7, 2) := dk_54 7 (dk_at dksL_law_11 3 rfl rfl)
theorem dL_law_421 : decode cL_law 421 = .ok (.aload_n 2, 1) := dk_44 (dk_at dksL_law_11 5 rfl rfl)
theorem dL_law_422 : decode cL_law 422 = .ok (.invokevirtual 152, 3) := dk_182 0 152 (dk_at dksL_law_11 6 rfl rfl)
theorem dL_law_425 : decode cL_law 425 = .ok (.iload 6, 2) := dk_21 6 (dk_at dksL_law_11 9 rfl rfl)
theorem dL_law_427 : decode cL_law 427 = .ok (.if_icmp .eq 5, 3) := dk_159 0 5 (dk_at dksL_law_11 11 rfl rfl)
theorem dL_law_430 : decode cL_law 430 = .ok (.iconst 0, 1) := dk_3 (dk_at dksL_law_11 14 rfl rfl)
theorem dL_law_431 : decode cL_law 431 = .ok (.ireturn, 1) := dk_172 (dk_at dksL_law_11 15 rfl rfl)
theorem dL_law_432 : decode cL_law 432 = .ok (.iload 6, 2) := dk_21 6 (dk_at dksL_law_11 16 rfl rfl)
theorem dL_law_434 : decode cL_law 434 = .ok (.ifCond .ne 15, 3) := dk_154 0 15 (dk_at dksL_law_11 18 rfl rfl)
theorem dL_law_437 : decode cL_law 437 = .ok (.aload_n 3, 1) := dk_45 (dk_at dksL_law_11 21 rfl rfl)
theorem dL_law_438 : decode cL_law 438 = .ok (.iconst 0, 1) := dk_3 (dk_at dksL_law_11 22 rfl rfl)
theorem dL_law_439 : decode cL_law 439 = .ok (.laload, 1) := dk_47 (dk_at dksL_law_11 23 rfl rfl)
theorem dL_law_440 : decode cL_law 440 = .ok (.iload 7, 2) := dk_21 7 (dk_at dksL_law_12 0 rfl rfl)
theorem dL_law_442 : decode cL_law 442 = .ok (.i2l, 1) := dk_133 (dk_at dksL_law_12 2 rfl rfl)
theorem dL_law_443 : decode cL_law 443 = .ok (.lcmp, 1) := dk_148 (dk_at dksL_law_12 3 rfl rfl)
theorem dL_law_444 : decode cL_law 444 = .ok (.ifCond .eq 5, 3) := dk_153 0 5 (dk_at dksL_law_12 4 rfl rfl)
theorem dL_law_447 : decode cL_law 447 = .ok (.iconst 0, 1) := dk_3 (dk_at dksL_law_12 7 rfl rfl)
theorem dL_law_448 : decode cL_law 448 = .ok (.ireturn, 1) := dk_172 (dk_at dksL_law_12 8 rfl rfl)
theorem dL_law_449 : decode cL_law 449 = .ok (.goto 2253, 3) := dk_167 8 205 (dk_at dksL_law_12 9 rfl rfl)
theorem dL_law_452 : decode cL_law 452 = .ok (.aload_n 1, 1) := dk_43 (dk_at dksL_law_12 12 rfl rfl)
theorem dL_law_453 : decode cL_law 453 = .ok (.invokevirtual 162, 3) := dk_182 0 162 (dk_at dksL_law_12 13 rfl rfl)
theorem dL_law_456 : decode cL_law 456 = .ok (.aload_n 2, 1) := dk_44 (dk_at dksL_law_12 16 rfl rfl)
theorem dL_law_457 : decode cL_law 457 = .ok (.invokevirtual 165, 3) := dk_182 0 165 (dk_at dksL_law_12 17 rfl rfl)
theorem dL_law_460 : decode cL_law 460 = .ok (.if_icmp .eq 2242, 3) := dk_159 8 194 (dk_at dksL_law_12 20 rfl rfl)
theorem dL_law_463 : decode cL_law 463 = .ok (.iconst 0, 1) := dk_3 (dk_at dksL_law_12 23 rfl rfl)
theorem dL_law_464 : decode cL_law 464 = .ok (.ireturn, 1) := dk_172 (dk_at dksL_law_13 0 rfl rfl)
theorem dL_law_465 : decode cL_law 465 = .ok (.aload_n 1, 1) := dk_43 (dk_at dksL_law_13 1 rfl rfl)
theorem dL_law_466 : decode cL_law 466 = .ok (.aload_n 0, 1) := dk_42 (dk_at dksL_law_13 2 rfl rfl)
theorem dL_law_467 : decode cL_law 467 = .ok (.iload 5, 2) := dk_21 5 (dk_at dksL_law_13 3 rfl rfl)
theorem dL_law_469 : decode cL_law 469 = .ok (.iconst 1, 1) := dk_4 (dk_at dksL_law_13 5 rfl rfl)
theorem dL_law_470 : decode cL_law 470 = .ok (.iadd, 1) := dk_96 (dk_at dksL_law_13 6 rfl rfl)
theorem dL_law_471 : decode cL_law 471 = .ok (.iaload, 1) := dk_46 (dk_at dksL_law_13 7 rfl rfl)
theorem dL_law_472 : decode cL_law 472 = .ok (.i2c, 1) := dk_146 (dk_at dksL_law_13 8 rfl rfl)
theorem dL_law_473 : decode cL_law 473 = .ok (.aload_n 0, 1) := dk_42 (dk_at dksL_law_13 9 rfl rfl)
theorem dL_law_474 : decode cL_law 474 = .ok (.iload 5, 2) := dk_21 5 (dk_at dksL_law_13 10 rfl rfl)
theorem dL_law_476 : decode cL_law 476 = .ok (.iconst 2, 1) := dk_5 (dk_at dksL_law_13 12 rfl rfl)
theorem dL_law_477 : decode cL_law 477 = .ok (.iadd, 1) := dk_96 (dk_at dksL_law_13 13 rfl rfl)
theorem dL_law_478 : decode cL_law 478 = .ok (.iaload, 1) := dk_46 (dk_at dksL_law_13 14 rfl rfl)
theorem dL_law_479 : decode cL_law 479 = .ok (.aload_n 0, 1) := dk_42 (dk_at dksL_law_13 15 rfl rfl)
theorem dL_law_480 : decode cL_law 480 = .ok (.iload 5, 2) := dk_21 5 (dk_at dksL_law_13 16 rfl rfl)
theorem dL_law_482 : decode cL_law 482 = .ok (.iconst 3, 1) := dk_6 (dk_at dksL_law_13 18 rfl rfl)
theorem dL_law_483 : decode cL_law 483 = .ok (.iadd, 1) := dk_96 (dk_at dksL_law_13 19 rfl rfl)
theorem dL_law_484 : decode cL_law 484 = .ok (.iaload, 1) := dk_46 (dk_at dksL_law_13 20 rfl rfl)
theorem dL_law_485 : decode cL_law 485 = .ok (.aload_n 3, 1) := dk_45 (dk_at dksL_law_13 21 rfl rfl)
theorem dL_law_486 : decode cL_law 486 = .ok (.invokestatic 166, 3) := dk_184 0 166 (dk_at dksL_law_14 0 rfl rfl)
theorem dL_law_489 : decode cL_law 489 = .ok (.istore 6, 2) := dk_54 6 (dk_at dksL_law_14 3 rfl rfl)
theorem dL_law_491 : decode cL_law 491 = .ok (.aload_n 2, 1) := dk_44 (dk_at dksL_law_14 5 rfl rfl)
theorem dL_law_492 : decode cL_law 492 = .ok (.aload_n 0, 1) := dk_42 (dk_at dksL_law_14 6 rfl rfl)
theorem dL_law_493 : decode cL_law 493 = .ok (.iload 5, 2) := dk_21 5 (dk_at dksL_law_14 7 rfl rfl)
theorem dL_law_495 : decode cL_law 495 = .ok (.iconst 1, 1) := dk_4 (dk_at dksL_law_14 9 rfl rfl)
theorem dL_law_496 : decode cL_law 496 = .ok (.iadd, 1) := dk_96 (dk_at dksL_law_14 10 rfl rfl)
theorem dL_law_497 : decode cL_law 497 = .ok (.iaload, 1) := dk_46 (dk_at dksL_law_14 11 rfl rfl)
theorem dL_law_498 : decode cL_law 498 = .ok (.i2c, 1) := dk_146 (dk_at dksL_law_14 12 rfl rfl)
theorem dL_law_499 : decode cL_law 499 = .ok (.aload_n 0, 1) := dk_42 (dk_at dksL_law_14 13 rfl rfl)
theorem dL_law_500 : decode cL_law 500 = .ok (.iload 5, 2) := dk_21 5 (dk_at dksL_law_14 14 rfl rfl)
theorem dL_law_502 : decode cL_law 502 = .ok (.iconst 2, 1) := dk_5 (dk_at dksL_law_14 16 rfl rfl)
theorem dL_law_503 : decode cL_law 503 = .ok (.iadd, 1) := dk_96 (dk_at dksL_law_14 17 rfl rfl)
theorem dL_law_504 : decode cL_law 504 = .ok (.iaload, 1) := dk_46 (dk_at dksL_law_14 18 rfl rfl)
theorem dL_law_505 : decode cL_law 505 = .ok (.aload_n 0, 1) := dk_42 (dk_at dksL_law_14 19 rfl rfl)
theorem dL_law_506 : decode cL_law 506 = .ok (.iload 5, 2) := dk_21 5 (dk_at dksL_law_14 20 rfl rfl)
theorem dL_law_508 : decode cL_law 508 = .ok (.iconst 3, 1) := dk_6 (dk_at dksL_law_14 22 rfl rfl)
theorem dL_law_509 : decode cL_law 509 = .ok (.iadd, 1) := dk_96 (dk_at dksL_law_14 23 rfl rfl)
theorem dL_law_510 : decode cL_law 510 = .ok (.iaload, 1) := dk_46 (dk_at dksL_law_15 0 rfl rfl)
theorem dL_law_511 : decode cL_law 511 = .ok (.invokevirtual 168, 3) := dk_182 0 168 (dk_at dksL_law_15 1 rfl rfl)
theorem dL_law_514 : decode cL_law 514 = .ok (.istore 7, 2) := dk_54 7 (dk_at dksL_law_15 4 rfl rfl)
theorem dL_law_516 : decode cL_law 516 = .ok (.aload_n 2, 1) := dk_44 (dk_at dksL_law_15 6 rfl rfl)
theorem dL_law_517 : decode cL_law 517 = .ok (.invokevirtual 152, 3) := dk_182 0 152 (dk_at dksL_law_15 7 rfl rfl)
theorem dL_law_520 : decode cL_law 520 = .ok (.iload 6, 2) := dk_21 6 (dk_at dksL_law_15 10 rfl rfl)
theorem dL_law_522 : decode cL_law 522 = .ok (.if_icmp .eq 5, 3) := dk_159 0 5 (dk_at dksL_law_15 12 rfl rfl)
theorem dL_law_525 : decode cL_law 525 = .ok (.iconst 0, 1) := dk_3 (dk_at dksL_law_15 15 rfl rfl)
theorem dL_law_526 : decode cL_law 526 = .ok (.ireturn, 1) := dk_172 (dk_at dksL_law_15 16 rfl rfl)
theorem dL_law_527 : decode cL_law 527 = .ok (.iload 6, 2) := dk_21 6 (dk_at dksL_law_15 17 rfl rfl)
theorem dL_law_529 : decode cL_law 529 = .ok (.ifCond .ne 22, 3) := dk_154 0 22 (dk_at dksL_law_15 19 rfl rfl)
theorem dL_law_532 : decode cL_law 532 = .ok (.aload_n 3, 1) := dk_45 (dk_at dksL_law_15 22 rfl rfl)
theorem dL_law_533 : decode cL_law 533 = .ok (.iconst 0, 1) := dk_3 (dk_at dksL_law_15 23 rfl rfl)
theorem dL_law_534 : decode cL_law 534 = .ok (.laload, 1) := dk_47 (dk_at dksL_law_16 0 rfl rfl)
theorem dL_law_535 : decode cL_law 535 = .ok (.iload 7, 2) := dk_21 7 (dk_at dksL_law_16 1 rfl rfl)
theorem dL_law_537 : decode cL_law 537 = .ok (.ifCond .eq 7, 3) := dk_153 0 7 (dk_at dksL_law_16 3 rfl rfl)
theorem dL_law_540 : decode cL_law 540 = .ok (.lconst 1, 1) := dk_10 (dk_at dksL_law_16 6 rfl rfl)
theorem dL_law_541 : decode cL_law 541 = .ok (.goto 4, 3) := dk_167 0 4 (dk_at dksL_law_16 7 rfl rfl)
theorem dL_law_544 : decode cL_law 544 = .ok (.lconst 0, 1) := dk_9 (dk_at dksL_law_16 10 rfl rfl)
theorem dL_law_545 : decode cL_law 545 = .ok (.lcmp, 1) := dk_148 (dk_at dksL_law_16 11 rfl rfl)
theorem dL_law_546 : decode cL_law 546 = .ok (.ifCond .eq 5, 3) := dk_153 0 5 (dk_at dksL_law_16 12 rfl rfl)
theorem dL_law_549 : decode cL_law 549 = .ok (.iconst 0, 1) := dk_3 (dk_at dksL_law_16 15 rfl rfl)
theorem dL_law_550 : decode cL_law 550 = .ok (.ireturn, 1) := dk_172 (dk_at dksL_law_16 16 rfl rfl)
theorem dL_law_551 : decode cL_law 551 = .ok (.goto 2151, 3) := dk_167 8 103 (dk_at dksL_law_16 17 rfl rfl)
theorem dL_law_554 : decode cL_law 554 = .ok (.aload_n 1, 1) := dk_43 (dk_at dksL_law_16 20 rfl rfl)
theorem dL_law_555 : decode cL_law 555 = .ok (.aload_n 0, 1) := dk_42 (dk_at dksL_law_16 21 rfl rfl)
theorem dL_law_556 : decode cL_law 556 = .ok (.iload 5, 2) := dk_21 5 (dk_at dksL_law_16 22 rfl rfl)
theorem dL_law_558 : decode cL_law 558 = .ok (.iconst 1, 1) := dk_4 (dk_at dksL_law_17 0 rfl rfl)
theorem dL_law_559 : decode cL_law 559 = .ok (.iadd, 1) := dk_96 (dk_at dksL_law_17 1 rfl rfl)
theorem dL_law_560 : decode cL_law 560 = .ok (.iaload, 1) := dk_46 (dk_at dksL_law_17 2 rfl rfl)
theorem dL_law_561 : decode cL_law 561 = .ok (.i2c, 1) := dk_146 (dk_at dksL_law_17 3 rfl rfl)
theorem dL_law_562 : decode cL_law 562 = .ok (.aload_n 0, 1) := dk_42 (dk_at dksL_law_17 4 rfl rfl)
theorem dL_law_563 : decode cL_law 563 = .ok (.iload 5, 2) := dk_21 5 (dk_at dksL_law_17 5 rfl rfl)
theorem dL_law_565 : decode cL_law 565 = .ok (.iconst 2, 1) := dk_5 (dk_at dksL_law_17 7 rfl rfl)
theorem dL_law_566 : decode cL_law 566 = .ok (.iadd, 1) := dk_96 (dk_at dksL_law_17 8 rfl rfl)
theorem dL_law_567 : decode cL_law 567 = .ok (.iaload, 1) := dk_46 (dk_at dksL_law_17 9 rfl rfl)
theorem dL_law_568 : decode cL_law 568 = .ok (.aload_n 0, 1) := dk_42 (dk_at dksL_law_17 10 rfl rfl)
theorem dL_law_569 : decode cL_law 569 = .ok (.iload 5, 2) := dk_21 5 (dk_at dksL_law_17 11 rfl rfl)
theorem dL_law_571 : decode cL_law 571 = .ok (.iconst 3, 1) := dk_6 (dk_at dksL_law_17 13 rfl rfl)
theorem dL_law_572 : decode cL_law 572 = .ok (.iadd, 1) := dk_96 (dk_at dksL_law_17 14 rfl rfl)
theorem dL_law_573 : decode cL_law 573 = .ok (.iaload, 1) := dk_46 (dk_at dksL_law_17 15 rfl rfl)
theorem dL_law_574 : decode cL_law 574 = .ok (.aload_n 3, 1) := dk_45 (dk_at dksL_law_17 16 rfl rfl)
theorem dL_law_575 : decode cL_law 575 = .ok (.invokestatic 169, 3) := dk_184 0 169 (dk_at dksL_law_17 17 rfl rfl)
theorem dL_law_578 : decode cL_law 578 = .ok (.istore 6, 2) := dk_54 6 (dk_at dksL_law_17 20 rfl rfl)
theorem dL_law_580 : decode cL_law 580 = .ok (.aload_n 2, 1) := dk_44 (dk_at dksL_law_17 22 rfl rfl)
theorem dL_law_581 : decode cL_law 581 = .ok (.aload_n 0, 1) := dk_42 (dk_at dksL_law_17 23 rfl rfl)
theorem dL_law_582 : decode cL_law 582 = .ok (.iload 5, 2) := dk_21 5 (dk_at dksL_law_18 0 rfl rfl)
theorem dL_law_584 : decode cL_law 584 = .ok (.iconst 1, 1) := dk_4 (dk_at dksL_law_18 2 rfl rfl)
theorem dL_law_585 : decode cL_law 585 = .ok (.iadd, 1) := dk_96 (dk_at dksL_law_18 3 rfl rfl)
theorem dL_law_586 : decode cL_law 586 = .ok (.iaload, 1) := dk_46 (dk_at dksL_law_18 4 rfl rfl)
theorem dL_law_587 : decode cL_law 587 = .ok (.i2c, 1) := dk_146 (dk_at dksL_law_18 5 rfl rfl)
theorem dL_law_588 : decode cL_law 588 = .ok (.aload_n 0, 1) := dk_42 (dk_at dksL_law_18 6 rfl rfl)
theorem dL_law_589 : decode cL_law 589 = .ok (.iload 5, 2) := dk_21 5 (dk_at dksL_law_18 7 rfl rfl)
theorem dL_law_591 : decode cL_law 591 = .ok (.iconst 2, 1) := dk_5 (dk_at dksL_law_18 9 rfl rfl)
theorem dL_law_592 : decode cL_law 592 = .ok (.iadd, 1) := dk_96 (dk_at dksL_law_18 10 rfl rfl)
theorem dL_law_593 : decode cL_law 593 = .ok (.iaload, 1) := dk_46 (dk_at dksL_law_18 11 rfl rfl)
theorem dL_law_594 : decode cL_law 594 = .ok (.aload_n 0, 1) := dk_42 (dk_at dksL_law_18 12 rfl rfl)
theorem dL_law_595 : decode cL_law 595 = .ok (.iload 5, 2) := dk_21 5 (dk_at dksL_law_18 13 rfl rfl)
theorem dL_law_597 : decode cL_law 597 = .ok (.iconst 3, 1) := dk_6 (dk_at dksL_law_18 15 rfl rfl)
theorem dL_law_598 : decode cL_law 598 = .ok (.iadd, 1) := dk_96 (dk_at dksL_law_18 16 rfl rfl)
theorem dL_law_599 : decode cL_law 599 = .ok (.iaload, 1) := dk_46 (dk_at dksL_law_18 17 rfl rfl)
theorem dL_law_600 : decode cL_law 600 = .ok (.invokevirtual 171, 3) := dk_182 0 171 (dk_at dksL_law_18 18 rfl rfl)
theorem dL_law_603 : decode cL_law 603 = .ok (.istore 7, 2) := dk_54 7 (dk_at dksL_law_18 21 rfl rfl)
theorem dL_law_605 : decode cL_law 605 = .ok (.aload_n 2, 1) := dk_44 (dk_at dksL_law_18 23 rfl rfl)
theorem dL_law_606 : decode cL_law 606 = .ok (.invokevirtual 152, 3) := dk_182 0 152 (dk_at dksL_law_19 0 rfl rfl)
theorem dL_law_609 : decode cL_law 609 = .ok (.iload 6, 2) := dk_21 6 (dk_at dksL_law_19 3 rfl rfl)
theorem dL_law_611 : decode cL_law 611 = .ok (.if_icmp .eq 5, 3) := dk_159 0 5 (dk_at dksL_law_19 5 rfl rfl)
theorem dL_law_614 : decode cL_law 614 = .ok (.iconst 0, 1) := dk_3 (dk_at dksL_law_19 8 rfl rfl)
theorem dL_law_615 : decode cL_law 615 = .ok (.ireturn, 1) := dk_172 (dk_at dksL_law_19 9 rfl rfl)
theorem dL_law_616 : decode cL_law 616 = .ok (.iload 6, 2) := dk_21 6 (dk_at dksL_law_19 10 rfl rfl)
theorem dL_law_618 : decode cL_law 618 = .ok (.ifCond .ne 22, 3) := dk_154 0 22 (dk_at dksL_law_19 12 rfl rfl)
theorem dL_law_621 : decode cL_law 621 = .ok (.aload_n 3, 1) := dk_45 (dk_at dksL_law_19 15 rfl rfl)
theorem dL_law_622 : decode cL_law 622 = .ok (.iconst 0, 1) := dk_3 (dk_at dksL_law_19 16 rfl rfl)
theorem dL_law_623 : decode cL_law 623 = .ok (.laload, 1) := dk_47 (dk_at dksL_law_19 17 rfl rfl)
theorem dL_law_624 : decode cL_law 624 = .ok (.iload 7, 2) := dk_21 7 (dk_at dksL_law_19 18 rfl rfl)
theorem dL_law_626 : decode cL_law 626 = .ok (.ifCond .eq 7, 3) := dk_153 0 7 (dk_at dksL_law_19 20 rfl rfl)
theorem dL_law_629 : decode cL_law 629 = .ok (.lconst 1, 1) := dk_10 (dk_at dksL_law_19 23 rfl rfl)
theorem dL_law_630 : decode cL_law 630 = .ok (.goto 4, 3) := dk_167 0 4 (dk_at dksL_law_20 0 rfl rfl)
theorem dL_law_633 : decode cL_law 633 = .ok (.lconst 0, 1) := dk_9 (dk_at dksL_law_20 3 rfl rfl)
theorem dL_law_634 : decode cL_law 634 = .ok (.lcmp, 1) := dk_148 (dk_at dksL_law_20 4 rfl rfl)
theorem dL_law_635 : decode cL_law 635 = .ok (.ifCond .eq 5, 3) := dk_153 0 5 (dk_at dksL_law_20 5 rfl rfl)
theorem dL_law_638 : decode cL_law 638 = .ok (.iconst 0, 1) := dk_3 (dk_at dksL_law_20 8 rfl rfl)
theorem dL_law_639 : decode cL_law 639 = .ok (.ireturn, 1) := dk_172 (dk_at dksL_law_20 9 rfl rfl)
theorem dL_law_640 : decode cL_law 640 = .ok (.goto 2062, 3) := dk_167 8 14 (dk_at dksL_law_20 10 rfl rfl)
theorem dL_law_643 : decode cL_law 643 = .ok (.aload_n 1, 1) := dk_43 (dk_at dksL_law_20 13 rfl rfl)
theorem dL_law_644 : decode cL_law 644 = .ok (.aload_n 0, 1) := dk_42 (dk_at dksL_law_20 14 rfl rfl)
theorem dL_law_645 : decode cL_law 645 = .ok (.iload 5, 2) := dk_21 5 (dk_at dksL_law_20 15 rfl rfl)
theorem dL_law_647 : decode cL_law 647 = .ok (.iconst 1, 1) := dk_4 (dk_at dksL_law_20 17 rfl rfl)
theorem dL_law_648 : decode cL_law 648 = .ok (.iadd, 1) := dk_96 (dk_at dksL_law_20 18 rfl rfl)
theorem dL_law_649 : decode cL_law 649 = .ok (.iaload, 1) := dk_46 (dk_at dksL_law_20 19 rfl rfl)
theorem dL_law_650 : decode cL_law 650 = .ok (.i2c, 1) := dk_146 (dk_at dksL_law_20 20 rfl rfl)
theorem dL_law_651 : decode cL_law 651 = .ok (.aload_n 0, 1) := dk_42 (dk_at dksL_law_20 21 rfl rfl)
theorem dL_law_652 : decode cL_law 652 = .ok (.iload 5, 2) := dk_21 5 (dk_at dksL_law_20 22 rfl rfl)
theorem dL_law_654 : decode cL_law 654 = .ok (.iconst 2, 1) := dk_5 (dk_at dksL_law_21 0 rfl rfl)
theorem dL_law_655 : decode cL_law 655 = .ok (.iadd, 1) := dk_96 (dk_at dksL_law_21 1 rfl rfl)
theorem dL_law_656 : decode cL_law 656 = .ok (.iaload, 1) := dk_46 (dk_at dksL_law_21 2 rfl rfl)
theorem dL_law_657 : decode cL_law 657 = .ok (.aload_n 0, 1) := dk_42 (dk_at dksL_law_21 3 rfl rfl)
theorem dL_law_658 : decode cL_law 658 = .ok (.iload 5, 2) := dk_21 5 (dk_at dksL_law_21 4 rfl rfl)
theorem dL_law_660 : decode cL_law 660 = .ok (.iconst 3, 1) := dk_6 (dk_at dksL_law_21 6 rfl rfl)
theorem dL_law_661 : decode cL_law 661 = .ok (.iadd, 1) := dk_96 (dk_at dksL_law_21 7 rfl rfl)
theorem dL_law_662 : decode cL_law 662 = .ok (.iaload, 1) := dk_46 (dk_at dksL_law_21 8 rfl rfl)
theorem dL_law_663 : decode cL_law 663 = .ok (.aload_n 3, 1) := dk_45 (dk_at dksL_law_21 9 rfl rfl)
theorem dL_law_664 : decode cL_law 664 = .ok (.invokestatic 172, 3) := dk_184 0 172 (dk_at dksL_law_21 10 rfl rfl)
theorem dL_law_667 : decode cL_law 667 = .ok (.istore 6, 2) := dk_54 6 (dk_at dksL_law_21 13 rfl rfl)
theorem dL_law_669 : decode cL_law 669 = .ok (.aload_n 2, 1) := dk_44 (dk_at dksL_law_21 15 rfl rfl)
theorem dL_law_670 : decode cL_law 670 = .ok (.aload_n 0, 1) := dk_42 (dk_at dksL_law_21 16 rfl rfl)
theorem dL_law_671 : decode cL_law 671 = .ok (.iload 5, 2) := dk_21 5 (dk_at dksL_law_21 17 rfl rfl)
theorem dL_law_673 : decode cL_law 673 = .ok (.iconst 1, 1) := dk_4 (dk_at dksL_law_21 19 rfl rfl)
theorem dL_law_674 : decode cL_law 674 = .ok (.iadd, 1) := dk_96 (dk_at dksL_law_21 20 rfl rfl)
theorem dL_law_675 : decode cL_law 675 = .ok (.iaload, 1) := dk_46 (dk_at dksL_law_21 21 rfl rfl)
theorem dL_law_676 : decode cL_law 676 = .ok (.i2c, 1) := dk_146 (dk_at dksL_law_21 22 rfl rfl)
theorem dL_law_677 : decode cL_law 677 = .ok (.aload_n 0, 1) := dk_42 (dk_at dksL_law_21 23 rfl rfl)
theorem dL_law_678 : decode cL_law 678 = .ok (.iload 5, 2) := dk_21 5 (dk_at dksL_law_22 0 rfl rfl)
theorem dL_law_680 : decode cL_law 680 = .ok (.iconst 2, 1) := dk_5 (dk_at dksL_law_22 2 rfl rfl)
theorem dL_law_681 : decode cL_law 681 = .ok (.iadd, 1) := dk_96 (dk_at dksL_law_22 3 rfl rfl)
theorem dL_law_682 : decode cL_law 682 = .ok (.iaload, 1) := dk_46 (dk_at dksL_law_22 4 rfl rfl)
theorem dL_law_683 : decode cL_law 683 = .ok (.aload_n 0, 1) := dk_42 (dk_at dksL_law_22 5 rfl rfl)
theorem dL_law_684 : decode cL_law 684 = .ok (.iload 5, 2) := dk_21 5 (dk_at dksL_law_22 6 rfl rfl)
theorem dL_law_686 : decode cL_law 686 = .ok (.iconst 3, 1) := dk_6 (dk_at dksL_law_22 8 rfl rfl)
theorem dL_law_687 : decode cL_law 687 = .ok (.iadd, 1) := dk_96 (dk_at dksL_law_22 9 rfl rfl)
theorem dL_law_688 : decode cL_law 688 = .ok (.iaload, 1) := dk_46 (dk_at dksL_law_22 10 rfl rfl)
theorem dL_law_689 : decode cL_law 689 = .ok (.invokevirtual 174, 3) := dk_182 0 174 (dk_at dksL_law_22 11 rfl rfl)
theorem dL_law_692 : decode cL_law 692 = .ok (.istore 7, 2) := dk_54 7 (dk_at dksL_law_22 14 rfl rfl)
theorem dL_law_694 : decode cL_law 694 = .ok (.aload_n 2, 1) := dk_44 (dk_at dksL_law_22 16 rfl rfl)
theorem dL_law_695 : decode cL_law 695 = .ok (.invokevirtual 152, 3) := dk_182 0 152 (dk_at dksL_law_22 17 rfl rfl)
theorem dL_law_698 : decode cL_law 698 = .ok (.iload 6, 2) := dk_21 6 (dk_at dksL_law_22 20 rfl rfl)
theorem dL_law_700 : decode cL_law 700 = .ok (.if_icmp .eq 5, 3) := dk_159 0 5 (dk_at dksL_law_23 0 rfl rfl)
theorem dL_law_703 : decode cL_law 703 = .ok (.iconst 0, 1) := dk_3 (dk_at dksL_law_23 3 rfl rfl)
theorem dL_law_704 : decode cL_law 704 = .ok (.ireturn, 1) := dk_172 (dk_at dksL_law_23 4 rfl rfl)
theorem dL_law_705 : decode cL_law 705 = .ok (.iload 6, 2) := dk_21 6 (dk_at dksL_law_23 5 rfl rfl)
theorem dL_law_707 : decode cL_law 707 = .ok (.ifCond .ne 22, 3) := dk_154 0 22 (dk_at dksL_law_23 7 rfl rfl)
theorem dL_law_710 : decode cL_law 710 = .ok (.aload_n 3, 1) := dk_45 (dk_at dksL_law_23 10 rfl rfl)
theorem dL_law_711 : decode cL_law 711 = .ok (.iconst 0, 1) := dk_3 (dk_at dksL_law_23 11 rfl rfl)
theorem dL_law_712 : decode cL_law 712 = .ok (.laload, 1) := dk_47 (dk_at dksL_law_23 12 rfl rfl)
theorem dL_law_713 : decode cL_law 713 = .ok (.iload 7, 2) := dk_21 7 (dk_at dksL_law_23 13 rfl rfl)
theorem dL_law_715 : decode cL_law 715 = .ok (.ifCond .eq 7, 3) := dk_153 0 7 (dk_at dksL_law_23 15 rfl rfl)
theorem dL_law_718 : decode cL_law 718 = .ok (.lconst 1, 1) := dk_10 (dk_at dksL_law_23 18 rfl rfl)
theorem dL_law_719 : decode cL_law 719 = .ok (.goto 4, 3) := dk_167 0 4 (dk_at dksL_law_23 19 rfl rfl)
theorem dL_law_722 : decode cL_law 722 = .ok (.lconst 0, 1) := dk_9 (dk_at dksL_law_23 22 rfl rfl)
theorem dL_law_723 : decode cL_law 723 = .ok (.lcmp, 1) := dk_148 (dk_at dksL_law_23 23 rfl rfl)
theorem dL_law_724 : decode cL_law 724 = .ok (.ifCond .eq 5, 3) := dk_153 0 5 (dk_at dksL_law_24 0 rfl rfl)
theorem dL_law_727 : decode cL_law 727 = .ok (.iconst 0, 1) := dk_3 (dk_at dksL_law_24 3 rfl rfl)
theorem dL_law_728 : decode cL_law 728 = .ok (.ireturn, 1) := dk_172 (dk_at dksL_law_24 4 rfl rfl)
theorem dL_law_729 : decode cL_law 729 = .ok (.goto 1973, 3) := dk_167 7 181 (dk_at dksL_law_24 5 rfl rfl)
theorem dL_law_732 : decode cL_law 732 = .ok (.aload_n 1, 1) := dk_43 (dk_at dksL_law_24 8 rfl rfl)
theorem dL_law_733 : decode cL_law 733 = .ok (.aload_n 0, 1) := dk_42 (dk_at dksL_law_24 9 rfl rfl)
theorem dL_law_734 : decode cL_law 734 = .ok (.iload 5, 2) := dk_21 5 (dk_at dksL_law_24 10 rfl rfl)
theorem dL_law_736 : decode cL_law 736 = .ok (.iconst 1, 1) := dk_4 (dk_at dksL_law_24 12 rfl rfl)
theorem dL_law_737 : decode cL_law 737 = .ok (.iadd, 1) := dk_96 (dk_at dksL_law_24 13 rfl rfl)
theorem dL_law_738 : decode cL_law 738 = .ok (.iaload, 1) := dk_46 (dk_at dksL_law_24 14 rfl rfl)
theorem dL_law_739 : decode cL_law 739 = .ok (.i2c, 1) := dk_146 (dk_at dksL_law_24 15 rfl rfl)
theorem dL_law_740 : decode cL_law 740 = .ok (.aload_n 3, 1) := dk_45 (dk_at dksL_law_24 16 rfl rfl)
theorem dL_law_741 : decode cL_law 741 = .ok (.invokestatic 175, 3) := dk_184 0 175 (dk_at dksL_law_24 17 rfl rfl)
theorem dL_law_744 : decode cL_law 744 = .ok (.istore 6, 2) := dk_54 6 (dk_at dksL_law_24 20 rfl rfl)
theorem dL_law_746 : decode cL_law 746 = .ok (.aload_n 2, 1) := dk_44 (dk_at dksL_law_24 22 rfl rfl)
theorem dL_law_747 : decode cL_law 747 = .ok (.aload_n 0, 1) := dk_42 (dk_at dksL_law_24 23 rfl rfl)
theorem dL_law_748 : decode cL_law 748 = .ok (.iload 5, 2) := dk_21 5 (dk_at dksL_law_25 0 rfl rfl)
theorem dL_law_750 : decode cL_law 750 = .ok (.iconst 1, 1) := dk_4 (dk_at dksL_law_25 2 rfl rfl)
theorem dL_law_751 : decode cL_law 751 = .ok (.iadd, 1) := dk_96 (dk_at dksL_law_25 3 rfl rfl)
theorem dL_law_752 : decode cL_law 752 = .ok (.iaload, 1) := dk_46 (dk_at dksL_law_25 4 rfl rfl)
theorem dL_law_753 : decode cL_law 753 = .ok (.i2c, 1) := dk_146 (dk_at dksL_law_25 5 rfl rfl)
theorem dL_law_754 : decode cL_law 754 = .ok (.invokevirtual 178, 3) := dk_182 0 178 (dk_at dksL_law_25 6 rfl rfl)
theorem dL_law_757 : decode cL_law 757 = .ok (.istore 7, 2) := dk_54 7 (dk_at dksL_law_25 9 rfl rfl)
theorem dL_law_759 : decode cL_law 759 = .ok (.aload_n 2, 1) := dk_44 (dk_at dksL_law_25 11 rfl rfl)
theorem dL_law_760 : decode cL_law 760 = .ok (.invokevirtual 152, 3) := dk_182 0 152 (dk_at dksL_law_25 12 rfl rfl)
theorem dL_law_763 : decode cL_law 763 = .ok (.iload 6, 2) := dk_21 6 (dk_at dksL_law_25 15 rfl rfl)
theorem dL_law_765 : decode cL_law 765 = .ok (.if_icmp .eq 5, 3) := dk_159 0 5 (dk_at dksL_law_25 17 rfl rfl)
theorem dL_law_768 : decode cL_law 768 = .ok (.iconst 0, 1) := dk_3 (dk_at dksL_law_25 20 rfl rfl)
theorem dL_law_769 : decode cL_law 769 = .ok (.ireturn, 1) := dk_172 (dk_at dksL_law_25 21 rfl rfl)
theorem dL_law_770 : decode cL_law 770 = .ok (.iload 6, 2) := dk_21 6 (dk_at dksL_law_25 22 rfl rfl)
theorem dL_law_772 : decode cL_law 772 = .ok (.ifCond .ne 15, 3) := dk_154 0 15 (dk_at dksL_law_26 0 rfl rfl)
theorem dL_law_775 : decode cL_law 775 = .ok (.aload_n 3, 1) := dk_45 (dk_at dksL_law_26 3 rfl rfl)
theorem dL_law_776 : decode cL_law 776 = .ok (.iconst 0, 1) := dk_3 (dk_at dksL_law_26 4 rfl rfl)
theorem dL_law_777 : decode cL_law 777 = .ok (.laload, 1) := dk_47 (dk_at dksL_law_26 5 rfl rfl)
theorem dL_law_778 : decode cL_law 778 = .ok (.iload 7, 2) := dk_21 7 (dk_at dksL_law_26 6 rfl rfl)
theorem dL_law_780 : decode cL_law 780 = .ok (.i2l, 1) := dk_133 (dk_at dksL_law_26 8 rfl rfl)
theorem dL_law_781 : decode cL_law 781 = .ok (.lcmp, 1) := dk_148 (dk_at dksL_law_26 9 rfl rfl)
theorem dL_law_782 : decode cL_law 782 = .ok (.ifCond .eq 5, 3) := dk_153 0 5 (dk_at dksL_law_26 10 rfl rfl)
theorem dL_law_785 : decode cL_law 785 = .ok (.iconst 0, 1) := dk_3 (dk_at dksL_law_26 13 rfl rfl)
theorem dL_law_786 : decode cL_law 786 = .ok (.ireturn, 1) := dk_172 (dk_at dksL_law_26 14 rfl rfl)
theorem dL_law_787 : decode cL_law 787 = .ok (.goto 1915, 3) := dk_167 7 123 (dk_at dksL_law_26 15 rfl rfl)
theorem dL_law_790 : decode cL_law 790 = .ok (.aload_n 1, 1) := dk_43 (dk_at dksL_law_26 18 rfl rfl)
theorem dL_law_791 : decode cL_law 791 = .ok (.invokevirtual 179, 3) := dk_182 0 179 (dk_at dksL_law_26 19 rfl rfl)
theorem dL_law_794 : decode cL_law 794 = .ok (.aload_n 2, 1) := dk_44 (dk_at dksL_law_26 22 rfl rfl)
theorem dL_law_795 : decode cL_law 795 = .ok (.invokevirtual 182, 3) := dk_182 0 182 (dk_at dksL_law_27 0 rfl rfl)
theorem dL_law_798 : decode cL_law 798 = .ok (.if_icmp .eq 1904, 3) := dk_159 7 112 (dk_at dksL_law_27 3 rfl rfl)
theorem dL_law_801 : decode cL_law 801 = .ok (.iconst 0, 1) := dk_3 (dk_at dksL_law_27 6 rfl rfl)
theorem dL_law_802 : decode cL_law 802 = .ok (.ireturn, 1) := dk_172 (dk_at dksL_law_27 7 rfl rfl)
theorem dL_law_803 : decode cL_law 803 = .ok (.aload_n 1, 1) := dk_43 (dk_at dksL_law_27 8 rfl rfl)
theorem dL_law_804 : decode cL_law 804 = .ok (.aload_n 0, 1) := dk_42 (dk_at dksL_law_27 9 rfl rfl)
theorem dL_law_805 : decode cL_law 805 = .ok (.iload 5, 2) := dk_21 5 (dk_at dksL_law_27 10 rfl rfl)
theorem dL_law_807 : decode cL_law 807 = .ok (.iconst 1, 1) := dk_4 (dk_at dksL_law_27 12 rfl rfl)
theorem dL_law_808 : decode cL_law 808 = .ok (.iadd, 1) := dk_96 (dk_at dksL_law_27 13 rfl rfl)
theorem dL_law_809 : decode cL_law 809 = .ok (.iaload, 1) := dk_46 (dk_at dksL_law_27 14 rfl rfl)
theorem dL_law_810 : decode cL_law 810 = .ok (.i2c, 1) := dk_146 (dk_at dksL_law_27 15 rfl rfl)
theorem dL_law_811 : decode cL_law 811 = .ok (.aload_n 0, 1) := dk_42 (dk_at dksL_law_27 16 rfl rfl)
theorem dL_law_812 : decode cL_law 812 = .ok (.iload 5, 2) := dk_21 5 (dk_at dksL_law_27 17 rfl rfl)
theorem dL_law_814 : decode cL_law 814 = .ok (.iconst 2, 1) := dk_5 (dk_at dksL_law_27 19 rfl rfl)
theorem dL_law_815 : decode cL_law 815 = .ok (.iadd, 1) := dk_96 (dk_at dksL_law_27 20 rfl rfl)
theorem dL_law_816 : decode cL_law 816 = .ok (.iaload, 1) := dk_46 (dk_at dksL_law_27 21 rfl rfl)
theorem dL_law_817 : decode cL_law 817 = .ok (.aload_n 0, 1) := dk_42 (dk_at dksL_law_27 22 rfl rfl)
theorem dL_law_818 : decode cL_law 818 = .ok (.iload 5, 2) := dk_21 5 (dk_at dksL_law_28 0 rfl rfl)
theorem dL_law_820 : decode cL_law 820 = .ok (.iconst 3, 1) := dk_6 (dk_at dksL_law_28 2 rfl rfl)
theorem dL_law_821 : decode cL_law 821 = .ok (.iadd, 1) := dk_96 (dk_at dksL_law_28 3 rfl rfl)
theorem dL_law_822 : decode cL_law 822 = .ok (.iaload, 1) := dk_46 (dk_at dksL_law_28 4 rfl rfl)
theorem dL_law_823 : decode cL_law 823 = .ok (.aload_n 3, 1) := dk_45 (dk_at dksL_law_28 5 rfl rfl)
theorem dL_law_824 : decode cL_law 824 = .ok (.invokestatic 183, 3) := dk_184 0 183 (dk_at dksL_law_28 6 rfl rfl)
theorem dL_law_827 : decode cL_law 827 = .ok (.istore 6, 2) := dk_54 6 (dk_at dksL_law_28 9 rfl rfl)
theorem dL_law_829 : decode cL_law 829 = .ok (.aload_n 2, 1) := dk_44 (dk_at dksL_law_28 11 rfl rfl)
theorem dL_law_830 : decode cL_law 830 = .ok (.aload_n 0, 1) := dk_42 (dk_at dksL_law_28 12 rfl rfl)
theorem dL_law_831 : decode cL_law 831 = .ok (.iload 5, 2) := dk_21 5 (dk_at dksL_law_28 13 rfl rfl)
theorem dL_law_833 : decode cL_law 833 = .ok (.iconst 1, 1) := dk_4 (dk_at dksL_law_28 15 rfl rfl)
theorem dL_law_834 : decode cL_law 834 = .ok (.iadd, 1) := dk_96 (dk_at dksL_law_28 16 rfl rfl)
theorem dL_law_835 : decode cL_law 835 = .ok (.iaload, 1) := dk_46 (dk_at dksL_law_28 17 rfl rfl)
theorem dL_law_836 : decode cL_law 836 = .ok (.i2c, 1) := dk_146 (dk_at dksL_law_28 18 rfl rfl)
theorem dL_law_837 : decode cL_law 837 = .ok (.aload_n 0, 1) := dk_42 (dk_at dksL_law_28 19 rfl rfl)
theorem dL_law_838 : decode cL_law 838 = .ok (.iload 5, 2) := dk_21 5 (dk_at dksL_law_28 20 rfl rfl)
theorem dL_law_840 : decode cL_law 840 = .ok (.iconst 2, 1) := dk_5 (dk_at dksL_law_28 22 rfl rfl)
theorem dL_law_841 : decode cL_law 841 = .ok (.iadd, 1) := dk_96 (dk_at dksL_law_28 23 rfl rfl)
theorem dL_law_842 : decode cL_law 842 = .ok (.iaload, 1) := dk_46 (dk_at dksL_law_29 0 rfl rfl)
theorem dL_law_843 : decode cL_law 843 = .ok (.aload_n 0, 1) := dk_42 (dk_at dksL_law_29 1 rfl rfl)
theorem dL_law_844 : decode cL_law 844 = .ok (.iload 5, 2) := dk_21 5 (dk_at dksL_law_29 2 rfl rfl)
theorem dL_law_846 : decode cL_law 846 = .ok (.iconst 3, 1) := dk_6 (dk_at dksL_law_29 4 rfl rfl)
theorem dL_law_847 : decode cL_law 847 = .ok (.iadd, 1) := dk_96 (dk_at dksL_law_29 5 rfl rfl)
theorem dL_law_848 : decode cL_law 848 = .ok (.iaload, 1) := dk_46 (dk_at dksL_law_29 6 rfl rfl)
theorem dL_law_849 : decode cL_law 849 = .ok (.invokevirtual 185, 3) := dk_182 0 185 (dk_at dksL_law_29 7 rfl rfl)
theorem dL_law_852 : decode cL_law 852 = .ok (.istore 7, 2) := dk_54 7 (dk_at dksL_law_29 10 rfl rfl)
theorem dL_law_854 : decode cL_law 854 = .ok (.aload_n 2, 1) := dk_44 (dk_at dksL_law_29 12 rfl rfl)
theorem dL_law_855 : decode cL_law 855 = .ok (.invokevirtual 152, 3) := dk_182 0 152 (dk_at dksL_law_29 13 rfl rfl)
theorem dL_law_858 : decode cL_law 858 = .ok (.iload 6, 2) := dk_21 6 (dk_at dksL_law_29 16 rfl rfl)
theorem dL_law_860 : decode cL_law 860 = .ok (.if_icmp .eq 5, 3) := dk_159 0 5 (dk_at dksL_law_29 18 rfl rfl)
theorem dL_law_863 : decode cL_law 863 = .ok (.iconst 0, 1) := dk_3 (dk_at dksL_law_29 21 rfl rfl)
theorem dL_law_864 : decode cL_law 864 = .ok (.ireturn, 1) := dk_172 (dk_at dksL_law_29 22 rfl rfl)
theorem dL_law_865 : decode cL_law 865 = .ok (.iload 6, 2) := dk_21 6 (dk_at dksL_law_30 0 rfl rfl)
theorem dL_law_867 : decode cL_law 867 = .ok (.ifCond .ne 15, 3) := dk_154 0 15 (dk_at dksL_law_30 2 rfl rfl)
theorem dL_law_870 : decode cL_law 870 = .ok (.aload_n 3, 1) := dk_45 (dk_at dksL_law_30 5 rfl rfl)
theorem dL_law_871 : decode cL_law 871 = .ok (.iconst 0, 1) := dk_3 (dk_at dksL_law_30 6 rfl rfl)
theorem dL_law_872 : decode cL_law 872 = .ok (.laload, 1) := dk_47 (dk_at dksL_law_30 7 rfl rfl)
theorem dL_law_873 : decode cL_law 873 = .ok (.iload 7, 2) := dk_21 7 (dk_at dksL_law_30 8 rfl rfl)
theorem dL_law_875 : decode cL_law 875 = .ok (.i2l, 1) := dk_133 (dk_at dksL_law_30 10 rfl rfl)
theorem dL_law_876 : decode cL_law 876 = .ok (.lcmp, 1) := dk_148 (dk_at dksL_law_30 11 rfl rfl)
theorem dL_law_877 : decode cL_law 877 = .ok (.ifCond .eq 5, 3) := dk_153 0 5 (dk_at dksL_law_30 12 rfl rfl)
theorem dL_law_880 : decode cL_law 880 = .ok (.iconst 0, 1) := dk_3 (dk_at dksL_law_30 15 rfl rfl)
theorem dL_law_881 : decode cL_law 881 = .ok (.ireturn, 1) := dk_172 (dk_at dksL_law_30 16 rfl rfl)
theorem dL_law_882 : decode cL_law 882 = .ok (.goto 1820, 3) := dk_167 7 28 (dk_at dksL_law_30 17 rfl rfl)
theorem dL_law_885 : decode cL_law 885 = .ok (.aload_n 1, 1) := dk_43 (dk_at dksL_law_30 20 rfl rfl)
theorem dL_law_886 : decode cL_law 886 = .ok (.aload_n 0, 1) := dk_42 (dk_at dksL_law_30 21 rfl rfl)
theorem dL_law_887 : decode cL_law 887 = .ok (.iload 5, 2) := dk_21 5 (dk_at dksL_law_30 22 rfl rfl)
theorem dL_law_889 : decode cL_law 889 = .ok (.iconst 1, 1) := dk_4 (dk_at dksL_law_31 0 rfl rfl)
theorem dL_law_890 : decode cL_law 890 = .ok (.iadd, 1) := dk_96 (dk_at dksL_law_31 1 rfl rfl)
theorem dL_law_891 : decode cL_law 891 = .ok (.iaload, 1) := dk_46 (dk_at dksL_law_31 2 rfl rfl)
theorem dL_law_892 : decode cL_law 892 = .ok (.i2c, 1) := dk_146 (dk_at dksL_law_31 3 rfl rfl)
theorem dL_law_893 : decode cL_law 893 = .ok (.aload_n 0, 1) := dk_42 (dk_at dksL_law_31 4 rfl rfl)
theorem dL_law_894 : decode cL_law 894 = .ok (.iload 5, 2) := dk_21 5 (dk_at dksL_law_31 5 rfl rfl)
theorem dL_law_896 : decode cL_law 896 = .ok (.iconst 2, 1) := dk_5 (dk_at dksL_law_31 7 rfl rfl)
theorem dL_law_897 : decode cL_law 897 = .ok (.iadd, 1) := dk_96 (dk_at dksL_law_31 8 rfl rfl)
theorem dL_law_898 : decode cL_law 898 = .ok (.iaload, 1) := dk_46 (dk_at dksL_law_31 9 rfl rfl)
theorem dL_law_899 : decode cL_law 899 = .ok (.aload_n 3, 1) := dk_45 (dk_at dksL_law_31 10 rfl rfl)
theorem dL_law_900 : decode cL_law 900 = .ok (.invokestatic 186, 3) := dk_184 0 186 (dk_at dksL_law_31 11 rfl rfl)
theorem dL_law_903 : decode cL_law 903 = .ok (.istore 6, 2) := dk_54 6 (dk_at dksL_law_31 14 rfl rfl)
theorem dL_law_905 : decode cL_law 905 = .ok (.aload_n 2, 1) := dk_44 (dk_at dksL_law_31 16 rfl rfl)
theorem dL_law_906 : decode cL_law 906 = .ok (.aload_n 0, 1) := dk_42 (dk_at dksL_law_31 17 rfl rfl)
theorem dL_law_907 : decode cL_law 907 = .ok (.iload 5, 2) := dk_21 5 (dk_at dksL_law_31 18 rfl rfl)
theorem dL_law_909 : decode cL_law 909 = .ok (.iconst 1, 1) := dk_4 (dk_at dksL_law_31 20 rfl rfl)
theorem dL_law_910 : decode cL_law 910 = .ok (.iadd, 1) := dk_96 (dk_at dksL_law_31 21 rfl rfl)
theorem dL_law_911 : decode cL_law 911 = .ok (.iaload, 1) := dk_46 (dk_at dksL_law_31 22 rfl rfl)
theorem dL_law_912 : decode cL_law 912 = .ok (.i2c, 1) := dk_146 (dk_at dksL_law_31 23 rfl rfl)
theorem dL_law_913 : decode cL_law 913 = .ok (.aload_n 0, 1) := dk_42 (dk_at dksL_law_32 0 rfl rfl)
theorem dL_law_914 : decode cL_law 914 = .ok (.iload 5, 2) := dk_21 5 (dk_at dksL_law_32 1 rfl rfl)
theorem dL_law_916 : decode cL_law 916 = .ok (.iconst 2, 1) := dk_5 (dk_at dksL_law_32 3 rfl rfl)
theorem dL_law_917 : decode cL_law 917 = .ok (.iadd, 1) := dk_96 (dk_at dksL_law_32 4 rfl rfl)
theorem dL_law_918 : decode cL_law 918 = .ok (.iaload, 1) := dk_46 (dk_at dksL_law_32 5 rfl rfl)
theorem dL_law_919 : decode cL_law 919 = .ok (.invokevirtual 189, 3) := dk_182 0 189 (dk_at dksL_law_32 6 rfl rfl)
theorem dL_law_922 : decode cL_law 922 = .ok (.istore 7, 2) := dk_54 7 (dk_at dksL_law_32 9 rfl rfl)
theorem dL_law_924 : decode cL_law 924 = .ok (.aload_n 2, 1) := dk_44 (dk_at dksL_law_32 11 rfl rfl)
theorem dL_law_925 : decode cL_law 925 = .ok (.invokevirtual 152, 3) := dk_182 0 152 (dk_at dksL_law_32 12 rfl rfl)
theorem dL_law_928 : decode cL_law 928 = .ok (.iload 6, 2) := dk_21 6 (dk_at dksL_law_32 15 rfl rfl)
theorem dL_law_930 : decode cL_law 930 = .ok (.if_icmp .eq 5, 3) := dk_159 0 5 (dk_at dksL_law_32 17 rfl rfl)
theorem dL_law_933 : decode cL_law 933 = .ok (.iconst 0, 1) := dk_3 (dk_at dksL_law_32 20 rfl rfl)
theorem dL_law_934 : decode cL_law 934 = .ok (.ireturn, 1) := dk_172 (dk_at dksL_law_32 21 rfl rfl)
theorem dL_law_935 : decode cL_law 935 = .ok (.iload 6, 2) := dk_21 6 (dk_at dksL_law_32 22 rfl rfl)
theorem dL_law_937 : decode cL_law 937 = .ok (.ifCond .ne 15, 3) := dk_154 0 15 (dk_at dksL_law_33 0 rfl rfl)
theorem dL_law_940 : decode cL_law 940 = .ok (.aload_n 3, 1) := dk_45 (dk_at dksL_law_33 3 rfl rfl)
theorem dL_law_941 : decode cL_law 941 = .ok (.iconst 0, 1) := dk_3 (dk_at dksL_law_33 4 rfl rfl)
theorem dL_law_942 : decode cL_law 942 = .ok (.laload, 1) := dk_47 (dk_at dksL_law_33 5 rfl rfl)
theorem dL_law_943 : decode cL_law 943 = .ok (.iload 7, 2) := dk_21 7 (dk_at dksL_law_33 6 rfl rfl)
theorem dL_law_945 : decode cL_law 945 = .ok (.i2l, 1) := dk_133 (dk_at dksL_law_33 8 rfl rfl)
theorem dL_law_946 : decode cL_law 946 = .ok (.lcmp, 1) := dk_148 (dk_at dksL_law_33 9 rfl rfl)
theorem dL_law_947 : decode cL_law 947 = .ok (.ifCond .eq 5, 3) := dk_153 0 5 (dk_at dksL_law_33 10 rfl rfl)
theorem dL_law_950 : decode cL_law 950 = .ok (.iconst 0, 1) := dk_3 (dk_at dksL_law_33 13 rfl rfl)
theorem dL_law_951 : decode cL_law 951 = .ok (.ireturn, 1) := dk_172 (dk_at dksL_law_33 14 rfl rfl)
theorem dL_law_952 : decode cL_law 952 = .ok (.goto 1750, 3) := dk_167 6 214 (dk_at dksL_law_33 15 rfl rfl)
theorem dL_law_955 : decode cL_law 955 = .ok (.aload_n 1, 1) := dk_43 (dk_at dksL_law_33 18 rfl rfl)
theorem dL_law_956 : decode cL_law 956 = .ok (.aload_n 0, 1) := dk_42 (dk_at dksL_law_33 19 rfl rfl)
theorem dL_law_957 : decode cL_law 957 = .ok (.iload 5, 2) := dk_21 5 (dk_at dksL_law_33 20 rfl rfl)
theorem dL_law_959 : decode cL_law 959 = .ok (.iconst 1, 1) := dk_4 (dk_at dksL_law_33 22 rfl rfl)
theorem dL_law_960 : decode cL_law 960 = .ok (.iadd, 1) := dk_96 (dk_at dksL_law_33 23 rfl rfl)
theorem dL_law_961 : decode cL_law 961 = .ok (.iaload, 1) := dk_46 (dk_at dksL_law_34 0 rfl rfl)
theorem dL_law_962 : decode cL_law 962 = .ok (.i2c, 1) := dk_146 (dk_at dksL_law_34 1 rfl rfl)
theorem dL_law_963 : decode cL_law 963 = .ok (.aload_n 3, 1) := dk_45 (dk_at dksL_law_34 2 rfl rfl)
theorem dL_law_964 : decode cL_law 964 = .ok (.invokestatic 190, 3) := dk_184 0 190 (dk_at dksL_law_34 3 rfl rfl)
theorem dL_law_967 : decode cL_law 967 = .ok (.istore 6, 2) := dk_54 6 (dk_at dksL_law_34 6 rfl rfl)
theorem dL_law_969 : decode cL_law 969 = .ok (.aload_n 2, 1) := dk_44 (dk_at dksL_law_34 8 rfl rfl)
theorem dL_law_970 : decode cL_law 970 = .ok (.aload_n 0, 1) := dk_42 (dk_at dksL_law_34 9 rfl rfl)
theorem dL_law_971 : decode cL_law 971 = .ok (.iload 5, 2) := dk_21 5 (dk_at dksL_law_34 10 rfl rfl)
theorem dL_law_973 : decode cL_law 973 = .ok (.iconst 1, 1) := dk_4 (dk_at dksL_law_34 12 rfl rfl)
theorem dL_law_974 : decode cL_law 974 = .ok (.iadd, 1) := dk_96 (dk_at dksL_law_34 13 rfl rfl)
theorem dL_law_975 : decode cL_law 975 = .ok (.iaload, 1) := dk_46 (dk_at dksL_law_34 14 rfl rfl)
theorem dL_law_976 : decode cL_law 976 = .ok (.i2c, 1) := dk_146 (dk_at dksL_law_34 15 rfl rfl)
theorem dL_law_977 : decode cL_law 977 = .ok (.invokevirtual 192, 3) := dk_182 0 192 (dk_at dksL_law_34 16 rfl rfl)
theorem dL_law_980 : decode cL_law 980 = .ok (.istore 7, 2) := dk_54 7 (dk_at dksL_law_34 19 rfl rfl)
theorem dL_law_982 : decode cL_law 982 = .ok (.aload_n 2, 1) := dk_44 (dk_at dksL_law_34 21 rfl rfl)
theorem dL_law_983 : decode cL_law 983 = .ok (.invokevirtual 152, 3) := dk_182 0 152 (dk_at dksL_law_35 0 rfl rfl)
theorem dL_law_986 : decode cL_law 986 = .ok (.iload 6, 2) := dk_21 6 (dk_at dksL_law_35 3 rfl rfl)
theorem dL_law_988 : decode cL_law 988 = .ok (.if_icmp .eq 5, 3) := dk_159 0 5 (dk_at dksL_law_35 5 rfl rfl)
theorem dL_law_991 : decode cL_law 991 = .ok (.iconst 0, 1) := dk_3 (dk_at dksL_law_35 8 rfl rfl)
theorem dL_law_992 : decode cL_law 992 = .ok (.ireturn, 1) := dk_172 (dk_at dksL_law_35 9 rfl rfl)
theorem dL_law_993 : decode cL_law 993 = .ok (.iload 6, 2) := dk_21 6 (dk_at dksL_law_35 10 rfl rfl)
theorem dL_law_995 : decode cL_law 995 = .ok (.ifCond .ne 15, 3) := dk_154 0 15 (dk_at dksL_law_35 12 rfl rfl)
theorem dL_law_998 : decode cL_law 998 = .ok (.aload_n 3, 1) := dk_45 (dk_at dksL_law_35 15 rfl rfl)
theorem dL_law_999 : decode cL_law 999 = .ok (.iconst 0, 1) := dk_3 (dk_at dksL_law_35 16 rfl rfl)
theorem dL_law_1000 : decode cL_law 1000 = .ok (.laload, 1) := dk_47 (dk_at dksL_law_35 17 rfl rfl)
theorem dL_law_1001 : decode cL_law 1001 = .ok (.iload 7, 2) := dk_21 7 (dk_at dksL_law_35 18 rfl rfl)
theorem dL_law_1003 : decode cL_law 1003 = .ok (.i2l, 1) := dk_133 (dk_at dksL_law_35 20 rfl rfl)
theorem dL_law_1004 : decode cL_law 1004 = .ok (.lcmp, 1) := dk_148 (dk_at dksL_law_35 21 rfl rfl)
theorem dL_law_1005 : decode cL_law 1005 = .ok (.ifCond .eq 5, 3) := dk_153 0 5 (dk_at dksL_law_36 0 rfl rfl)
theorem dL_law_1008 : decode cL_law 1008 = .ok (.iconst 0, 1) := dk_3 (dk_at dksL_law_36 3 rfl rfl)
theorem dL_law_1009 : decode cL_law 1009 = .ok (.ireturn, 1) := dk_172 (dk_at dksL_law_36 4 rfl rfl)
theorem dL_law_1010 : decode cL_law 1010 = .ok (.goto 1692, 3) := dk_167 6 156 (dk_at dksL_law_36 5 rfl rfl)
theorem dL_law_1013 : decode cL_law 1013 = .ok (.aload_n 1, 1) := dk_43 (dk_at dksL_law_36 8 rfl rfl)
theorem dL_law_1014 : decode cL_law 1014 = .ok (.aload_n 0, 1) := dk_42 (dk_at dksL_law_36 9 rfl rfl)
theorem dL_law_1015 : decode cL_law 1015 = .ok (.iload 5, 2) := dk_21 5 (dk_at dksL_law_36 10 rfl rfl)
theorem dL_law_1017 : decode cL_law 1017 = .ok (.iconst 1, 1) := dk_4 (dk_at dksL_law_36 12 rfl rfl)
theorem dL_law_1018 : decode cL_law 1018 = .ok (.iadd, 1) := dk_96 (dk_at dksL_law_36 13 rfl rfl)
theorem dL_law_1019 : decode cL_law 1019 = .ok (.iaload, 1) := dk_46 (dk_at dksL_law_36 14 rfl rfl)
theorem dL_law_1020 : decode cL_law 1020 = .ok (.i2c, 1) := dk_146 (dk_at dksL_law_36 15 rfl rfl)
theorem dL_law_1021 : decode cL_law 1021 = .ok (.aload_n 0, 1) := dk_42 (dk_at dksL_law_36 16 rfl rfl)
theorem dL_law_1022 : decode cL_law 1022 = .ok (.iload 5, 2) := dk_21 5 (dk_at dksL_law_36 17 rfl rfl)
theorem dL_law_1024 : decode cL_law 1024 = .ok (.iconst 2, 1) := dk_5 (dk_at dksL_law_36 19 rfl rfl)
theorem dL_law_1025 : decode cL_law 1025 = .ok (.iadd, 1) := dk_96 (dk_at dksL_law_36 20 rfl rfl)
theorem dL_law_1026 : decode cL_law 1026 = .ok (.iaload, 1) := dk_46 (dk_at dksL_law_36 21 rfl rfl)
theorem dL_law_1027 : decode cL_law 1027 = .ok (.aload_n 0, 1) := dk_42 (dk_at dksL_law_36 22 rfl rfl)
theorem dL_law_1028 : decode cL_law 1028 = .ok (.iload 5, 2) := dk_21 5 (dk_at dksL_law_37 0 rfl rfl)
theorem dL_law_1030 : decode cL_law 1030 = .ok (.iconst 3, 1) := dk_6 (dk_at dksL_law_37 2 rfl rfl)
theorem dL_law_1031 : decode cL_law 1031 = .ok (.iadd, 1) := dk_96 (dk_at dksL_law_37 3 rfl rfl)
theorem dL_law_1032 : decode cL_law 1032 = .ok (.iaload, 1) := dk_46 (dk_at dksL_law_37 4 rfl rfl)
theorem dL_law_1033 : decode cL_law 1033 = .ok (.aload_n 3, 1) := dk_45 (dk_at dksL_law_37 5 rfl rfl)
theorem dL_law_1034 : decode cL_law 1034 = .ok (.invokestatic 193, 3) := dk_184 0 193 (dk_at dksL_law_37 6 rfl rfl)
theorem dL_law_1037 : decode cL_law 1037 = .ok (.istore 6, 2) := dk_54 6 (dk_at dksL_law_37 9 rfl rfl)
theorem dL_law_1039 : decode cL_law 1039 = .ok (.aload_n 2, 1) := dk_44 (dk_at dksL_law_37 11 rfl rfl)
theorem dL_law_1040 : decode cL_law 1040 = .ok (.aload_n 0, 1) := dk_42 (dk_at dksL_law_37 12 rfl rfl)
theorem dL_law_1041 : decode cL_law 1041 = .ok (.iload 5, 2) := dk_21 5 (dk_at dksL_law_37 13 rfl rfl)
theorem dL_law_1043 : decode cL_law 1043 = .ok (.iconst 1, 1) := dk_4 (dk_at dksL_law_37 15 rfl rfl)
theorem dL_law_1044 : decode cL_law 1044 = .ok (.iadd, 1) := dk_96 (dk_at dksL_law_37 16 rfl rfl)
theorem dL_law_1045 : decode cL_law 1045 = .ok (.iaload, 1) := dk_46 (dk_at dksL_law_37 17 rfl rfl)
theorem dL_law_1046 : decode cL_law 1046 = .ok (.i2c, 1) := dk_146 (dk_at dksL_law_37 18 rfl rfl)
theorem dL_law_1047 : decode cL_law 1047 = .ok (.aload_n 0, 1) := dk_42 (dk_at dksL_law_37 19 rfl rfl)
theorem dL_law_1048 : decode cL_law 1048 = .ok (.iload 5, 2) := dk_21 5 (dk_at dksL_law_37 20 rfl rfl)
theorem dL_law_1050 : decode cL_law 1050 = .ok (.iconst 2, 1) := dk_5 (dk_at dksL_law_37 22 rfl rfl)
theorem dL_law_1051 : decode cL_law 1051 = .ok (.iadd, 1) := dk_96 (dk_at dksL_law_37 23 rfl rfl)
theorem dL_law_1052 : decode cL_law 1052 = .ok (.iaload, 1) := dk_46 (dk_at dksL_law_38 0 rfl rfl)
theorem dL_law_1053 : decode cL_law 1053 = .ok (.aload_n 0, 1) := dk_42 (dk_at dksL_law_38 1 rfl rfl)
theorem dL_law_1054 : decode cL_law 1054 = .ok (.iload 5, 2) := dk_21 5 (dk_at dksL_law_38 2 rfl rfl)
theorem dL_law_1056 : decode cL_law 1056 = .ok (.iconst 3, 1) := dk_6 (dk_at dksL_law_38 4 rfl rfl)
theorem dL_law_1057 : decode cL_law 1057 = .ok (.iadd, 1) := dk_96 (dk_at dksL_law_38 5 rfl rfl)
theorem dL_law_1058 : decode cL_law 1058 = .ok (.iaload, 1) := dk_46 (dk_at dksL_law_38 6 rfl rfl)
theorem dL_law_1059 : decode cL_law 1059 = .ok (.invokevirtual 195, 3) := dk_182 0 195 (dk_at dksL_law_38 7 rfl rfl)
theorem dL_law_1062 : decode cL_law 1062 = .ok (.istore 7, 2) := dk_54 7 (dk_at dksL_law_38 10 rfl rfl)
theorem dL_law_1064 : decode cL_law 1064 = .ok (.aload_n 2, 1) := dk_44 (dk_at dksL_law_38 12 rfl rfl)
theorem dL_law_1065 : decode cL_law 1065 = .ok (.invokevirtual 152, 3) := dk_182 0 152 (dk_at dksL_law_38 13 rfl rfl)
theorem dL_law_1068 : decode cL_law 1068 = .ok (.iload 6, 2) := dk_21 6 (dk_at dksL_law_38 16 rfl rfl)
theorem dL_law_1070 : decode cL_law 1070 = .ok (.if_icmp .eq 5, 3) := dk_159 0 5 (dk_at dksL_law_38 18 rfl rfl)
theorem dL_law_1073 : decode cL_law 1073 = .ok (.iconst 0, 1) := dk_3 (dk_at dksL_law_38 21 rfl rfl)
theorem dL_law_1074 : decode cL_law 1074 = .ok (.ireturn, 1) := dk_172 (dk_at dksL_law_38 22 rfl rfl)
theorem dL_law_1075 : decode cL_law 1075 = .ok (.iload 6, 2) := dk_21 6 (dk_at dksL_law_39 0 rfl rfl)
theorem dL_law_1077 : decode cL_law 1077 = .ok (.ifCond .ne 15, 3) := dk_154 0 15 (dk_at dksL_law_39 2 rfl rfl)
theorem dL_law_1080 : decode cL_law 1080 = .ok (.aload_n 3, 1) := dk_45 (dk_at dksL_law_39 5 rfl rfl)
theorem dL_law_1081 : decode cL_law 1081 = .ok (.iconst 0, 1) := dk_3 (dk_at dksL_law_39 6 rfl rfl)
theorem dL_law_1082 : decode cL_law 1082 = .ok (.laload, 1) := dk_47 (dk_at dksL_law_39 7 rfl rfl)
theorem dL_law_1083 : decode cL_law 1083 = .ok (.iload 7, 2) := dk_21 7 (dk_at dksL_law_39 8 rfl rfl)
theorem dL_law_1085 : decode cL_law 1085 = .ok (.i2l, 1) := dk_133 (dk_at dksL_law_39 10 rfl rfl)
theorem dL_law_1086 : decode cL_law 1086 = .ok (.lcmp, 1) := dk_148 (dk_at dksL_law_39 11 rfl rfl)
theorem dL_law_1087 : decode cL_law 1087 = .ok (.ifCond .eq 5, 3) := dk_153 0 5 (dk_at dksL_law_39 12 rfl rfl)
theorem dL_law_1090 : decode cL_law 1090 = .ok (.iconst 0, 1) := dk_3 (dk_at dksL_law_39 15 rfl rfl)
theorem dL_law_1091 : decode cL_law 1091 = .ok (.ireturn, 1) := dk_172 (dk_at dksL_law_39 16 rfl rfl)
theorem dL_law_1092 : decode cL_law 1092 = .ok (.goto 1610, 3) := dk_167 6 74 (dk_at dksL_law_39 17 rfl rfl)
theorem dL_law_1095 : decode cL_law 1095 = .ok (.aload_n 1, 1) := dk_43 (dk_at dksL_law_39 20 rfl rfl)
theorem dL_law_1096 : decode cL_law 1096 = .ok (.aload_n 0, 1) := dk_42 (dk_at dksL_law_39 21 rfl rfl)
theorem dL_law_1097 : decode cL_law 1097 = .ok (.iload 5, 2) := dk_21 5 (dk_at dksL_law_39 22 rfl rfl)
theorem dL_law_1099 : decode cL_law 1099 = .ok (.iconst 1, 1) := dk_4 (dk_at dksL_law_40 0 rfl rfl)
theorem dL_law_1100 : decode cL_law 1100 = .ok (.iadd, 1) := dk_96 (dk_at dksL_law_40 1 rfl rfl)
theorem dL_law_1101 : decode cL_law 1101 = .ok (.iaload, 1) := dk_46 (dk_at dksL_law_40 2 rfl rfl)
theorem dL_law_1102 : decode cL_law 1102 = .ok (.i2c, 1) := dk_146 (dk_at dksL_law_40 3 rfl rfl)
theorem dL_law_1103 : decode cL_law 1103 = .ok (.aload_n 0, 1) := dk_42 (dk_at dksL_law_40 4 rfl rfl)
theorem dL_law_1104 : decode cL_law 1104 = .ok (.iload 5, 2) := dk_21 5 (dk_at dksL_law_40 5 rfl rfl)
theorem dL_law_1106 : decode cL_law 1106 = .ok (.iconst 2, 1) := dk_5 (dk_at dksL_law_40 7 rfl rfl)
theorem dL_law_1107 : decode cL_law 1107 = .ok (.iadd, 1) := dk_96 (dk_at dksL_law_40 8 rfl rfl)
theorem dL_law_1108 : decode cL_law 1108 = .ok (.iaload, 1) := dk_46 (dk_at dksL_law_40 9 rfl rfl)
theorem dL_law_1109 : decode cL_law 1109 = .ok (.aload_n 0, 1) := dk_42 (dk_at dksL_law_40 10 rfl rfl)
theorem dL_law_1110 : decode cL_law 1110 = .ok (.iload 5, 2) := dk_21 5 (dk_at dksL_law_40 11 rfl rfl)
theorem dL_law_1112 : decode cL_law 1112 = .ok (.iconst 3, 1) := dk_6 (dk_at dksL_law_40 13 rfl rfl)
theorem dL_law_1113 : decode cL_law 1113 = .ok (.iadd, 1) := dk_96 (dk_at dksL_law_40 14 rfl rfl)
theorem dL_law_1114 : decode cL_law 1114 = .ok (.iaload, 1) := dk_46 (dk_at dksL_law_40 15 rfl rfl)
theorem dL_law_1115 : decode cL_law 1115 = .ok (.aload_n 3, 1) := dk_45 (dk_at dksL_law_40 16 rfl rfl)
theorem dL_law_1116 : decode cL_law 1116 = .ok (.invokestatic 196, 3) := dk_184 0 196 (dk_at dksL_law_40 17 rfl rfl)
theorem dL_law_1119 : decode cL_law 1119 = .ok (.istore 6, 2) := dk_54 6 (dk_at dksL_law_40 20 rfl rfl)
theorem dL_law_1121 : decode cL_law 1121 = .ok (.aload_n 2, 1) := dk_44 (dk_at dksL_law_40 22 rfl rfl)
theorem dL_law_1122 : decode cL_law 1122 = .ok (.aload_n 0, 1) := dk_42 (dk_at dksL_law_40 23 rfl rfl)
theorem dL_law_1123 : decode cL_law 1123 = .ok (.iload 5, 2) := dk_21 5 (dk_at dksL_law_41 0 rfl rfl)
theorem dL_law_1125 : decode cL_law 1125 = .ok (.iconst 1, 1) := dk_4 (dk_at dksL_law_41 2 rfl rfl)
theorem dL_law_1126 : decode cL_law 1126 = .ok (.iadd, 1) := dk_96 (dk_at dksL_law_41 3 rfl rfl)
theorem dL_law_1127 : decode cL_law 1127 = .ok (.iaload, 1) := dk_46 (dk_at dksL_law_41 4 rfl rfl)
theorem dL_law_1128 : decode cL_law 1128 = .ok (.i2c, 1) := dk_146 (dk_at dksL_law_41 5 rfl rfl)
theorem dL_law_1129 : decode cL_law 1129 = .ok (.aload_n 0, 1) := dk_42 (dk_at dksL_law_41 6 rfl rfl)
theorem dL_law_1130 : decode cL_law 1130 = .ok (.iload 5, 2) := dk_21 5 (dk_at dksL_law_41 7 rfl rfl)
theorem dL_law_1132 : decode cL_law 1132 = .ok (.iconst 2, 1) := dk_5 (dk_at dksL_law_41 9 rfl rfl)
theorem dL_law_1133 : decode cL_law 1133 = .ok (.iadd, 1) := dk_96 (dk_at dksL_law_41 10 rfl rfl)
theorem dL_law_1134 : decode cL_law 1134 = .ok (.iaload, 1) := dk_46 (dk_at dksL_law_41 11 rfl rfl)
theorem dL_law_1135 : decode cL_law 1135 = .ok (.aload_n 0, 1) := dk_42 (dk_at dksL_law_41 12 rfl rfl)
theorem dL_law_1136 : decode cL_law 1136 = .ok (.iload 5, 2) := dk_21 5 (dk_at dksL_law_41 13 rfl rfl)
theorem dL_law_1138 : decode cL_law 1138 = .ok (.iconst 3, 1) := dk_6 (dk_at dksL_law_41 15 rfl rfl)
theorem dL_law_1139 : decode cL_law 1139 = .ok (.iadd, 1) := dk_96 (dk_at dksL_law_41 16 rfl rfl)
theorem dL_law_1140 : decode cL_law 1140 = .ok (.iaload, 1) := dk_46 (dk_at dksL_law_41 17 rfl rfl)
theorem dL_law_1141 : decode cL_law 1141 = .ok (.invokevirtual 198, 3) := dk_182 0 198 (dk_at dksL_law_41 18 rfl rfl)
theorem dL_law_1144 : decode cL_law 1144 = .ok (.istore 7, 2) := dk_54 7 (dk_at dksL_law_41 21 rfl rfl)
theorem dL_law_1146 : decode cL_law 1146 = .ok (.aload_n 2, 1) := dk_44 (dk_at dksL_law_41 23 rfl rfl)
theorem dL_law_1147 : decode cL_law 1147 = .ok (.invokevirtual 152, 3) := dk_182 0 152 (dk_at dksL_law_42 0 rfl rfl)
theorem dL_law_1150 : decode cL_law 1150 = .ok (.iload 6, 2) := dk_21 6 (dk_at dksL_law_42 3 rfl rfl)
theorem dL_law_1152 : decode cL_law 1152 = .ok (.if_icmp .eq 5, 3) := dk_159 0 5 (dk_at dksL_law_42 5 rfl rfl)
theorem dL_law_1155 : decode cL_law 1155 = .ok (.iconst 0, 1) := dk_3 (dk_at dksL_law_42 8 rfl rfl)
theorem dL_law_1156 : decode cL_law 1156 = .ok (.ireturn, 1) := dk_172 (dk_at dksL_law_42 9 rfl rfl)
theorem dL_law_1157 : decode cL_law 1157 = .ok (.iload 6, 2) := dk_21 6 (dk_at dksL_law_42 10 rfl rfl)
theorem dL_law_1159 : decode cL_law 1159 = .ok (.ifCond .ne 15, 3) := dk_154 0 15 (dk_at dksL_law_42 12 rfl rfl)
theorem dL_law_1162 : decode cL_law 1162 = .ok (.aload_n 3, 1) := dk_45 (dk_at dksL_law_42 15 rfl rfl)
theorem dL_law_1163 : decode cL_law 1163 = .ok (.iconst 0, 1) := dk_3 (dk_at dksL_law_42 16 rfl rfl)
theorem dL_law_1164 : decode cL_law 1164 = .ok (.laload, 1) := dk_47 (dk_at dksL_law_42 17 rfl rfl)
theorem dL_law_1165 : decode cL_law 1165 = .ok (.iload 7, 2) := dk_21 7 (dk_at dksL_law_42 18 rfl rfl)
theorem dL_law_1167 : decode cL_law 1167 = .ok (.i2l, 1) := dk_133 (dk_at dksL_law_42 20 rfl rfl)
theorem dL_law_1168 : decode cL_law 1168 = .ok (.lcmp, 1) := dk_148 (dk_at dksL_law_42 21 rfl rfl)
theorem dL_law_1169 : decode cL_law 1169 = .ok (.ifCond .eq 5, 3) := dk_153 0 5 (dk_at dksL_law_43 0 rfl rfl)
theorem dL_law_1172 : decode cL_law 1172 = .ok (.iconst 0, 1) := dk_3 (dk_at dksL_law_43 3 rfl rfl)
theorem dL_law_1173 : decode cL_law 1173 = .ok (.ireturn, 1) := dk_172 (dk_at dksL_law_43 4 rfl rfl)
theorem dL_law_1174 : decode cL_law 1174 = .ok (.goto 1528, 3) := dk_167 5 248 (dk_at dksL_law_43 5 rfl rfl)
theorem dL_law_1177 : decode cL_law 1177 = .ok (.aload_n 1, 1) := dk_43 (dk_at dksL_law_43 8 rfl rfl)
theorem dL_law_1178 : decode cL_law 1178 = .ok (.aload_n 0, 1) := dk_42 (dk_at dksL_law_43 9 rfl rfl)
theorem dL_law_1179 : decode cL_law 1179 = .ok (.iload 5, 2) := dk_21 5 (dk_at dksL_law_43 10 rfl rfl)
theorem dL_law_1181 : decode cL_law 1181 = .ok (.iconst 1, 1) := dk_4 (dk_at dksL_law_43 12 rfl rfl)
theorem dL_law_1182 : decode cL_law 1182 = .ok (.iadd, 1) := dk_96 (dk_at dksL_law_43 13 rfl rfl)
theorem dL_law_1183 : decode cL_law 1183 = .ok (.iaload, 1) := dk_46 (dk_at dksL_law_43 14 rfl rfl)
theorem dL_law_1184 : decode cL_law 1184 = .ok (.i2c, 1) := dk_146 (dk_at dksL_law_43 15 rfl rfl)
theorem dL_law_1185 : decode cL_law 1185 = .ok (.aload_n 0, 1) := dk_42 (dk_at dksL_law_43 16 rfl rfl)
theorem dL_law_1186 : decode cL_law 1186 = .ok (.iload 5, 2) := dk_21 5 (dk_at dksL_law_43 17 rfl rfl)
theorem dL_law_1188 : decode cL_law 1188 = .ok (.iconst 2, 1) := dk_5 (dk_at dksL_law_43 19 rfl rfl)
theorem dL_law_1189 : decode cL_law 1189 = .ok (.iadd, 1) := dk_96 (dk_at dksL_law_43 20 rfl rfl)
theorem dL_law_1190 : decode cL_law 1190 = .ok (.iaload, 1) := dk_46 (dk_at dksL_law_43 21 rfl rfl)
theorem dL_law_1191 : decode cL_law 1191 = .ok (.aload_n 0, 1) := dk_42 (dk_at dksL_law_43 22 rfl rfl)
theorem dL_law_1192 : decode cL_law 1192 = .ok (.iload 5, 2) := dk_21 5 (dk_at dksL_law_44 0 rfl rfl)
theorem dL_law_1194 : decode cL_law 1194 = .ok (.iconst 3, 1) := dk_6 (dk_at dksL_law_44 2 rfl rfl)
theorem dL_law_1195 : decode cL_law 1195 = .ok (.iadd, 1) := dk_96 (dk_at dksL_law_44 3 rfl rfl)
theorem dL_law_1196 : decode cL_law 1196 = .ok (.iaload, 1) := dk_46 (dk_at dksL_law_44 4 rfl rfl)
theorem dL_law_1197 : decode cL_law 1197 = .ok (.aload_n 3, 1) := dk_45 (dk_at dksL_law_44 5 rfl rfl)
theorem dL_law_1198 : decode cL_law 1198 = .ok (.invokestatic 199, 3) := dk_184 0 199 (dk_at dksL_law_44 6 rfl rfl)
theorem dL_law_1201 : decode cL_law 1201 = .ok (.istore 6, 2) := dk_54 6 (dk_at dksL_law_44 9 rfl rfl)
theorem dL_law_1203 : decode cL_law 1203 = .ok (.aload_n 2, 1) := dk_44 (dk_at dksL_law_44 11 rfl rfl)
theorem dL_law_1204 : decode cL_law 1204 = .ok (.aload_n 0, 1) := dk_42 (dk_at dksL_law_44 12 rfl rfl)
theorem dL_law_1205 : decode cL_law 1205 = .ok (.iload 5, 2) := dk_21 5 (dk_at dksL_law_44 13 rfl rfl)
theorem dL_law_1207 : decode cL_law 1207 = .ok (.iconst 1, 1) := dk_4 (dk_at dksL_law_44 15 rfl rfl)
theorem dL_law_1208 : decode cL_law 1208 = .ok (.iadd, 1) := dk_96 (dk_at dksL_law_44 16 rfl rfl)
theorem dL_law_1209 : decode cL_law 1209 = .ok (.iaload, 1) := dk_46 (dk_at dksL_law_44 17 rfl rfl)
theorem dL_law_1210 : decode cL_law 1210 = .ok (.i2c, 1) := dk_146 (dk_at dksL_law_44 18 rfl rfl)
theorem dL_law_1211 : decode cL_law 1211 = .ok (.aload_n 0, 1) := dk_42 (dk_at dksL_law_44 19 rfl rfl)
theorem dL_law_1212 : decode cL_law 1212 = .ok (.iload 5, 2) := dk_21 5 (dk_at dksL_law_44 20 rfl rfl)
theorem dL_law_1214 : decode cL_law 1214 = .ok (.iconst 2, 1) := dk_5 (dk_at dksL_law_44 22 rfl rfl)
theorem dL_law_1215 : decode cL_law 1215 = .ok (.iadd, 1) := dk_96 (dk_at dksL_law_44 23 rfl rfl)
theorem dL_law_1216 : decode cL_law 1216 = .ok (.iaload, 1) := dk_46 (dk_at dksL_law_45 0 rfl rfl)
theorem dL_law_1217 : decode cL_law 1217 = .ok (.aload_n 0, 1) := dk_42 (dk_at dksL_law_45 1 rfl rfl)
theorem dL_law_1218 : decode cL_law 1218 = .ok (.iload 5, 2) := dk_21 5 (dk_at dksL_law_45 2 rfl rfl)
theorem dL_law_1220 : decode cL_law 1220 = .ok (.iconst 3, 1) := dk_6 (dk_at dksL_law_45 4 rfl rfl)
theorem dL_law_1221 : decode cL_law 1221 = .ok (.iadd, 1) := dk_96 (dk_at dksL_law_45 5 rfl rfl)
theorem dL_law_1222 : decode cL_law 1222 = .ok (.iaload, 1) := dk_46 (dk_at dksL_law_45 6 rfl rfl)
theorem dL_law_1223 : decode cL_law 1223 = .ok (.invokevirtual 201, 3) := dk_182 0 201 (dk_at dksL_law_45 7 rfl rfl)
theorem dL_law_1226 : decode cL_law 1226 = .ok (.istore 7, 2) := dk_54 7 (dk_at dksL_law_45 10 rfl rfl)
theorem dL_law_1228 : decode cL_law 1228 = .ok (.aload_n 2, 1) := dk_44 (dk_at dksL_law_45 12 rfl rfl)
theorem dL_law_1229 : decode cL_law 1229 = .ok (.invokevirtual 152, 3) := dk_182 0 152 (dk_at dksL_law_45 13 rfl rfl)
theorem dL_law_1232 : decode cL_law 1232 = .ok (.iload 6, 2) := dk_21 6 (dk_at dksL_law_45 16 rfl rfl)
theorem dL_law_1234 : decode cL_law 1234 = .ok (.if_icmp .eq 5, 3) := dk_159 0 5 (dk_at dksL_law_45 18 rfl rfl)
theorem dL_law_1237 : decode cL_law 1237 = .ok (.iconst 0, 1) := dk_3 (dk_at dksL_law_45 21 rfl rfl)
theorem dL_law_1238 : decode cL_law 1238 = .ok (.ireturn, 1) := dk_172 (dk_at dksL_law_45 22 rfl rfl)
theorem dL_law_1239 : decode cL_law 1239 = .ok (.iload 6, 2) := dk_21 6 (dk_at dksL_law_46 0 rfl rfl)
theorem dL_law_1241 : decode cL_law 1241 = .ok (.ifCond .ne 15, 3) := dk_154 0 15 (dk_at dksL_law_46 2 rfl rfl)
theorem dL_law_1244 : decode cL_law 1244 = .ok (.aload_n 3, 1) := dk_45 (dk_at dksL_law_46 5 rfl rfl)
theorem dL_law_1245 : decode cL_law 1245 = .ok (.iconst 0, 1) := dk_3 (dk_at dksL_law_46 6 rfl rfl)
theorem dL_law_1246 : decode cL_law 1246 = .ok (.laload, 1) := dk_47 (dk_at dksL_law_46 7 rfl rfl)
theorem dL_law_1247 : decode cL_law 1247 = .ok (.iload 7, 2) := dk_21 7 (dk_at dksL_law_46 8 rfl rfl)
theorem dL_law_1249 : decode cL_law 1249 = .ok (.i2l, 1) := dk_133 (dk_at dksL_law_46 10 rfl rfl)
theorem dL_law_1250 : decode cL_law 1250 = .ok (.lcmp, 1) := dk_148 (dk_at dksL_law_46 11 rfl rfl)
theorem dL_law_1251 : decode cL_law 1251 = .ok (.ifCond .eq 5, 3) := dk_153 0 5 (dk_at dksL_law_46 12 rfl rfl)
theorem dL_law_1254 : decode cL_law 1254 = .ok (.iconst 0, 1) := dk_3 (dk_at dksL_law_46 15 rfl rfl)
theorem dL_law_1255 : decode cL_law 1255 = .ok (.ireturn, 1) := dk_172 (dk_at dksL_law_46 16 rfl rfl)
theorem dL_law_1256 : decode cL_law 1256 = .ok (.goto 1446, 3) := dk_167 5 166 (dk_at dksL_law_46 17 rfl rfl)
theorem dL_law_1259 : decode cL_law 1259 = .ok (.aload_n 1, 1) := dk_43 (dk_at dksL_law_46 20 rfl rfl)
theorem dL_law_1260 : decode cL_law 1260 = .ok (.aload_n 0, 1) := dk_42 (dk_at dksL_law_46 21 rfl rfl)
theorem dL_law_1261 : decode cL_law 1261 = .ok (.iload 5, 2) := dk_21 5 (dk_at dksL_law_46 22 rfl rfl)
theorem dL_law_1263 : decode cL_law 1263 = .ok (.iconst 1, 1) := dk_4 (dk_at dksL_law_47 0 rfl rfl)
theorem dL_law_1264 : decode cL_law 1264 = .ok (.iadd, 1) := dk_96 (dk_at dksL_law_47 1 rfl rfl)
theorem dL_law_1265 : decode cL_law 1265 = .ok (.iaload, 1) := dk_46 (dk_at dksL_law_47 2 rfl rfl)
theorem dL_law_1266 : decode cL_law 1266 = .ok (.i2c, 1) := dk_146 (dk_at dksL_law_47 3 rfl rfl)
theorem dL_law_1267 : decode cL_law 1267 = .ok (.aload_n 0, 1) := dk_42 (dk_at dksL_law_47 4 rfl rfl)
theorem dL_law_1268 : decode cL_law 1268 = .ok (.iload 5, 2) := dk_21 5 (dk_at dksL_law_47 5 rfl rfl)
theorem dL_law_1270 : decode cL_law 1270 = .ok (.iconst 2, 1) := dk_5 (dk_at dksL_law_47 7 rfl rfl)
theorem dL_law_1271 : decode cL_law 1271 = .ok (.iadd, 1) := dk_96 (dk_at dksL_law_47 8 rfl rfl)
theorem dL_law_1272 : decode cL_law 1272 = .ok (.iaload, 1) := dk_46 (dk_at dksL_law_47 9 rfl rfl)
theorem dL_law_1273 : decode cL_law 1273 = .ok (.aload_n 0, 1) := dk_42 (dk_at dksL_law_47 10 rfl rfl)
theorem dL_law_1274 : decode cL_law 1274 = .ok (.iload 5, 2) := dk_21 5 (dk_at dksL_law_47 11 rfl rfl)
theorem dL_law_1276 : decode cL_law 1276 = .ok (.iconst 3, 1) := dk_6 (dk_at dksL_law_47 13 rfl rfl)
theorem dL_law_1277 : decode cL_law 1277 = .ok (.iadd, 1) := dk_96 (dk_at dksL_law_47 14 rfl rfl)
theorem dL_law_1278 : decode cL_law 1278 = .ok (.iaload, 1) := dk_46 (dk_at dksL_law_47 15 rfl rfl)
theorem dL_law_1279 : decode cL_law 1279 = .ok (.aload_n 3, 1) := dk_45 (dk_at dksL_law_47 16 rfl rfl)
theorem dL_law_1280 : decode cL_law 1280 = .ok (.invokestatic 202, 3) := dk_184 0 202 (dk_at dksL_law_47 17 rfl rfl)
theorem dL_law_1283 : decode cL_law 1283 = .ok (.istore 6, 2) := dk_54 6 (dk_at dksL_law_47 20 rfl rfl)
theorem dL_law_1285 : decode cL_law 1285 = .ok (.aload_n 2, 1) := dk_44 (dk_at dksL_law_47 22 rfl rfl)
theorem dL_law_1286 : decode cL_law 1286 = .ok (.aload_n 0, 1) := dk_42 (dk_at dksL_law_47 23 rfl rfl)
theorem dL_law_1287 : decode cL_law 1287 = .ok (.iload 5, 2) := dk_21 5 (dk_at dksL_law_48 0 rfl rfl)
theorem dL_law_1289 : decode cL_law 1289 = .ok (.iconst 1, 1) := dk_4 (dk_at dksL_law_48 2 rfl rfl)
theorem dL_law_1290 : decode cL_law 1290 = .ok (.iadd, 1) := dk_96 (dk_at dksL_law_48 3 rfl rfl)
theorem dL_law_1291 : decode cL_law 1291 = .ok (.iaload, 1) := dk_46 (dk_at dksL_law_48 4 rfl rfl)
theorem dL_law_1292 : decode cL_law 1292 = .ok (.i2c, 1) := dk_146 (dk_at dksL_law_48 5 rfl rfl)
theorem dL_law_1293 : decode cL_law 1293 = .ok (.aload_n 0, 1) := dk_42 (dk_at dksL_law_48 6 rfl rfl)
theorem dL_law_1294 : decode cL_law 1294 = .ok (.iload 5, 2) := dk_21 5 (dk_at dksL_law_48 7 rfl rfl)
theorem dL_law_1296 : decode cL_law 1296 = .ok (.iconst 2, 1) := dk_5 (dk_at dksL_law_48 9 rfl rfl)
theorem dL_law_1297 : decode cL_law 1297 = .ok (.iadd, 1) := dk_96 (dk_at dksL_law_48 10 rfl rfl)
theorem dL_law_1298 : decode cL_law 1298 = .ok (.iaload, 1) := dk_46 (dk_at dksL_law_48 11 rfl rfl)
theorem dL_law_1299 : decode cL_law 1299 = .ok (.aload_n 0, 1) := dk_42 (dk_at dksL_law_48 12 rfl rfl)
theorem dL_law_1300 : decode cL_law 1300 = .ok (.iload 5, 2) := dk_21 5 (dk_at dksL_law_48 13 rfl rfl)
theorem dL_law_1302 : decode cL_law 1302 = .ok (.iconst 3, 1) := dk_6 (dk_at dksL_law_48 15 rfl rfl)
theorem dL_law_1303 : decode cL_law 1303 = .ok (.iadd, 1) := dk_96 (dk_at dksL_law_48 16 rfl rfl)
theorem dL_law_1304 : decode cL_law 1304 = .ok (.iaload, 1) := dk_46 (dk_at dksL_law_48 17 rfl rfl)
theorem dL_law_1305 : decode cL_law 1305 = .ok (.invokevirtual 204, 3) := dk_182 0 204 (dk_at dksL_law_48 18 rfl rfl)
theorem dL_law_1308 : decode cL_law 1308 = .ok (.lstore 7, 2) := dk_55 7 (dk_at dksL_law_48 21 rfl rfl)
theorem dL_law_1310 : decode cL_law 1310 = .ok (.aload_n 2, 1) := dk_44 (dk_at dksL_law_48 23 rfl rfl)
theorem dL_law_1311 : decode cL_law 1311 = .ok (.invokevirtual 152, 3) := dk_182 0 152 (dk_at dksL_law_49 0 rfl rfl)
theorem dL_law_1314 : decode cL_law 1314 = .ok (.iload 6, 2) := dk_21 6 (dk_at dksL_law_49 3 rfl rfl)
theorem dL_law_1316 : decode cL_law 1316 = .ok (.if_icmp .eq 5, 3) := dk_159 0 5 (dk_at dksL_law_49 5 rfl rfl)
theorem dL_law_1319 : decode cL_law 1319 = .ok (.iconst 0, 1) := dk_3 (dk_at dksL_law_49 8 rfl rfl)
theorem dL_law_1320 : decode cL_law 1320 = .ok (.ireturn, 1) := dk_172 (dk_at dksL_law_49 9 rfl rfl)
theorem dL_law_1321 : decode cL_law 1321 = .ok (.iload 6, 2) := dk_21 6 (dk_at dksL_law_49 10 rfl rfl)
theorem dL_law_1323 : decode cL_law 1323 = .ok (.ifCond .ne 14, 3) := dk_154 0 14 (dk_at dksL_law_49 12 rfl rfl)
theorem dL_law_1326 : decode cL_law 1326 = .ok (.aload_n 3, 1) := dk_45 (dk_at dksL_law_49 15 rfl rfl)
theorem dL_law_1327 : decode cL_law 1327 = .ok (.iconst 0, 1) := dk_3 (dk_at dksL_law_49 16 rfl rfl)
theorem dL_law_1328 : decode cL_law 1328 = .ok (.laload, 1) := dk_47 (dk_at dksL_law_49 17 rfl rfl)
theorem dL_law_1329 : decode cL_law 1329 = .ok (.lload 7, 2) := dk_22 7 (dk_at dksL_law_49 18 rfl rfl)
theorem dL_law_1331 : decode cL_law 1331 = .ok (.lcmp, 1) := dk_148 (dk_at dksL_law_49 20 rfl rfl)
theorem dL_law_1332 : decode cL_law 1332 = .ok (.ifCond .eq 5, 3) := dk_153 0 5 (dk_at dksL_law_49 21 rfl rfl)
theorem dL_law_1335 : decode cL_law 1335 = .ok (.iconst 0, 1) := dk_3 (dk_at dksL_law_50 0 rfl rfl)
theorem dL_law_1336 : decode cL_law 1336 = .ok (.ireturn, 1) := dk_172 (dk_at dksL_law_50 1 rfl rfl)
theorem dL_law_1337 : decode cL_law 1337 = .ok (.goto 1365, 3) := dk_167 5 85 (dk_at dksL_law_50 2 rfl rfl)
theorem dL_law_1340 : decode cL_law 1340 = .ok (.aload_n 1, 1) := dk_43 (dk_at dksL_law_50 5 rfl rfl)
theorem dL_law_1341 : decode cL_law 1341 = .ok (.aload_n 0, 1) := dk_42 (dk_at dksL_law_50 6 rfl rfl)
theorem dL_law_1342 : decode cL_law 1342 = .ok (.iload 5, 2) := dk_21 5 (dk_at dksL_law_50 7 rfl rfl)
theorem dL_law_1344 : decode cL_law 1344 = .ok (.iconst 1, 1) := dk_4 (dk_at dksL_law_50 9 rfl rfl)
theorem dL_law_1345 : decode cL_law 1345 = .ok (.iadd, 1) := dk_96 (dk_at dksL_law_50 10 rfl rfl)
theorem dL_law_1346 : decode cL_law 1346 = .ok (.iaload, 1) := dk_46 (dk_at dksL_law_50 11 rfl rfl)
theorem dL_law_1347 : decode cL_law 1347 = .ok (.i2c, 1) := dk_146 (dk_at dksL_law_50 12 rfl rfl)
theorem dL_law_1348 : decode cL_law 1348 = .ok (.aload_n 0, 1) := dk_42 (dk_at dksL_law_50 13 rfl rfl)
theorem dL_law_1349 : decode cL_law 1349 = .ok (.iload 5, 2) := dk_21 5 (dk_at dksL_law_50 14 rfl rfl)
theorem dL_law_1351 : decode cL_law 1351 = .ok (.iconst 2, 1) := dk_5 (dk_at dksL_law_50 16 rfl rfl)
theorem dL_law_1352 : decode cL_law 1352 = .ok (.iadd, 1) := dk_96 (dk_at dksL_law_50 17 rfl rfl)
theorem dL_law_1353 : decode cL_law 1353 = .ok (.iaload, 1) := dk_46 (dk_at dksL_law_50 18 rfl rfl)
theorem dL_law_1354 : decode cL_law 1354 = .ok (.aload_n 0, 1) := dk_42 (dk_at dksL_law_50 19 rfl rfl)
theorem dL_law_1355 : decode cL_law 1355 = .ok (.iload 5, 2) := dk_21 5 (dk_at dksL_law_50 20 rfl rfl)
theorem dL_law_1357 : decode cL_law 1357 = .ok (.iconst 3, 1) := dk_6 (dk_at dksL_law_50 22 rfl rfl)
theorem dL_law_1358 : decode cL_law 1358 = .ok (.iadd, 1) := dk_96 (dk_at dksL_law_50 23 rfl rfl)
theorem dL_law_1359 : decode cL_law 1359 = .ok (.iaload, 1) := dk_46 (dk_at dksL_law_51 0 rfl rfl)
theorem dL_law_1360 : decode cL_law 1360 = .ok (.aload_n 3, 1) := dk_45 (dk_at dksL_law_51 1 rfl rfl)
theorem dL_law_1361 : decode cL_law 1361 = .ok (.invokestatic 205, 3) := dk_184 0 205 (dk_at dksL_law_51 2 rfl rfl)
theorem dL_law_1364 : decode cL_law 1364 = .ok (.istore 6, 2) := dk_54 6 (dk_at dksL_law_51 5 rfl rfl)
theorem dL_law_1366 : decode cL_law 1366 = .ok (.aload_n 2, 1) := dk_44 (dk_at dksL_law_51 7 rfl rfl)
theorem dL_law_1367 : decode cL_law 1367 = .ok (.aload_n 0, 1) := dk_42 (dk_at dksL_law_51 8 rfl rfl)
theorem dL_law_1368 : decode cL_law 1368 = .ok (.iload 5, 2) := dk_21 5 (dk_at dksL_law_51 9 rfl rfl)
theorem dL_law_1370 : decode cL_law 1370 = .ok (.iconst 1, 1) := dk_4 (dk_at dksL_law_51 11 rfl rfl)
theorem dL_law_1371 : decode cL_law 1371 = .ok (.iadd, 1) := dk_96 (dk_at dksL_law_51 12 rfl rfl)
theorem dL_law_1372 : decode cL_law 1372 = .ok (.iaload, 1) := dk_46 (dk_at dksL_law_51 13 rfl rfl)
theorem dL_law_1373 : decode cL_law 1373 = .ok (.i2c, 1) := dk_146 (dk_at dksL_law_51 14 rfl rfl)
theorem dL_law_1374 : decode cL_law 1374 = .ok (.aload_n 0, 1) := dk_42 (dk_at dksL_law_51 15 rfl rfl)
theorem dL_law_1375 : decode cL_law 1375 = .ok (.iload 5, 2) := dk_21 5 (dk_at dksL_law_51 16 rfl rfl)
theorem dL_law_1377 : decode cL_law 1377 = .ok (.iconst 2, 1) := dk_5 (dk_at dksL_law_51 18 rfl rfl)
theorem dL_law_1378 : decode cL_law 1378 = .ok (.iadd, 1) := dk_96 (dk_at dksL_law_51 19 rfl rfl)
theorem dL_law_1379 : decode cL_law 1379 = .ok (.iaload, 1) := dk_46 (dk_at dksL_law_51 20 rfl rfl)
theorem dL_law_1380 : decode cL_law 1380 = .ok (.aload_n 0, 1) := dk_42 (dk_at dksL_law_51 21 rfl rfl)
theorem dL_law_1381 : decode cL_law 1381 = .ok (.iload 5, 2) := dk_21 5 (dk_at dksL_law_51 22 rfl rfl)
theorem dL_law_1383 : decode cL_law 1383 = .ok (.iconst 3, 1) := dk_6 (dk_at dksL_law_52 0 rfl rfl)
theorem dL_law_1384 : decode cL_law 1384 = .ok (.iadd, 1) := dk_96 (dk_at dksL_law_52 1 rfl rfl)
theorem dL_law_1385 : decode cL_law 1385 = .ok (.iaload, 1) := dk_46 (dk_at dksL_law_52 2 rfl rfl)
theorem dL_law_1386 : decode cL_law 1386 = .ok (.invokevirtual 207, 3) := dk_182 0 207 (dk_at dksL_law_52 3 rfl rfl)
theorem dL_law_1389 : decode cL_law 1389 = .ok (.istore 7, 2) := dk_54 7 (dk_at dksL_law_52 6 rfl rfl)
theorem dL_law_1391 : decode cL_law 1391 = .ok (.aload_n 2, 1) := dk_44 (dk_at dksL_law_52 8 rfl rfl)
theorem dL_law_1392 : decode cL_law 1392 = .ok (.invokevirtual 152, 3) := dk_182 0 152 (dk_at dksL_law_52 9 rfl rfl)
theorem dL_law_1395 : decode cL_law 1395 = .ok (.iload 6, 2) := dk_21 6 (dk_at dksL_law_52 12 rfl rfl)
theorem dL_law_1397 : decode cL_law 1397 = .ok (.if_icmp .eq 5, 3) := dk_159 0 5 (dk_at dksL_law_52 14 rfl rfl)
theorem dL_law_1400 : decode cL_law 1400 = .ok (.iconst 0, 1) := dk_3 (dk_at dksL_law_52 17 rfl rfl)
theorem dL_law_1401 : decode cL_law 1401 = .ok (.ireturn, 1) := dk_172 (dk_at dksL_law_52 18 rfl rfl)
theorem dL_law_1402 : decode cL_law 1402 = .ok (.iload 6, 2) := dk_21 6 (dk_at dksL_law_52 19 rfl rfl)
theorem dL_law_1404 : decode cL_law 1404 = .ok (.ifCond .ne 15, 3) := dk_154 0 15 (dk_at dksL_law_52 21 rfl rfl)
theorem dL_law_1407 : decode cL_law 1407 = .ok (.aload_n 3, 1) := dk_45 (dk_at dksL_law_53 0 rfl rfl)
theorem dL_law_1408 : decode cL_law 1408 = .ok (.iconst 0, 1) := dk_3 (dk_at dksL_law_53 1 rfl rfl)
theorem dL_law_1409 : decode cL_law 1409 = .ok (.laload, 1) := dk_47 (dk_at dksL_law_53 2 rfl rfl)
theorem dL_law_1410 : decode cL_law 1410 = .ok (.iload 7, 2) := dk_21 7 (dk_at dksL_law_53 3 rfl rfl)
theorem dL_law_1412 : decode cL_law 1412 = .ok (.i2l, 1) := dk_133 (dk_at dksL_law_53 5 rfl rfl)
theorem dL_law_1413 : decode cL_law 1413 = .ok (.lcmp, 1) := dk_148 (dk_at dksL_law_53 6 rfl rfl)
theorem dL_law_1414 : decode cL_law 1414 = .ok (.ifCond .eq 5, 3) := dk_153 0 5 (dk_at dksL_law_53 7 rfl rfl)
theorem dL_law_1417 : decode cL_law 1417 = .ok (.iconst 0, 1) := dk_3 (dk_at dksL_law_53 10 rfl rfl)
theorem dL_law_1418 : decode cL_law 1418 = .ok (.ireturn, 1) := dk_172 (dk_at dksL_law_53 11 rfl rfl)
theorem dL_law_1419 : decode cL_law 1419 = .ok (.goto 1283, 3) := dk_167 5 3 (dk_at dksL_law_53 12 rfl rfl)
theorem dL_law_1422 : decode cL_law 1422 = .ok (.aload_n 1, 1) := dk_43 (dk_at dksL_law_53 15 rfl rfl)
theorem dL_law_1423 : decode cL_law 1423 = .ok (.aload_n 0, 1) := dk_42 (dk_at dksL_law_53 16 rfl rfl)
theorem dL_law_1424 : decode cL_law 1424 = .ok (.iload 5, 2) := dk_21 5 (dk_at dksL_law_53 17 rfl rfl)
theorem dL_law_1426 : decode cL_law 1426 = .ok (.iconst 1, 1) := dk_4 (dk_at dksL_law_53 19 rfl rfl)
theorem dL_law_1427 : decode cL_law 1427 = .ok (.iadd, 1) := dk_96 (dk_at dksL_law_53 20 rfl rfl)
theorem dL_law_1428 : decode cL_law 1428 = .ok (.iaload, 1) := dk_46 (dk_at dksL_law_53 21 rfl rfl)
theorem dL_law_1429 : decode cL_law 1429 = .ok (.i2c, 1) := dk_146 (dk_at dksL_law_53 22 rfl rfl)
theorem dL_law_1430 : decode cL_law 1430 = .ok (.aload_n 0, 1) := dk_42 (dk_at dksL_law_53 23 rfl rfl)
theorem dL_law_1431 : decode cL_law 1431 = .ok (.iload 5, 2) := dk_21 5 (dk_at dksL_law_54 0 rfl rfl)
theorem dL_law_1433 : decode cL_law 1433 = .ok (.iconst 2, 1) := dk_5 (dk_at dksL_law_54 2 rfl rfl)
theorem dL_law_1434 : decode cL_law 1434 = .ok (.iadd, 1) := dk_96 (dk_at dksL_law_54 3 rfl rfl)
theorem dL_law_1435 : decode cL_law 1435 = .ok (.iaload, 1) := dk_46 (dk_at dksL_law_54 4 rfl rfl)
theorem dL_law_1436 : decode cL_law 1436 = .ok (.aload_n 0, 1) := dk_42 (dk_at dksL_law_54 5 rfl rfl)
theorem dL_law_1437 : decode cL_law 1437 = .ok (.iload 5, 2) := dk_21 5 (dk_at dksL_law_54 6 rfl rfl)
theorem dL_law_1439 : decode cL_law 1439 = .ok (.iconst 3, 1) := dk_6 (dk_at dksL_law_54 8 rfl rfl)
theorem dL_law_1440 : decode cL_law 1440 = .ok (.iadd, 1) := dk_96 (dk_at dksL_law_54 9 rfl rfl)
theorem dL_law_1441 : decode cL_law 1441 = .ok (.iaload, 1) := dk_46 (dk_at dksL_law_54 10 rfl rfl)
theorem dL_law_1442 : decode cL_law 1442 = .ok (.aload_n 3, 1) := dk_45 (dk_at dksL_law_54 11 rfl rfl)
theorem dL_law_1443 : decode cL_law 1443 = .ok (.invokestatic 208, 3) := dk_184 0 208 (dk_at dksL_law_54 12 rfl rfl)
theorem dL_law_1446 : decode cL_law 1446 = .ok (.istore 6, 2) := dk_54 6 (dk_at dksL_law_54 15 rfl rfl)
theorem dL_law_1448 : decode cL_law 1448 = .ok (.aload_n 2, 1) := dk_44 (dk_at dksL_law_54 17 rfl rfl)
theorem dL_law_1449 : decode cL_law 1449 = .ok (.aload_n 0, 1) := dk_42 (dk_at dksL_law_54 18 rfl rfl)
theorem dL_law_1450 : decode cL_law 1450 = .ok (.iload 5, 2) := dk_21 5 (dk_at dksL_law_54 19 rfl rfl)
theorem dL_law_1452 : decode cL_law 1452 = .ok (.iconst 1, 1) := dk_4 (dk_at dksL_law_54 21 rfl rfl)
theorem dL_law_1453 : decode cL_law 1453 = .ok (.iadd, 1) := dk_96 (dk_at dksL_law_54 22 rfl rfl)
theorem dL_law_1454 : decode cL_law 1454 = .ok (.iaload, 1) := dk_46 (dk_at dksL_law_54 23 rfl rfl)
theorem dL_law_1455 : decode cL_law 1455 = .ok (.i2c, 1) := dk_146 (dk_at dksL_law_55 0 rfl rfl)
theorem dL_law_1456 : decode cL_law 1456 = .ok (.aload_n 0, 1) := dk_42 (dk_at dksL_law_55 1 rfl rfl)
theorem dL_law_1457 : decode cL_law 1457 = .ok (.iload 5, 2) := dk_21 5 (dk_at dksL_law_55 2 rfl rfl)
theorem dL_law_1459 : decode cL_law 1459 = .ok (.iconst 2, 1) := dk_5 (dk_at dksL_law_55 4 rfl rfl)
theorem dL_law_1460 : decode cL_law 1460 = .ok (.iadd, 1) := dk_96 (dk_at dksL_law_55 5 rfl rfl)
theorem dL_law_1461 : decode cL_law 1461 = .ok (.iaload, 1) := dk_46 (dk_at dksL_law_55 6 rfl rfl)
theorem dL_law_1462 : decode cL_law 1462 = .ok (.aload_n 0, 1) := dk_42 (dk_at dksL_law_55 7 rfl rfl)
theorem dL_law_1463 : decode cL_law 1463 = .ok (.iload 5, 2) := dk_21 5 (dk_at dksL_law_55 8 rfl rfl)
theorem dL_law_1465 : decode cL_law 1465 = .ok (.iconst 3, 1) := dk_6 (dk_at dksL_law_55 10 rfl rfl)
theorem dL_law_1466 : decode cL_law 1466 = .ok (.iadd, 1) := dk_96 (dk_at dksL_law_55 11 rfl rfl)
theorem dL_law_1467 : decode cL_law 1467 = .ok (.iaload, 1) := dk_46 (dk_at dksL_law_55 12 rfl rfl)
theorem dL_law_1468 : decode cL_law 1468 = .ok (.invokevirtual 210, 3) := dk_182 0 210 (dk_at dksL_law_55 13 rfl rfl)
theorem dL_law_1471 : decode cL_law 1471 = .ok (.istore 7, 2) := dk_54 7 (dk_at dksL_law_55 16 rfl rfl)
theorem dL_law_1473 : decode cL_law 1473 = .ok (.aload_n 2, 1) := dk_44 (dk_at dksL_law_55 18 rfl rfl)
theorem dL_law_1474 : decode cL_law 1474 = .ok (.invokevirtual 152, 3) := dk_182 0 152 (dk_at dksL_law_55 19 rfl rfl)
theorem dL_law_1477 : decode cL_law 1477 = .ok (.iload 6, 2) := dk_21 6 (dk_at dksL_law_55 22 rfl rfl)
theorem dL_law_1479 : decode cL_law 1479 = .ok (.if_icmp .eq 5, 3) := dk_159 0 5 (dk_at dksL_law_56 0 rfl rfl)
theorem dL_law_1482 : decode cL_law 1482 = .ok (.iconst 0, 1) := dk_3 (dk_at dksL_law_56 3 rfl rfl)
theorem dL_law_1483 : decode cL_law 1483 = .ok (.ireturn, 1) := dk_172 (dk_at dksL_law_56 4 rfl rfl)
theorem dL_law_1484 : decode cL_law 1484 = .ok (.iload 6, 2) := dk_21 6 (dk_at dksL_law_56 5 rfl rfl)
theorem dL_law_1486 : decode cL_law 1486 = .ok (.ifCond .ne 15, 3) := dk_154 0 15 (dk_at dksL_law_56 7 rfl rfl)
theorem dL_law_1489 : decode cL_law 1489 = .ok (.aload_n 3, 1) := dk_45 (dk_at dksL_law_56 10 rfl rfl)
theorem dL_law_1490 : decode cL_law 1490 = .ok (.iconst 0, 1) := dk_3 (dk_at dksL_law_56 11 rfl rfl)
theorem dL_law_1491 : decode cL_law 1491 = .ok (.laload, 1) := dk_47 (dk_at dksL_law_56 12 rfl rfl)
theorem dL_law_1492 : decode cL_law 1492 = .ok (.iload 7, 2) := dk_21 7 (dk_at dksL_law_56 13 rfl rfl)
theorem dL_law_1494 : decode cL_law 1494 = .ok (.i2l, 1) := dk_133 (dk_at dksL_law_56 15 rfl rfl)
theorem dL_law_1495 : decode cL_law 1495 = .ok (.lcmp, 1) := dk_148 (dk_at dksL_law_56 16 rfl rfl)
theorem dL_law_1496 : decode cL_law 1496 = .ok (.ifCond .eq 5, 3) := dk_153 0 5 (dk_at dksL_law_56 17 rfl rfl)
theorem dL_law_1499 : decode cL_law 1499 = .ok (.iconst 0, 1) := dk_3 (dk_at dksL_law_56 20 rfl rfl)
theorem dL_law_1500 : decode cL_law 1500 = .ok (.ireturn, 1) := dk_172 (dk_at dksL_law_56 21 rfl rfl)
theorem dL_law_1501 : decode cL_law 1501 = .ok (.goto 1201, 3) := dk_167 4 177 (dk_at dksL_law_57 0 rfl rfl)
theorem dL_law_1504 : decode cL_law 1504 = .ok (.aload_n 1, 1) := dk_43 (dk_at dksL_law_57 3 rfl rfl)
theorem dL_law_1505 : decode cL_law 1505 = .ok (.aload_n 0, 1) := dk_42 (dk_at dksL_law_57 4 rfl rfl)
theorem dL_law_1506 : decode cL_law 1506 = .ok (.iload 5, 2) := dk_21 5 (dk_at dksL_law_57 5 rfl rfl)
theorem dL_law_1508 : decode cL_law 1508 = .ok (.iconst 1, 1) := dk_4 (dk_at dksL_law_57 7 rfl rfl)
theorem dL_law_1509 : decode cL_law 1509 = .ok (.iadd, 1) := dk_96 (dk_at dksL_law_57 8 rfl rfl)
theorem dL_law_1510 : decode cL_law 1510 = .ok (.iaload, 1) := dk_46 (dk_at dksL_law_57 9 rfl rfl)
theorem dL_law_1511 : decode cL_law 1511 = .ok (.i2c, 1) := dk_146 (dk_at dksL_law_57 10 rfl rfl)
theorem dL_law_1512 : decode cL_law 1512 = .ok (.aload_n 0, 1) := dk_42 (dk_at dksL_law_57 11 rfl rfl)
theorem dL_law_1513 : decode cL_law 1513 = .ok (.iload 5, 2) := dk_21 5 (dk_at dksL_law_57 12 rfl rfl)
theorem dL_law_1515 : decode cL_law 1515 = .ok (.iconst 2, 1) := dk_5 (dk_at dksL_law_57 14 rfl rfl)
theorem dL_law_1516 : decode cL_law 1516 = .ok (.iadd, 1) := dk_96 (dk_at dksL_law_57 15 rfl rfl)
theorem dL_law_1517 : decode cL_law 1517 = .ok (.iaload, 1) := dk_46 (dk_at dksL_law_57 16 rfl rfl)
theorem dL_law_1518 : decode cL_law 1518 = .ok (.aload_n 0, 1) := dk_42 (dk_at dksL_law_57 17 rfl rfl)
theorem dL_law_1519 : decode cL_law 1519 = .ok (.iload 5, 2) := dk_21 5 (dk_at dksL_law_57 18 rfl rfl)
theorem dL_law_1521 : decode cL_law 1521 = .ok (.iconst 3, 1) := dk_6 (dk_at dksL_law_57 20 rfl rfl)
theorem dL_law_1522 : decode cL_law 1522 = .ok (.iadd, 1) := dk_96 (dk_at dksL_law_57 21 rfl rfl)
theorem dL_law_1523 : decode cL_law 1523 = .ok (.iaload, 1) := dk_46 (dk_at dksL_law_57 22 rfl rfl)
theorem dL_law_1524 : decode cL_law 1524 = .ok (.aload_n 0, 1) := dk_42 (dk_at dksL_law_57 23 rfl rfl)
theorem dL_law_1525 : decode cL_law 1525 = .ok (.iload 5, 2) := dk_21 5 (dk_at dksL_law_58 0 rfl rfl)
theorem dL_law_1527 : decode cL_law 1527 = .ok (.iconst 4, 1) := dk_7 (dk_at dksL_law_58 2 rfl rfl)
theorem dL_law_1528 : decode cL_law 1528 = .ok (.iadd, 1) := dk_96 (dk_at dksL_law_58 3 rfl rfl)
theorem dL_law_1529 : decode cL_law 1529 = .ok (.iaload, 1) := dk_46 (dk_at dksL_law_58 4 rfl rfl)
theorem dL_law_1530 : decode cL_law 1530 = .ok (.aload_n 3, 1) := dk_45 (dk_at dksL_law_58 5 rfl rfl)
theorem dL_law_1531 : decode cL_law 1531 = .ok (.invokestatic 211, 3) := dk_184 0 211 (dk_at dksL_law_58 6 rfl rfl)
theorem dL_law_1534 : decode cL_law 1534 = .ok (.istore 6, 2) := dk_54 6 (dk_at dksL_law_58 9 rfl rfl)
theorem dL_law_1536 : decode cL_law 1536 = .ok (.aload_n 2, 1) := dk_44 (dk_at dksL_law_58 11 rfl rfl)
theorem dL_law_1537 : decode cL_law 1537 = .ok (.aload_n 0, 1) := dk_42 (dk_at dksL_law_58 12 rfl rfl)
theorem dL_law_1538 : decode cL_law 1538 = .ok (.iload 5, 2) := dk_21 5 (dk_at dksL_law_58 13 rfl rfl)
theorem dL_law_1540 : decode cL_law 1540 = .ok (.iconst 1, 1) := dk_4 (dk_at dksL_law_58 15 rfl rfl)
theorem dL_law_1541 : decode cL_law 1541 = .ok (.iadd, 1) := dk_96 (dk_at dksL_law_58 16 rfl rfl)
theorem dL_law_1542 : decode cL_law 1542 = .ok (.iaload, 1) := dk_46 (dk_at dksL_law_58 17 rfl rfl)
theorem dL_law_1543 : decode cL_law 1543 = .ok (.i2c, 1) := dk_146 (dk_at dksL_law_58 18 rfl rfl)
theorem dL_law_1544 : decode cL_law 1544 = .ok (.aload_n 0, 1) := dk_42 (dk_at dksL_law_58 19 rfl rfl)
theorem dL_law_1545 : decode cL_law 1545 = .ok (.iload 5, 2) := dk_21 5 (dk_at dksL_law_58 20 rfl rfl)
theorem dL_law_1547 : decode cL_law 1547 = .ok (.iconst 2, 1) := dk_5 (dk_at dksL_law_58 22 rfl rfl)
theorem dL_law_1548 : decode cL_law 1548 = .ok (.iadd, 1) := dk_96 (dk_at dksL_law_58 23 rfl rfl)
theorem dL_law_1549 : decode cL_law 1549 = .ok (.iaload, 1) := dk_46 (dk_at dksL_law_59 0 rfl rfl)
theorem dL_law_1550 : decode cL_law 1550 = .ok (.aload_n 0, 1) := dk_42 (dk_at dksL_law_59 1 rfl rfl)
theorem dL_law_1551 : decode cL_law 1551 = .ok (.iload 5, 2) := dk_21 5 (dk_at dksL_law_59 2 rfl rfl)
theorem dL_law_1553 : decode cL_law 1553 = .ok (.iconst 3, 1) := dk_6 (dk_at dksL_law_59 4 rfl rfl)
theorem dL_law_1554 : decode cL_law 1554 = .ok (.iadd, 1) := dk_96 (dk_at dksL_law_59 5 rfl rfl)
theorem dL_law_1555 : decode cL_law 1555 = .ok (.iaload, 1) := dk_46 (dk_at dksL_law_59 6 rfl rfl)
theorem dL_law_1556 : decode cL_law 1556 = .ok (.aload_n 0, 1) := dk_42 (dk_at dksL_law_59 7 rfl rfl)
theorem dL_law_1557 : decode cL_law 1557 = .ok (.iload 5, 2) := dk_21 5 (dk_at dksL_law_59 8 rfl rfl)
theorem dL_law_1559 : decode cL_law 1559 = .ok (.iconst 4, 1) := dk_7 (dk_at dksL_law_59 10 rfl rfl)
theorem dL_law_1560 : decode cL_law 1560 = .ok (.iadd, 1) := dk_96 (dk_at dksL_law_59 11 rfl rfl)
theorem dL_law_1561 : decode cL_law 1561 = .ok (.iaload, 1) := dk_46 (dk_at dksL_law_59 12 rfl rfl)
theorem dL_law_1562 : decode cL_law 1562 = .ok (.invokevirtual 214, 3) := dk_182 0 214 (dk_at dksL_law_59 13 rfl rfl)
theorem dL_law_1565 : decode cL_law 1565 = .ok (.istore 7, 2) := dk_54 7 (dk_at dksL_law_59 16 rfl rfl)
theorem dL_law_1567 : decode cL_law 1567 = .ok (.aload_n 2, 1) := dk_44 (dk_at dksL_law_59 18 rfl rfl)
theorem dL_law_1568 : decode cL_law 1568 = .ok (.invokevirtual 152, 3) := dk_182 0 152 (dk_at dksL_law_59 19 rfl rfl)
theorem dL_law_1571 : decode cL_law 1571 = .ok (.iload 6, 2) := dk_21 6 (dk_at dksL_law_59 22 rfl rfl)
theorem dL_law_1573 : decode cL_law 1573 = .ok (.if_icmp .eq 5, 3) := dk_159 0 5 (dk_at dksL_law_60 0 rfl rfl)
theorem dL_law_1576 : decode cL_law 1576 = .ok (.iconst 0, 1) := dk_3 (dk_at dksL_law_60 3 rfl rfl)
theorem dL_law_1577 : decode cL_law 1577 = .ok (.ireturn, 1) := dk_172 (dk_at dksL_law_60 4 rfl rfl)
theorem dL_law_1578 : decode cL_law 1578 = .ok (.iload 6, 2) := dk_21 6 (dk_at dksL_law_60 5 rfl rfl)
theorem dL_law_1580 : decode cL_law 1580 = .ok (.ifCond .ne 15, 3) := dk_154 0 15 (dk_at dksL_law_60 7 rfl rfl)
theorem dL_law_1583 : decode cL_law 1583 = .ok (.aload_n 3, 1) := dk_45 (dk_at dksL_law_60 10 rfl rfl)
theorem dL_law_1584 : decode cL_law 1584 = .ok (.iconst 0, 1) := dk_3 (dk_at dksL_law_60 11 rfl rfl)
theorem dL_law_1585 : decode cL_law 1585 = .ok (.laload, 1) := dk_47 (dk_at dksL_law_60 12 rfl rfl)
theorem dL_law_1586 : decode cL_law 1586 = .ok (.iload 7, 2) := dk_21 7 (dk_at dksL_law_60 13 rfl rfl)
theorem dL_law_1588 : decode cL_law 1588 = .ok (.i2l, 1) := dk_133 (dk_at dksL_law_60 15 rfl rfl)
theorem dL_law_1589 : decode cL_law 1589 = .ok (.lcmp, 1) := dk_148 (dk_at dksL_law_60 16 rfl rfl)
theorem dL_law_1590 : decode cL_law 1590 = .ok (.ifCond .eq 5, 3) := dk_153 0 5 (dk_at dksL_law_60 17 rfl rfl)
theorem dL_law_1593 : decode cL_law 1593 = .ok (.iconst 0, 1) := dk_3 (dk_at dksL_law_60 20 rfl rfl)
theorem dL_law_1594 : decode cL_law 1594 = .ok (.ireturn, 1) := dk_172 (dk_at dksL_law_60 21 rfl rfl)
theorem dL_law_1595 : decode cL_law 1595 = .ok (.goto 1107, 3) := dk_167 4 83 (dk_at dksL_law_61 0 rfl rfl)
theorem dL_law_1598 : decode cL_law 1598 = .ok (.aload_n 1, 1) := dk_43 (dk_at dksL_law_61 3 rfl rfl)
theorem dL_law_1599 : decode cL_law 1599 = .ok (.invokevirtual 215, 3) := dk_182 0 215 (dk_at dksL_law_61 4 rfl rfl)
theorem dL_law_1602 : decode cL_law 1602 = .ok (.aload_n 2, 1) := dk_44 (dk_at dksL_law_61 7 rfl rfl)
theorem dL_law_1603 : decode cL_law 1603 = .ok (.invokevirtual 218, 3) := dk_182 0 218 (dk_at dksL_law_61 8 rfl rfl)
theorem dL_law_1606 : decode cL_law 1606 = .ok (.if_icmp .eq 1096, 3) := dk_159 4 72 (dk_at dksL_law_61 11 rfl rfl)
theorem dL_law_1609 : decode cL_law 1609 = .ok (.iconst 0, 1) := dk_3 (dk_at dksL_law_61 14 rfl rfl)
theorem dL_law_1610 : decode cL_law 1610 = .ok (.ireturn, 1) := dk_172 (dk_at dksL_law_61 15 rfl rfl)
theorem dL_law_1611 : decode cL_law 1611 = .ok (.aload_n 1, 1) := dk_43 (dk_at dksL_law_61 16 rfl rfl)
theorem dL_law_1612 : decode cL_law 1612 = .ok (.aload_n 0, 1) := dk_42 (dk_at dksL_law_61 17 rfl rfl)
theorem dL_law_1613 : decode cL_law 1613 = .ok (.iload 5, 2) := dk_21 5 (dk_at dksL_law_61 18 rfl rfl)
theorem dL_law_1615 : decode cL_law 1615 = .ok (.iconst 1, 1) := dk_4 (dk_at dksL_law_61 20 rfl rfl)
theorem dL_law_1616 : decode cL_law 1616 = .ok (.iadd, 1) := dk_96 (dk_at dksL_law_61 21 rfl rfl)
theorem dL_law_1617 : decode cL_law 1617 = .ok (.iaload, 1) := dk_46 (dk_at dksL_law_61 22 rfl rfl)
theorem dL_law_1618 : decode cL_law 1618 = .ok (.aload_n 3, 1) := dk_45 (dk_at dksL_law_61 23 rfl rfl)
theorem dL_law_1619 : decode cL_law 1619 = .ok (.invokestatic 219, 3) := dk_184 0 219 (dk_at dksL_law_62 0 rfl rfl)
theorem dL_law_1622 : decode cL_law 1622 = .ok (.istore 6, 2) := dk_54 6 (dk_at dksL_law_62 3 rfl rfl)
theorem dL_law_1624 : decode cL_law 1624 = .ok (.aload_n 2, 1) := dk_44 (dk_at dksL_law_62 5 rfl rfl)
theorem dL_law_1625 : decode cL_law 1625 = .ok (.aload_n 0, 1) := dk_42 (dk_at dksL_law_62 6 rfl rfl)
theorem dL_law_1626 : decode cL_law 1626 = .ok (.iload 5, 2) := dk_21 5 (dk_at dksL_law_62 7 rfl rfl)
theorem dL_law_1628 : decode cL_law 1628 = .ok (.iconst 1, 1) := dk_4 (dk_at dksL_law_62 9 rfl rfl)
theorem dL_law_1629 : decode cL_law 1629 = .ok (.iadd, 1) := dk_96 (dk_at dksL_law_62 10 rfl rfl)
theorem dL_law_1630 : decode cL_law 1630 = .ok (.iaload, 1) := dk_46 (dk_at dksL_law_62 11 rfl rfl)
theorem dL_law_1631 : decode cL_law 1631 = .ok (.invokevirtual 221, 3) := dk_182 0 221 (dk_at dksL_law_62 12 rfl rfl)
theorem dL_law_1634 : decode cL_law 1634 = .ok (.istore 7, 2) := dk_54 7 (dk_at dksL_law_62 15 rfl rfl)
theorem dL_law_1636 : decode cL_law 1636 = .ok (.aload_n 2, 1) := dk_44 (dk_at dksL_law_62 17 rfl rfl)
theorem dL_law_1637 : decode cL_law 1637 = .ok (.invokevirtual 152, 3) := dk_182 0 152 (dk_at dksL_law_62 18 rfl rfl)
theorem dL_law_1640 : decode cL_law 1640 = .ok (.iload 6, 2) := dk_21 6 (dk_at dksL_law_62 21 rfl rfl)
theorem dL_law_1642 : decode cL_law 1642 = .ok (.if_icmp .eq 5, 3) := dk_159 0 5 (dk_at dksL_law_63 0 rfl rfl)
theorem dL_law_1645 : decode cL_law 1645 = .ok (.iconst 0, 1) := dk_3 (dk_at dksL_law_63 3 rfl rfl)
theorem dL_law_1646 : decode cL_law 1646 = .ok (.ireturn, 1) := dk_172 (dk_at dksL_law_63 4 rfl rfl)
theorem dL_law_1647 : decode cL_law 1647 = .ok (.iload 6, 2) := dk_21 6 (dk_at dksL_law_63 5 rfl rfl)
theorem dL_law_1649 : decode cL_law 1649 = .ok (.ifCond .ne 15, 3) := dk_154 0 15 (dk_at dksL_law_63 7 rfl rfl)
theorem dL_law_1652 : decode cL_law 1652 = .ok (.aload_n 3, 1) := dk_45 (dk_at dksL_law_63 10 rfl rfl)
theorem dL_law_1653 : decode cL_law 1653 = .ok (.iconst 0, 1) := dk_3 (dk_at dksL_law_63 11 rfl rfl)
theorem dL_law_1654 : decode cL_law 1654 = .ok (.laload, 1) := dk_47 (dk_at dksL_law_63 12 rfl rfl)
theorem dL_law_1655 : decode cL_law 1655 = .ok (.iload 7, 2) := dk_21 7 (dk_at dksL_law_63 13 rfl rfl)
theorem dL_law_1657 : decode cL_law 1657 = .ok (.i2l, 1) := dk_133 (dk_at dksL_law_63 15 rfl rfl)
theorem dL_law_1658 : decode cL_law 1658 = .ok (.lcmp, 1) := dk_148 (dk_at dksL_law_63 16 rfl rfl)
theorem dL_law_1659 : decode cL_law 1659 = .ok (.ifCond .eq 5, 3) := dk_153 0 5 (dk_at dksL_law_63 17 rfl rfl)
theorem dL_law_1662 : decode cL_law 1662 = .ok (.iconst 0, 1) := dk_3 (dk_at dksL_law_63 20 rfl rfl)
theorem dL_law_1663 : decode cL_law 1663 = .ok (.ireturn, 1) := dk_172 (dk_at dksL_law_63 21 rfl rfl)
theorem dL_law_1664 : decode cL_law 1664 = .ok (.goto 1038, 3) := dk_167 4 14 (dk_at dksL_law_64 0 rfl rfl)
theorem dL_law_1667 : decode cL_law 1667 = .ok (.aload_n 1, 1) := dk_43 (dk_at dksL_law_64 3 rfl rfl)
theorem dL_law_1668 : decode cL_law 1668 = .ok (.aload_n 0, 1) := dk_42 (dk_at dksL_law_64 4 rfl rfl)
theorem dL_law_1669 : decode cL_law 1669 = .ok (.iload 5, 2) := dk_21 5 (dk_at dksL_law_64 5 rfl rfl)
theorem dL_law_1671 : decode cL_law 1671 = .ok (.iconst 1, 1) := dk_4 (dk_at dksL_law_64 7 rfl rfl)
theorem dL_law_1672 : decode cL_law 1672 = .ok (.iadd, 1) := dk_96 (dk_at dksL_law_64 8 rfl rfl)
theorem dL_law_1673 : decode cL_law 1673 = .ok (.iaload, 1) := dk_46 (dk_at dksL_law_64 9 rfl rfl)
theorem dL_law_1674 : decode cL_law 1674 = .ok (.aload_n 3, 1) := dk_45 (dk_at dksL_law_64 10 rfl rfl)
theorem dL_law_1675 : decode cL_law 1675 = .ok (.invokestatic 222, 3) := dk_184 0 222 (dk_at dksL_law_64 11 rfl rfl)
theorem dL_law_1678 : decode cL_law 1678 = .ok (.istore 6, 2) := dk_54 6 (dk_at dksL_law_64 14 rfl rfl)
theorem dL_law_1680 : decode cL_law 1680 = .ok (.aload_n 2, 1) := dk_44 (dk_at dksL_law_64 16 rfl rfl)
theorem dL_law_1681 : decode cL_law 1681 = .ok (.aload_n 0, 1) := dk_42 (dk_at dksL_law_64 17 rfl rfl)
theorem dL_law_1682 : decode cL_law 1682 = .ok (.iload 5, 2) := dk_21 5 (dk_at dksL_law_64 18 rfl rfl)
theorem dL_law_1684 : decode cL_law 1684 = .ok (.iconst 1, 1) := dk_4 (dk_at dksL_law_64 20 rfl rfl)
theorem dL_law_1685 : decode cL_law 1685 = .ok (.iadd, 1) := dk_96 (dk_at dksL_law_64 21 rfl rfl)
theorem dL_law_1686 : decode cL_law 1686 = .ok (.iaload, 1) := dk_46 (dk_at dksL_law_64 22 rfl rfl)
theorem dL_law_1687 : decode cL_law 1687 = .ok (.invokevirtual 224, 3) := dk_182 0 224 (dk_at dksL_law_65 0 rfl rfl)
theorem dL_law_1690 : decode cL_law 1690 = .ok (.istore 7, 2) := dk_54 7 (dk_at dksL_law_65 3 rfl rfl)
theorem dL_law_1692 : decode cL_law 1692 = .ok (.aload_n 2, 1) := dk_44 (dk_at dksL_law_65 5 rfl rfl)
theorem dL_law_1693 : decode cL_law 1693 = .ok (.invokevirtual 152, 3) := dk_182 0 152 (dk_at dksL_law_65 6 rfl rfl)
theorem dL_law_1696 : decode cL_law 1696 = .ok (.iload 6, 2) := dk_21 6 (dk_at dksL_law_65 9 rfl rfl)
theorem dL_law_1698 : decode cL_law 1698 = .ok (.if_icmp .eq 5, 3) := dk_159 0 5 (dk_at dksL_law_65 11 rfl rfl)
theorem dL_law_1701 : decode cL_law 1701 = .ok (.iconst 0, 1) := dk_3 (dk_at dksL_law_65 14 rfl rfl)
theorem dL_law_1702 : decode cL_law 1702 = .ok (.ireturn, 1) := dk_172 (dk_at dksL_law_65 15 rfl rfl)
theorem dL_law_1703 : decode cL_law 1703 = .ok (.iload 6, 2) := dk_21 6 (dk_at dksL_law_65 16 rfl rfl)
theorem dL_law_1705 : decode cL_law 1705 = .ok (.ifCond .ne 22, 3) := dk_154 0 22 (dk_at dksL_law_65 18 rfl rfl)
theorem dL_law_1708 : decode cL_law 1708 = .ok (.aload_n 3, 1) := dk_45 (dk_at dksL_law_65 21 rfl rfl)
theorem dL_law_1709 : decode cL_law 1709 = .ok (.iconst 0, 1) := dk_3 (dk_at dksL_law_65 22 rfl rfl)
theorem dL_law_1710 : decode cL_law 1710 = .ok (.laload, 1) := dk_47 (dk_at dksL_law_65 23 rfl rfl)
theorem dL_law_1711 : decode cL_law 1711 = .ok (.iload 7, 2) := dk_21 7 (dk_at dksL_law_66 0 rfl rfl)
theorem dL_law_1713 : decode cL_law 1713 = .ok (.ifCond .eq 7, 3) := dk_153 0 7 (dk_at dksL_law_66 2 rfl rfl)
theorem dL_law_1716 : decode cL_law 1716 = .ok (.lconst 1, 1) := dk_10 (dk_at dksL_law_66 5 rfl rfl)
theorem dL_law_1717 : decode cL_law 1717 = .ok (.goto 4, 3) := dk_167 0 4 (dk_at dksL_law_66 6 rfl rfl)
theorem dL_law_1720 : decode cL_law 1720 = .ok (.lconst 0, 1) := dk_9 (dk_at dksL_law_66 9 rfl rfl)
theorem dL_law_1721 : decode cL_law 1721 = .ok (.lcmp, 1) := dk_148 (dk_at dksL_law_66 10 rfl rfl)
theorem dL_law_1722 : decode cL_law 1722 = .ok (.ifCond .eq 5, 3) := dk_153 0 5 (dk_at dksL_law_66 11 rfl rfl)
theorem dL_law_1725 : decode cL_law 1725 = .ok (.iconst 0, 1) := dk_3 (dk_at dksL_law_66 14 rfl rfl)
theorem dL_law_1726 : decode cL_law 1726 = .ok (.ireturn, 1) := dk_172 (dk_at dksL_law_66 15 rfl rfl)
theorem dL_law_1727 : decode cL_law 1727 = .ok (.goto 975, 3) := dk_167 3 207 (dk_at dksL_law_66 16 rfl rfl)
theorem dL_law_1730 : decode cL_law 1730 = .ok (.aload_n 1, 1) := dk_43 (dk_at dksL_law_66 19 rfl rfl)
theorem dL_law_1731 : decode cL_law 1731 = .ok (.aload_n 0, 1) := dk_42 (dk_at dksL_law_66 20 rfl rfl)
theorem dL_law_1732 : decode cL_law 1732 = .ok (.iload 5, 2) := dk_21 5 (dk_at dksL_law_66 21 rfl rfl)
theorem dL_law_1734 : decode cL_law 1734 = .ok (.iconst 1, 1) := dk_4 (dk_at dksL_law_66 23 rfl rfl)
theorem dL_law_1735 : decode cL_law 1735 = .ok (.iadd, 1) := dk_96 (dk_at dksL_law_67 0 rfl rfl)
theorem dL_law_1736 : decode cL_law 1736 = .ok (.iaload, 1) := dk_46 (dk_at dksL_law_67 1 rfl rfl)
theorem dL_law_1737 : decode cL_law 1737 = .ok (.aload_n 3, 1) := dk_45 (dk_at dksL_law_67 2 rfl rfl)
theorem dL_law_1738 : decode cL_law 1738 = .ok (.invokestatic 225, 3) := dk_184 0 225 (dk_at dksL_law_67 3 rfl rfl)
theorem dL_law_1741 : decode cL_law 1741 = .ok (.istore 6, 2) := dk_54 6 (dk_at dksL_law_67 6 rfl rfl)
theorem dL_law_1743 : decode cL_law 1743 = .ok (.aload_n 2, 1) := dk_44 (dk_at dksL_law_67 8 rfl rfl)
theorem dL_law_1744 : decode cL_law 1744 = .ok (.aload_n 0, 1) := dk_42 (dk_at dksL_law_67 9 rfl rfl)
theorem dL_law_1745 : decode cL_law 1745 = .ok (.iload 5, 2) := dk_21 5 (dk_at dksL_law_67 10 rfl rfl)
theorem dL_law_1747 : decode cL_law 1747 = .ok (.iconst 1, 1) := dk_4 (dk_at dksL_law_67 12 rfl rfl)
theorem dL_law_1748 : decode cL_law 1748 = .ok (.iadd, 1) := dk_96 (dk_at dksL_law_67 13 rfl rfl)
theorem dL_law_1749 : decode cL_law 1749 = .ok (.iaload, 1) := dk_46 (dk_at dksL_law_67 14 rfl rfl)
theorem dL_law_1750 : decode cL_law 1750 = .ok (.invokevirtual 227, 3) := dk_182 0 227 (dk_at dksL_law_67 15 rfl rfl)
theorem dL_law_1753 : decode cL_law 1753 = .ok (.istore 7, 2) := dk_54 7 (dk_at dksL_law_67 18 rfl rfl)
theorem dL_law_1755 : decode cL_law 1755 = .ok (.aload_n 2, 1) := dk_44 (dk_at dksL_law_67 20 rfl rfl)
theorem dL_law_1756 : decode cL_law 1756 = .ok (.invokevirtual 152, 3) := dk_182 0 152 (dk_at dksL_law_67 21 rfl rfl)
theorem dL_law_1759 : decode cL_law 1759 = .ok (.iload 6, 2) := dk_21 6 (dk_at dksL_law_68 0 rfl rfl)
theorem dL_law_1761 : decode cL_law 1761 = .ok (.if_icmp .eq 5, 3) := dk_159 0 5 (dk_at dksL_law_68 2 rfl rfl)
theorem dL_law_1764 : decode cL_law 1764 = .ok (.iconst 0, 1) := dk_3 (dk_at dksL_law_68 5 rfl rfl)
theorem dL_law_1765 : decode cL_law 1765 = .ok (.ireturn, 1) := dk_172 (dk_at dksL_law_68 6 rfl rfl)
theorem dL_law_1766 : decode cL_law 1766 = .ok (.iload 6, 2) := dk_21 6 (dk_at dksL_law_68 7 rfl rfl)
theorem dL_law_1768 : decode cL_law 1768 = .ok (.ifCond .ne 15, 3) := dk_154 0 15 (dk_at dksL_law_68 9 rfl rfl)
theorem dL_law_1771 : decode cL_law 1771 = .ok (.aload_n 3, 1) := dk_45 (dk_at dksL_law_68 12 rfl rfl)
theorem dL_law_1772 : decode cL_law 1772 = .ok (.iconst 0, 1) := dk_3 (dk_at dksL_law_68 13 rfl rfl)
theorem dL_law_1773 : decode cL_law 1773 = .ok (.laload, 1) := dk_47 (dk_at dksL_law_68 14 rfl rfl)
theorem dL_law_1774 : decode cL_law 1774 = .ok (.iload 7, 2) := dk_21 7 (dk_at dksL_law_68 15 rfl rfl)
theorem dL_law_1776 : decode cL_law 1776 = .ok (.i2l, 1) := dk_133 (dk_at dksL_law_68 17 rfl rfl)
theorem dL_law_1777 : decode cL_law 1777 = .ok (.lcmp, 1) := dk_148 (dk_at dksL_law_68 18 rfl rfl)
theorem dL_law_1778 : decode cL_law 1778 = .ok (.ifCond .eq 5, 3) := dk_153 0 5 (dk_at dksL_law_68 19 rfl rfl)
theorem dL_law_1781 : decode cL_law 1781 = .ok (.iconst 0, 1) := dk_3 (dk_at dksL_law_68 22 rfl rfl)
theorem dL_law_1782 : decode cL_law 1782 = .ok (.ireturn, 1) := dk_172 (dk_at dksL_law_68 23 rfl rfl)
theorem dL_law_1783 : decode cL_law 1783 = .ok (.goto 919, 3) := dk_167 3 151 (dk_at dksL_law_69 0 rfl rfl)
theorem dL_law_1786 : decode cL_law 1786 = .ok (.aload_n 1, 1) := dk_43 (dk_at dksL_law_69 3 rfl rfl)
theorem dL_law_1787 : decode cL_law 1787 = .ok (.aload_n 0, 1) := dk_42 (dk_at dksL_law_69 4 rfl rfl)
theorem dL_law_1788 : decode cL_law 1788 = .ok (.iload 5, 2) := dk_21 5 (dk_at dksL_law_69 5 rfl rfl)
theorem dL_law_1790 : decode cL_law 1790 = .ok (.iconst 1, 1) := dk_4 (dk_at dksL_law_69 7 rfl rfl)
theorem dL_law_1791 : decode cL_law 1791 = .ok (.iadd, 1) := dk_96 (dk_at dksL_law_69 8 rfl rfl)
theorem dL_law_1792 : decode cL_law 1792 = .ok (.iaload, 1) := dk_46 (dk_at dksL_law_69 9 rfl rfl)
theorem dL_law_1793 : decode cL_law 1793 = .ok (.i2c, 1) := dk_146 (dk_at dksL_law_69 10 rfl rfl)
theorem dL_law_1794 : decode cL_law 1794 = .ok (.aload_n 3, 1) := dk_45 (dk_at dksL_law_69 11 rfl rfl)
theorem dL_law_1795 : decode cL_law 1795 = .ok (.invokestatic 228, 3) := dk_184 0 228 (dk_at dksL_law_69 12 rfl rfl)
theorem dL_law_1798 : decode cL_law 1798 = .ok (.istore 6, 2) := dk_54 6 (dk_at dksL_law_69 15 rfl rfl)
theorem dL_law_1800 : decode cL_law 1800 = .ok (.aload_n 2, 1) := dk_44 (dk_at dksL_law_69 17 rfl rfl)
theorem dL_law_1801 : decode cL_law 1801 = .ok (.aload_n 0, 1) := dk_42 (dk_at dksL_law_69 18 rfl rfl)
theorem dL_law_1802 : decode cL_law 1802 = .ok (.iload 5, 2) := dk_21 5 (dk_at dksL_law_69 19 rfl rfl)
theorem dL_law_1804 : decode cL_law 1804 = .ok (.iconst 1, 1) := dk_4 (dk_at dksL_law_69 21 rfl rfl)
theorem dL_law_1805 : decode cL_law 1805 = .ok (.iadd, 1) := dk_96 (dk_at dksL_law_69 22 rfl rfl)
theorem dL_law_1806 : decode cL_law 1806 = .ok (.iaload, 1) := dk_46 (dk_at dksL_law_69 23 rfl rfl)
theorem dL_law_1807 : decode cL_law 1807 = .ok (.i2c, 1) := dk_146 (dk_at dksL_law_70 0 rfl rfl)
theorem dL_law_1808 : decode cL_law 1808 = .ok (.invokevirtual 230, 3) := dk_182 0 230 (dk_at dksL_law_70 1 rfl rfl)
theorem dL_law_1811 : decode cL_law 1811 = .ok (.istore 7, 2) := dk_54 7 (dk_at dksL_law_70 4 rfl rfl)
theorem dL_law_1813 : decode cL_law 1813 = .ok (.aload_n 2, 1) := dk_44 (dk_at dksL_law_70 6 rfl rfl)
theorem dL_law_1814 : decode cL_law 1814 = .ok (.invokevirtual 152, 3) := dk_182 0 152 (dk_at dksL_law_70 7 rfl rfl)
theorem dL_law_1817 : decode cL_law 1817 = .ok (.iload 6, 2) := dk_21 6 (dk_at dksL_law_70 10 rfl rfl)
theorem dL_law_1819 : decode cL_law 1819 = .ok (.if_icmp .eq 5, 3) := dk_159 0 5 (dk_at dksL_law_70 12 rfl rfl)
theorem dL_law_1822 : decode cL_law 1822 = .ok (.iconst 0, 1) := dk_3 (dk_at dksL_law_70 15 rfl rfl)
theorem dL_law_1823 : decode cL_law 1823 = .ok (.ireturn, 1) := dk_172 (dk_at dksL_law_70 16 rfl rfl)
theorem dL_law_1824 : decode cL_law 1824 = .ok (.iload 6, 2) := dk_21 6 (dk_at dksL_law_70 17 rfl rfl)
theorem dL_law_1826 : decode cL_law 1826 = .ok (.ifCond .ne 15, 3) := dk_154 0 15 (dk_at dksL_law_70 19 rfl rfl)
theorem dL_law_1829 : decode cL_law 1829 = .ok (.aload_n 3, 1) := dk_45 (dk_at dksL_law_70 22 rfl rfl)
theorem dL_law_1830 : decode cL_law 1830 = .ok (.iconst 0, 1) := dk_3 (dk_at dksL_law_70 23 rfl rfl)
theorem dL_law_1831 : decode cL_law 1831 = .ok (.laload, 1) := dk_47 (dk_at dksL_law_71 0 rfl rfl)
theorem dL_law_1832 : decode cL_law 1832 = .ok (.iload 7, 2) := dk_21 7 (dk_at dksL_law_71 1 rfl rfl)
theorem dL_law_1834 : decode cL_law 1834 = .ok (.i2l, 1) := dk_133 (dk_at dksL_law_71 3 rfl rfl)
theorem dL_law_1835 : decode cL_law 1835 = .ok (.lcmp, 1) := dk_148 (dk_at dksL_law_71 4 rfl rfl)
theorem dL_law_1836 : decode cL_law 1836 = .ok (.ifCond .eq 5, 3) := dk_153 0 5 (dk_at dksL_law_71 5 rfl rfl)
theorem dL_law_1839 : decode cL_law 1839 = .ok (.iconst 0, 1) := dk_3 (dk_at dksL_law_71 8 rfl rfl)
theorem dL_law_1840 : decode cL_law 1840 = .ok (.ireturn, 1) := dk_172 (dk_at dksL_law_71 9 rfl rfl)
theorem dL_law_1841 : decode cL_law 1841 = .ok (.goto 861, 3) := dk_167 3 93 (dk_at dksL_law_71 10 rfl rfl)
theorem dL_law_1844 : decode cL_law 1844 = .ok (.aload_n 1, 1) := dk_43 (dk_at dksL_law_71 13 rfl rfl)
theorem dL_law_1845 : decode cL_law 1845 = .ok (.aload_n 0, 1) := dk_42 (dk_at dksL_law_71 14 rfl rfl)
theorem dL_law_1846 : decode cL_law 1846 = .ok (.iload 5, 2) := dk_21 5 (dk_at dksL_law_71 15 rfl rfl)
theorem dL_law_1848 : decode cL_law 1848 = .ok (.iconst 1, 1) := dk_4 (dk_at dksL_law_71 17 rfl rfl)
theorem dL_law_1849 : decode cL_law 1849 = .ok (.iadd, 1) := dk_96 (dk_at dksL_law_71 18 rfl rfl)
theorem dL_law_1850 : decode cL_law 1850 = .ok (.iaload, 1) := dk_46 (dk_at dksL_law_71 19 rfl rfl)
theorem dL_law_1851 : decode cL_law 1851 = .ok (.i2c, 1) := dk_146 (dk_at dksL_law_71 20 rfl rfl)
theorem dL_law_1852 : decode cL_law 1852 = .ok (.aload_n 3, 1) := dk_45 (dk_at dksL_law_71 21 rfl rfl)
theorem dL_law_1853 : decode cL_law 1853 = .ok (.invokestatic 231, 3) := dk_184 0 231 (dk_at dksL_law_72 0 rfl rfl)
theorem dL_law_1856 : decode cL_law 1856 = .ok (.istore 6, 2) := dk_54 6 (dk_at dksL_law_72 3 rfl rfl)
theorem dL_law_1858 : decode cL_law 1858 = .ok (.aload_n 2, 1) := dk_44 (dk_at dksL_law_72 5 rfl rfl)
theorem dL_law_1859 : decode cL_law 1859 = .ok (.aload_n 0, 1) := dk_42 (dk_at dksL_law_72 6 rfl rfl)
theorem dL_law_1860 : decode cL_law 1860 = .ok (.iload 5, 2) := dk_21 5 (dk_at dksL_law_72 7 rfl rfl)
theorem dL_law_1862 : decode cL_law 1862 = .ok (.iconst 1, 1) := dk_4 (dk_at dksL_law_72 9 rfl rfl)
theorem dL_law_1863 : decode cL_law 1863 = .ok (.iadd, 1) := dk_96 (dk_at dksL_law_72 10 rfl rfl)
theorem dL_law_1864 : decode cL_law 1864 = .ok (.iaload, 1) := dk_46 (dk_at dksL_law_72 11 rfl rfl)
theorem dL_law_1865 : decode cL_law 1865 = .ok (.i2c, 1) := dk_146 (dk_at dksL_law_72 12 rfl rfl)
theorem dL_law_1866 : decode cL_law 1866 = .ok (.invokevirtual 233, 3) := dk_182 0 233 (dk_at dksL_law_72 13 rfl rfl)
theorem dL_law_1869 : decode cL_law 1869 = .ok (.istore 7, 2) := dk_54 7 (dk_at dksL_law_72 16 rfl rfl)
theorem dL_law_1871 : decode cL_law 1871 = .ok (.aload_n 2, 1) := dk_44 (dk_at dksL_law_72 18 rfl rfl)
theorem dL_law_1872 : decode cL_law 1872 = .ok (.invokevirtual 152, 3) := dk_182 0 152 (dk_at dksL_law_72 19 rfl rfl)
theorem dL_law_1875 : decode cL_law 1875 = .ok (.iload 6, 2) := dk_21 6 (dk_at dksL_law_72 22 rfl rfl)
theorem dL_law_1877 : decode cL_law 1877 = .ok (.if_icmp .eq 5, 3) := dk_159 0 5 (dk_at dksL_law_73 0 rfl rfl)
theorem dL_law_1880 : decode cL_law 1880 = .ok (.iconst 0, 1) := dk_3 (dk_at dksL_law_73 3 rfl rfl)
theorem dL_law_1881 : decode cL_law 1881 = .ok (.ireturn, 1) := dk_172 (dk_at dksL_law_73 4 rfl rfl)
theorem dL_law_1882 : decode cL_law 1882 = .ok (.iload 6, 2) := dk_21 6 (dk_at dksL_law_73 5 rfl rfl)
theorem dL_law_1884 : decode cL_law 1884 = .ok (.ifCond .ne 15, 3) := dk_154 0 15 (dk_at dksL_law_73 7 rfl rfl)
theorem dL_law_1887 : decode cL_law 1887 = .ok (.aload_n 3, 1) := dk_45 (dk_at dksL_law_73 10 rfl rfl)
theorem dL_law_1888 : decode cL_law 1888 = .ok (.iconst 0, 1) := dk_3 (dk_at dksL_law_73 11 rfl rfl)
theorem dL_law_1889 : decode cL_law 1889 = .ok (.laload, 1) := dk_47 (dk_at dksL_law_73 12 rfl rfl)
theorem dL_law_1890 : decode cL_law 1890 = .ok (.iload 7, 2) := dk_21 7 (dk_at dksL_law_73 13 rfl rfl)
theorem dL_law_1892 : decode cL_law 1892 = .ok (.i2l, 1) := dk_133 (dk_at dksL_law_73 15 rfl rfl)
theorem dL_law_1893 : decode cL_law 1893 = .ok (.lcmp, 1) := dk_148 (dk_at dksL_law_73 16 rfl rfl)
theorem dL_law_1894 : decode cL_law 1894 = .ok (.ifCond .eq 5, 3) := dk_153 0 5 (dk_at dksL_law_73 17 rfl rfl)
theorem dL_law_1897 : decode cL_law 1897 = .ok (.iconst 0, 1) := dk_3 (dk_at dksL_law_73 20 rfl rfl)
theorem dL_law_1898 : decode cL_law 1898 = .ok (.ireturn, 1) := dk_172 (dk_at dksL_law_73 21 rfl rfl)
theorem dL_law_1899 : decode cL_law 1899 = .ok (.goto 803, 3) := dk_167 3 35 (dk_at dksL_law_74 0 rfl rfl)
theorem dL_law_1902 : decode cL_law 1902 = .ok (.aload_n 1, 1) := dk_43 (dk_at dksL_law_74 3 rfl rfl)
theorem dL_law_1903 : decode cL_law 1903 = .ok (.aload_n 0, 1) := dk_42 (dk_at dksL_law_74 4 rfl rfl)
theorem dL_law_1904 : decode cL_law 1904 = .ok (.iload 5, 2) := dk_21 5 (dk_at dksL_law_74 5 rfl rfl)
theorem dL_law_1906 : decode cL_law 1906 = .ok (.iconst 1, 1) := dk_4 (dk_at dksL_law_74 7 rfl rfl)
theorem dL_law_1907 : decode cL_law 1907 = .ok (.iadd, 1) := dk_96 (dk_at dksL_law_74 8 rfl rfl)
theorem dL_law_1908 : decode cL_law 1908 = .ok (.iaload, 1) := dk_46 (dk_at dksL_law_74 9 rfl rfl)
theorem dL_law_1909 : decode cL_law 1909 = .ok (.i2c, 1) := dk_146 (dk_at dksL_law_74 10 rfl rfl)
theorem dL_law_1910 : decode cL_law 1910 = .ok (.aload_n 0, 1) := dk_42 (dk_at dksL_law_74 11 rfl rfl)
theorem dL_law_1911 : decode cL_law 1911 = .ok (.iload 5, 2) := dk_21 5 (dk_at dksL_law_74 12 rfl rfl)
theorem dL_law_1913 : decode cL_law 1913 = .ok (.iconst 2, 1) := dk_5 (dk_at dksL_law_74 14 rfl rfl)
theorem dL_law_1914 : decode cL_law 1914 = .ok (.iadd, 1) := dk_96 (dk_at dksL_law_74 15 rfl rfl)
theorem dL_law_1915 : decode cL_law 1915 = .ok (.iaload, 1) := dk_46 (dk_at dksL_law_74 16 rfl rfl)
theorem dL_law_1916 : decode cL_law 1916 = .ok (.i2c, 1) := dk_146 (dk_at dksL_law_74 17 rfl rfl)
theorem dL_law_1917 : decode cL_law 1917 = .ok (.aload_n 3, 1) := dk_45 (dk_at dksL_law_74 18 rfl rfl)
theorem dL_law_1918 : decode cL_law 1918 = .ok (.invokestatic 234, 3) := dk_184 0 234 (dk_at dksL_law_74 19 rfl rfl)
theorem dL_law_1921 : decode cL_law 1921 = .ok (.istore 6, 2) := dk_54 6 (dk_at dksL_law_74 22 rfl rfl)
theorem dL_law_1923 : decode cL_law 1923 = .ok (.aload_n 2, 1) := dk_44 (dk_at dksL_law_75 0 rfl rfl)
theorem dL_law_1924 : decode cL_law 1924 = .ok (.aload_n 0, 1) := dk_42 (dk_at dksL_law_75 1 rfl rfl)
theorem dL_law_1925 : decode cL_law 1925 = .ok (.iload 5, 2) := dk_21 5 (dk_at dksL_law_75 2 rfl rfl)
theorem dL_law_1927 : decode cL_law 1927 = .ok (.iconst 1, 1) := dk_4 (dk_at dksL_law_75 4 rfl rfl)
theorem dL_law_1928 : decode cL_law 1928 = .ok (.iadd, 1) := dk_96 (dk_at dksL_law_75 5 rfl rfl)
theorem dL_law_1929 : decode cL_law 1929 = .ok (.iaload, 1) := dk_46 (dk_at dksL_law_75 6 rfl rfl)
theorem dL_law_1930 : decode cL_law 1930 = .ok (.i2c, 1) := dk_146 (dk_at dksL_law_75 7 rfl rfl)
theorem dL_law_1931 : decode cL_law 1931 = .ok (.aload_n 0, 1) := dk_42 (dk_at dksL_law_75 8 rfl rfl)
theorem dL_law_1932 : decode cL_law 1932 = .ok (.iload 5, 2) := dk_21 5 (dk_at dksL_law_75 9 rfl rfl)
theorem dL_law_1934 : decode cL_law 1934 = .ok (.iconst 2, 1) := dk_5 (dk_at dksL_law_75 11 rfl rfl)
theorem dL_law_1935 : decode cL_law 1935 = .ok (.iadd, 1) := dk_96 (dk_at dksL_law_75 12 rfl rfl)
theorem dL_law_1936 : decode cL_law 1936 = .ok (.iaload, 1) := dk_46 (dk_at dksL_law_75 13 rfl rfl)
theorem dL_law_1937 : decode cL_law 1937 = .ok (.i2c, 1) := dk_146 (dk_at dksL_law_75 14 rfl rfl)
theorem dL_law_1938 : decode cL_law 1938 = .ok (.invokevirtual 237, 3) := dk_182 0 237 (dk_at dksL_law_75 15 rfl rfl)
theorem dL_law_1941 : decode cL_law 1941 = .ok (.istore 7, 2) := dk_54 7 (dk_at dksL_law_75 18 rfl rfl)
theorem dL_law_1943 : decode cL_law 1943 = .ok (.aload_n 2, 1) := dk_44 (dk_at dksL_law_75 20 rfl rfl)
theorem dL_law_1944 : decode cL_law 1944 = .ok (.invokevirtual 152, 3) := dk_182 0 152 (dk_at dksL_law_75 21 rfl rfl)
theorem dL_law_1947 : decode cL_law 1947 = .ok (.iload 6, 2) := dk_21 6 (dk_at dksL_law_76 0 rfl rfl)
theorem dL_law_1949 : decode cL_law 1949 = .ok (.if_icmp .eq 5, 3) := dk_159 0 5 (dk_at dksL_law_76 2 rfl rfl)
theorem dL_law_1952 : decode cL_law 1952 = .ok (.iconst 0, 1) := dk_3 (dk_at dksL_law_76 5 rfl rfl)
theorem dL_law_1953 : decode cL_law 1953 = .ok (.ireturn, 1) := dk_172 (dk_at dksL_law_76 6 rfl rfl)
theorem dL_law_1954 : decode cL_law 1954 = .ok (.iload 6, 2) := dk_21 6 (dk_at dksL_law_76 7 rfl rfl)
theorem dL_law_1956 : decode cL_law 1956 = .ok (.ifCond .ne 22, 3) := dk_154 0 22 (dk_at dksL_law_76 9 rfl rfl)
theorem dL_law_1959 : decode cL_law 1959 = .ok (.aload_n 3, 1) := dk_45 (dk_at dksL_law_76 12 rfl rfl)
theorem dL_law_1960 : decode cL_law 1960 = .ok (.iconst 0, 1) := dk_3 (dk_at dksL_law_76 13 rfl rfl)
theorem dL_law_1961 : decode cL_law 1961 = .ok (.laload, 1) := dk_47 (dk_at dksL_law_76 14 rfl rfl)
theorem dL_law_1962 : decode cL_law 1962 = .ok (.iload 7, 2) := dk_21 7 (dk_at dksL_law_76 15 rfl rfl)
theorem dL_law_1964 : decode cL_law 1964 = .ok (.ifCond .eq 7, 3) := dk_153 0 7 (dk_at dksL_law_76 17 rfl rfl)
theorem dL_law_1967 : decode cL_law 1967 = .ok (.lconst 1, 1) := dk_10 (dk_at dksL_law_76 20 rfl rfl)
theorem dL_law_1968 : decode cL_law 1968 = .ok (.goto 4, 3) := dk_167 0 4 (dk_at dksL_law_76 21 rfl rfl)
theorem dL_law_1971 : decode cL_law 1971 = .ok (.lconst 0, 1) := dk_9 (dk_at dksL_law_77 0 rfl rfl)
theorem dL_law_1972 : decode cL_law 1972 = .ok (.lcmp, 1) := dk_148 (dk_at dksL_law_77 1 rfl rfl)
theorem dL_law_1973 : decode cL_law 1973 = .ok (.ifCond .eq 5, 3) := dk_153 0 5 (dk_at dksL_law_77 2 rfl rfl)
theorem dL_law_1976 : decode cL_law 1976 = .ok (.iconst 0, 1) := dk_3 (dk_at dksL_law_77 5 rfl rfl)
theorem dL_law_1977 : decode cL_law 1977 = .ok (.ireturn, 1) := dk_172 (dk_at dksL_law_77 6 rfl rfl)
theorem dL_law_1978 : decode cL_law 1978 = .ok (.goto 724, 3) := dk_167 2 212 (dk_at dksL_law_77 7 rfl rfl)
theorem dL_law_1981 : decode cL_law 1981 = .ok (.aload_n 1, 1) := dk_43 (dk_at dksL_law_77 10 rfl rfl)
theorem dL_law_1982 : decode cL_law 1982 = .ok (.invokevirtual 238, 3) := dk_182 0 238 (dk_at dksL_law_77 11 rfl rfl)
theorem dL_law_1985 : decode cL_law 1985 = .ok (.aload_n 2, 1) := dk_44 (dk_at dksL_law_77 14 rfl rfl)
theorem dL_law_1986 : decode cL_law 1986 = .ok (.invokevirtual 241, 3) := dk_182 0 241 (dk_at dksL_law_77 15 rfl rfl)
theorem dL_law_1989 : decode cL_law 1989 = .ok (.if_icmp .eq 713, 3) := dk_159 2 201 (dk_at dksL_law_77 18 rfl rfl)
theorem dL_law_1992 : decode cL_law 1992 = .ok (.iconst 0, 1) := dk_3 (dk_at dksL_law_77 21 rfl rfl)
theorem dL_law_1993 : decode cL_law 1993 = .ok (.ireturn, 1) := dk_172 (dk_at dksL_law_77 22 rfl rfl)
theorem dL_law_1994 : decode cL_law 1994 = .ok (.aload_n 1, 1) := dk_43 (dk_at dksL_law_77 23 rfl rfl)
theorem dL_law_1995 : decode cL_law 1995 = .ok (.aload_n 3, 1) := dk_45 (dk_at dksL_law_78 0 rfl rfl)
theorem dL_law_1996 : decode cL_law 1996 = .ok (.invokestatic 242, 3) := dk_184 0 242 (dk_at dksL_law_78 1 rfl rfl)
theorem dL_law_1999 : decode cL_law 1999 = .ok (.istore 6, 2) := dk_54 6 (dk_at dksL_law_78 4 rfl rfl)
theorem dL_law_2001 : decode cL_law 2001 = .ok (.aload_n 2, 1) := dk_44 (dk_at dksL_law_78 6 rfl rfl)
theorem dL_law_2002 : decode cL_law 2002 = .ok (.invokevirtual 245, 3) := dk_182 0 245 (dk_at dksL_law_78 7 rfl rfl)
theorem dL_law_2005 : decode cL_law 2005 = .ok (.istore 7, 2) := dk_54 7 (dk_at dksL_law_78 10 rfl rfl)
theorem dL_law_2007 : decode cL_law 2007 = .ok (.aload_n 2, 1) := dk_44 (dk_at dksL_law_78 12 rfl rfl)
theorem dL_law_2008 : decode cL_law 2008 = .ok (.invokevirtual 152, 3) := dk_182 0 152 (dk_at dksL_law_78 13 rfl rfl)
theorem dL_law_2011 : decode cL_law 2011 = .ok (.iload 6, 2) := dk_21 6 (dk_at dksL_law_78 16 rfl rfl)
theorem dL_law_2013 : decode cL_law 2013 = .ok (.if_icmp .eq 5, 3) := dk_159 0 5 (dk_at dksL_law_78 18 rfl rfl)
theorem dL_law_2016 : decode cL_law 2016 = .ok (.iconst 0, 1) := dk_3 (dk_at dksL_law_78 21 rfl rfl)
theorem dL_law_2017 : decode cL_law 2017 = .ok (.ireturn, 1) := dk_172 (dk_at dksL_law_78 22 rfl rfl)
theorem dL_law_2018 : decode cL_law 2018 = .ok (.iload 6, 2) := dk_21 6 (dk_at dksL_law_79 0 rfl rfl)
theorem dL_law_2020 : decode cL_law 2020 = .ok (.ifCond .ne 15, 3) := dk_154 0 15 (dk_at dksL_law_79 2 rfl rfl)
theorem dL_law_2023 : decode cL_law 2023 = .ok (.aload_n 3, 1) := dk_45 (dk_at dksL_law_79 5 rfl rfl)
theorem dL_law_2024 : decode cL_law 2024 = .ok (.iconst 0, 1) := dk_3 (dk_at dksL_law_79 6 rfl rfl)
theorem dL_law_2025 : decode cL_law 2025 = .ok (.laload, 1) := dk_47 (dk_at dksL_law_79 7 rfl rfl)
theorem dL_law_2026 : decode cL_law 2026 = .ok (.iload 7, 2) := dk_21 7 (dk_at dksL_law_79 8 rfl rfl)
theorem dL_law_2028 : decode cL_law 2028 = .ok (.i2l, 1) := dk_133 (dk_at dksL_law_79 10 rfl rfl)
theorem dL_law_2029 : decode cL_law 2029 = .ok (.lcmp, 1) := dk_148 (dk_at dksL_law_79 11 rfl rfl)
theorem dL_law_2030 : decode cL_law 2030 = .ok (.ifCond .eq 5, 3) := dk_153 0 5 (dk_at dksL_law_79 12 rfl rfl)
theorem dL_law_2033 : decode cL_law 2033 = .ok (.iconst 0, 1) := dk_3 (dk_at dksL_law_79 15 rfl rfl)
theorem dL_law_2034 : decode cL_law 2034 = .ok (.ireturn, 1) := dk_172 (dk_at dksL_law_79 16 rfl rfl)
theorem dL_law_2035 : decode cL_law 2035 = .ok (.goto 667, 3) := dk_167 2 155 (dk_at dksL_law_79 17 rfl rfl)
theorem dL_law_2038 : decode cL_law 2038 = .ok (.aload_n 1, 1) := dk_43 (dk_at dksL_law_79 20 rfl rfl)
theorem dL_law_2039 : decode cL_law 2039 = .ok (.aload_n 3, 1) := dk_45 (dk_at dksL_law_79 21 rfl rfl)
theorem dL_law_2040 : decode cL_law 2040 = .ok (.invokestatic 246, 3) := dk_184 0 246 (dk_at dksL_law_80 0 rfl rfl)
theorem dL_law_2043 : decode cL_law 2043 = .ok (.istore 6, 2) := dk_54 6 (dk_at dksL_law_80 3 rfl rfl)
theorem dL_law_2045 : decode cL_law 2045 = .ok (.aload_n 2, 1) := dk_44 (dk_at dksL_law_80 5 rfl rfl)
theorem dL_law_2046 : decode cL_law 2046 = .ok (.invokevirtual 248, 3) := dk_182 0 248 (dk_at dksL_law_80 6 rfl rfl)
theorem dL_law_2049 : decode cL_law 2049 = .ok (.istore 7, 2) := dk_54 7 (dk_at dksL_law_80 9 rfl rfl)
theorem dL_law_2051 : decode cL_law 2051 = .ok (.aload_n 2, 1) := dk_44 (dk_at dksL_law_80 11 rfl rfl)
theorem dL_law_2052 : decode cL_law 2052 = .ok (.invokevirtual 152, 3) := dk_182 0 152 (dk_at dksL_law_80 12 rfl rfl)
theorem dL_law_2055 : decode cL_law 2055 = .ok (.iload 6, 2) := dk_21 6 (dk_at dksL_law_80 15 rfl rfl)
theorem dL_law_2057 : decode cL_law 2057 = .ok (.if_icmp .eq 5, 3) := dk_159 0 5 (dk_at dksL_law_80 17 rfl rfl)
theorem dL_law_2060 : decode cL_law 2060 = .ok (.iconst 0, 1) := dk_3 (dk_at dksL_law_80 20 rfl rfl)
theorem dL_law_2061 : decode cL_law 2061 = .ok (.ireturn, 1) := dk_172 (dk_at dksL_law_80 21 rfl rfl)
theorem dL_law_2062 : decode cL_law 2062 = .ok (.iload 6, 2) := dk_21 6 (dk_at dksL_law_80 22 rfl rfl)
theorem dL_law_2064 : decode cL_law 2064 = .ok (.ifCond .ne 15, 3) := dk_154 0 15 (dk_at dksL_law_81 0 rfl rfl)
theorem dL_law_2067 : decode cL_law 2067 = .ok (.aload_n 3, 1) := dk_45 (dk_at dksL_law_81 3 rfl rfl)
theorem dL_law_2068 : decode cL_law 2068 = .ok (.iconst 0, 1) := dk_3 (dk_at dksL_law_81 4 rfl rfl)
theorem dL_law_2069 : decode cL_law 2069 = .ok (.laload, 1) := dk_47 (dk_at dksL_law_81 5 rfl rfl)
theorem dL_law_2070 : decode cL_law 2070 = .ok (.iload 7, 2) := dk_21 7 (dk_at dksL_law_81 6 rfl rfl)
theorem dL_law_2072 : decode cL_law 2072 = .ok (.i2l, 1) := dk_133 (dk_at dksL_law_81 8 rfl rfl)
theorem dL_law_2073 : decode cL_law 2073 = .ok (.lcmp, 1) := dk_148 (dk_at dksL_law_81 9 rfl rfl)
theorem dL_law_2074 : decode cL_law 2074 = .ok (.ifCond .eq 5, 3) := dk_153 0 5 (dk_at dksL_law_81 10 rfl rfl)
theorem dL_law_2077 : decode cL_law 2077 = .ok (.iconst 0, 1) := dk_3 (dk_at dksL_law_81 13 rfl rfl)
theorem dL_law_2078 : decode cL_law 2078 = .ok (.ireturn, 1) := dk_172 (dk_at dksL_law_81 14 rfl rfl)
theorem dL_law_2079 : decode cL_law 2079 = .ok (.goto 623, 3) := dk_167 2 111 (dk_at dksL_law_81 15 rfl rfl)
theorem dL_law_2082 : decode cL_law 2082 = .ok (.aload_n 1, 1) := dk_43 (dk_at dksL_law_81 18 rfl rfl)
theorem dL_law_2083 : decode cL_law 2083 = .ok (.aload 4, 2) := dk_25 4 (dk_at dksL_law_81 19 rfl rfl)
theorem dL_law_2085 : decode cL_law 2085 = .ok (.invokestatic 249, 3) := dk_184 0 249 (dk_at dksL_law_81 21 rfl rfl)
theorem dL_law_2088 : decode cL_law 2088 = .ok (.istore 6, 2) := dk_54 6 (dk_at dksL_law_82 0 rfl rfl)
theorem dL_law_2090 : decode cL_law 2090 = .ok (.aload_n 2, 1) := dk_44 (dk_at dksL_law_82 2 rfl rfl)
theorem dL_law_2091 : decode cL_law 2091 = .ok (.invokevirtual 252, 3) := dk_182 0 252 (dk_at dksL_law_82 3 rfl rfl)
theorem dL_law_2094 : decode cL_law 2094 = .ok (.dstore 7, 2) := dk_57 7 (dk_at dksL_law_82 6 rfl rfl)
theorem dL_law_2096 : decode cL_law 2096 = .ok (.aload_n 2, 1) := dk_44 (dk_at dksL_law_82 8 rfl rfl)
theorem dL_law_2097 : decode cL_law 2097 = .ok (.invokevirtual 152, 3) := dk_182 0 152 (dk_at dksL_law_82 9 rfl rfl)
theorem dL_law_2100 : decode cL_law 2100 = .ok (.iload 6, 2) := dk_21 6 (dk_at dksL_law_82 12 rfl rfl)
theorem dL_law_2102 : decode cL_law 2102 = .ok (.if_icmp .eq 5, 3) := dk_159 0 5 (dk_at dksL_law_82 14 rfl rfl)
theorem dL_law_2105 : decode cL_law 2105 = .ok (.iconst 0, 1) := dk_3 (dk_at dksL_law_82 17 rfl rfl)
theorem dL_law_2106 : decode cL_law 2106 = .ok (.ireturn, 1) := dk_172 (dk_at dksL_law_82 18 rfl rfl)
theorem dL_law_2107 : decode cL_law 2107 = .ok (.iload 6, 2) := dk_21 6 (dk_at dksL_law_82 19 rfl rfl)
theorem dL_law_2109 : decode cL_law 2109 = .ok (.ifCond .ne 35, 3) := dk_154 0 35 (dk_at dksL_law_82 21 rfl rfl)
theorem dL_law_2112 : decode cL_law 2112 = .ok (.aload 4, 2) := dk_25 4 (dk_at dksL_law_83 0 rfl rfl)
theorem dL_law_2114 : decode cL_law 2114 = .ok (.iconst 0, 1) := dk_3 (dk_at dksL_law_83 2 rfl rfl)
theorem dL_law_2115 : decode cL_law 2115 = .ok (.daload, 1) := dk_49 (dk_at dksL_law_83 3 rfl rfl)
theorem dL_law_2116 : decode cL_law 2116 = .ok (.dload 7, 2) := dk_24 7 (dk_at dksL_law_83 4 rfl rfl)
theorem dL_law_2118 : decode cL_law 2118 = .ok (.dcmp .l, 1) := dk_151 (dk_at dksL_law_83 6 rfl rfl)
theorem dL_law_2119 : decode cL_law 2119 = .ok (.ifCond .eq 25, 3) := dk_153 0 25 (dk_at dksL_law_83 7 rfl rfl)
theorem dL_law_2122 : decode cL_law 2122 = .ok (.aload 4, 2) := dk_25 4 (dk_at dksL_law_83 10 rfl rfl)
theorem dL_law_2124 : decode cL_law 2124 = .ok (.iconst 0, 1) := dk_3 (dk_at dksL_law_83 12 rfl rfl)
theorem dL_law_2125 : decode cL_law 2125 = .ok (.daload, 1) := dk_49 (dk_at dksL_law_83 13 rfl rfl)
theorem dL_law_2126 : decode cL_law 2126 = .ok (.aload 4, 2) := dk_25 4 (dk_at dksL_law_83 14 rfl rfl)
theorem dL_law_2128 : decode cL_law 2128 = .ok (.iconst 0, 1) := dk_3 (dk_at dksL_law_83 16 rfl rfl)
theorem dL_law_2129 : decode cL_law 2129 = .ok (.daload, 1) := dk_49 (dk_at dksL_law_83 17 rfl rfl)
theorem dL_law_2130 : decode cL_law 2130 = .ok (.dcmp .l, 1) := dk_151 (dk_at dksL_law_83 18 rfl rfl)
theorem dL_law_2131 : decode cL_law 2131 = .ok (.ifCond .eq 11, 3) := dk_153 0 11 (dk_at dksL_law_83 19 rfl rfl)
theorem dL_law_2134 : decode cL_law 2134 = .ok (.dload 7, 2) := dk_24 7 (dk_at dksL_law_83 22 rfl rfl)
theorem dL_law_2136 : decode cL_law 2136 = .ok (.dload 7, 2) := dk_24 7 (dk_at dksL_law_84 0 rfl rfl)
theorem dL_law_2138 : decode cL_law 2138 = .ok (.dcmp .l, 1) := dk_151 (dk_at dksL_law_84 2 rfl rfl)
theorem dL_law_2139 : decode cL_law 2139 = .ok (.ifCond .ne 5, 3) := dk_154 0 5 (dk_at dksL_law_84 3 rfl rfl)
theorem dL_law_2142 : decode cL_law 2142 = .ok (.iconst 0, 1) := dk_3 (dk_at dksL_law_84 6 rfl rfl)
theorem dL_law_2143 : decode cL_law 2143 = .ok (.ireturn, 1) := dk_172 (dk_at dksL_law_84 7 rfl rfl)
theorem dL_law_2144 : decode cL_law 2144 = .ok (.goto 558, 3) := dk_167 2 46 (dk_at dksL_law_84 8 rfl rfl)
theorem dL_law_2147 : decode cL_law 2147 = .ok (.aload_n 1, 1) := dk_43 (dk_at dksL_law_84 11 rfl rfl)
theorem dL_law_2148 : decode cL_law 2148 = .ok (.aload 4, 2) := dk_25 4 (dk_at dksL_law_84 12 rfl rfl)
theorem dL_law_2150 : decode cL_law 2150 = .ok (.invokestatic 253, 3) := dk_184 0 253 (dk_at dksL_law_84 14 rfl rfl)
theorem dL_law_2153 : decode cL_law 2153 = .ok (.istore 6, 2) := dk_54 6 (dk_at dksL_law_84 17 rfl rfl)
theorem dL_law_2155 : decode cL_law 2155 = .ok (.aload_n 2, 1) := dk_44 (dk_at dksL_law_84 19 rfl rfl)
theorem dL_law_2156 : decode cL_law 2156 = .ok (.invokevirtual 255, 3) := dk_182 0 255 (dk_at dksL_law_84 20 rfl rfl)
theorem dL_law_2159 : decode cL_law 2159 = .ok (.fstore 7, 2) := dk_56 7 (dk_at dksL_law_85 0 rfl rfl)
theorem dL_law_2161 : decode cL_law 2161 = .ok (.aload_n 2, 1) := dk_44 (dk_at dksL_law_85 2 rfl rfl)
theorem dL_law_2162 : decode cL_law 2162 = .ok (.invokevirtual 152, 3) := dk_182 0 152 (dk_at dksL_law_85 3 rfl rfl)
theorem dL_law_2165 : decode cL_law 2165 = .ok (.iload 6, 2) := dk_21 6 (dk_at dksL_law_85 6 rfl rfl)
theorem dL_law_2167 : decode cL_law 2167 = .ok (.if_icmp .eq 5, 3) := dk_159 0 5 (dk_at dksL_law_85 8 rfl rfl)
theorem dL_law_2170 : decode cL_law 2170 = .ok (.iconst 0, 1) := dk_3 (dk_at dksL_law_85 11 rfl rfl)
theorem dL_law_2171 : decode cL_law 2171 = .ok (.ireturn, 1) := dk_172 (dk_at dksL_law_85 12 rfl rfl)
theorem dL_law_2172 : decode cL_law 2172 = .ok (.iload 6, 2) := dk_21 6 (dk_at dksL_law_85 13 rfl rfl)
theorem dL_law_2174 : decode cL_law 2174 = .ok (.ifCond .ne 36, 3) := dk_154 0 36 (dk_at dksL_law_85 15 rfl rfl)
theorem dL_law_2177 : decode cL_law 2177 = .ok (.aload 4, 2) := dk_25 4 (dk_at dksL_law_85 18 rfl rfl)
theorem dL_law_2179 : decode cL_law 2179 = .ok (.iconst 0, 1) := dk_3 (dk_at dksL_law_85 20 rfl rfl)
theorem dL_law_2180 : decode cL_law 2180 = .ok (.daload, 1) := dk_49 (dk_at dksL_law_85 21 rfl rfl)
theorem dL_law_2181 : decode cL_law 2181 = .ok (.fload 7, 2) := dk_23 7 (dk_at dksL_law_85 22 rfl rfl)
theorem dL_law_2183 : decode cL_law 2183 = .ok (.f2d, 1) := dk_141 (dk_at dksL_law_86 0 rfl rfl)
theorem dL_law_2184 : decode cL_law 2184 = .ok (.dcmp .l, 1) := dk_151 (dk_at dksL_law_86 1 rfl rfl)
theorem dL_law_2185 : decode cL_law 2185 = .ok (.ifCond .eq 25, 3) := dk_153 0 25 (dk_at dksL_law_86 2 rfl rfl)
theorem dL_law_2188 : decode cL_law 2188 = .ok (.aload 4, 2) := dk_25 4 (dk_at dksL_law_86 5 rfl rfl)
theorem dL_law_2190 : decode cL_law 2190 = .ok (.iconst 0, 1) := dk_3 (dk_at dksL_law_86 7 rfl rfl)
theorem dL_law_2191 : decode cL_law 2191 = .ok (.daload, 1) := dk_49 (dk_at dksL_law_86 8 rfl rfl)
theorem dL_law_2192 : decode cL_law 2192 = .ok (.aload 4, 2) := dk_25 4 (dk_at dksL_law_86 9 rfl rfl)
theorem dL_law_2194 : decode cL_law 2194 = .ok (.iconst 0, 1) := dk_3 (dk_at dksL_law_86 11 rfl rfl)
theorem dL_law_2195 : decode cL_law 2195 = .ok (.daload, 1) := dk_49 (dk_at dksL_law_86 12 rfl rfl)
theorem dL_law_2196 : decode cL_law 2196 = .ok (.dcmp .l, 1) := dk_151 (dk_at dksL_law_86 13 rfl rfl)
theorem dL_law_2197 : decode cL_law 2197 = .ok (.ifCond .eq 11, 3) := dk_153 0 11 (dk_at dksL_law_86 14 rfl rfl)
theorem dL_law_2200 : decode cL_law 2200 = .ok (.fload 7, 2) := dk_23 7 (dk_at dksL_law_86 17 rfl rfl)
theorem dL_law_2202 : decode cL_law 2202 = .ok (.fload 7, 2) := dk_23 7 (dk_at dksL_law_86 19 rfl rfl)
theorem dL_law_2204 : decode cL_law 2204 = .ok (.fcmp .l, 1) := dk_149 (dk_at dksL_law_86 21 rfl rfl)
theorem dL_law_2205 : decode cL_law 2205 = .ok (.ifCond .ne 5, 3) := dk_154 0 5 (dk_at dksL_law_87 0 rfl rfl)
theorem dL_law_2208 : decode cL_law 2208 = .ok (.iconst 0, 1) := dk_3 (dk_at dksL_law_87 3 rfl rfl)
theorem dL_law_2209 : decode cL_law 2209 = .ok (.ireturn, 1) := dk_172 (dk_at dksL_law_87 4 rfl rfl)
theorem dL_law_2210 : decode cL_law 2210 = .ok (.goto 492, 3) := dk_167 1 236 (dk_at dksL_law_87 5 rfl rfl)
theorem dL_law_2213 : decode cL_law 2213 = .ok (.aload_n 1, 1) := dk_43 (dk_at dksL_law_87 8 rfl rfl)
theorem dL_law_2214 : decode cL_law 2214 = .ok (.invokevirtual 256, 3) := dk_182 1 0 (dk_at dksL_law_87 9 rfl rfl)
theorem dL_law_2217 : decode cL_law 2217 = .ok (.aload_n 2, 1) := dk_44 (dk_at dksL_law_87 12 rfl rfl)
theorem dL_law_2218 : decode cL_law 2218 = .ok (.invokevirtual 260, 3) := dk_182 1 4 (dk_at dksL_law_87 13 rfl rfl)
theorem dL_law_2221 : decode cL_law 2221 = .ok (.if_icmp .eq 481, 3) := dk_159 1 225 (dk_at dksL_law_87 16 rfl rfl)
theorem dL_law_2224 : decode cL_law 2224 = .ok (.iconst 0, 1) := dk_3 (dk_at dksL_law_87 19 rfl rfl)
theorem dL_law_2225 : decode cL_law 2225 = .ok (.ireturn, 1) := dk_172 (dk_at dksL_law_87 20 rfl rfl)
theorem dL_law_2226 : decode cL_law 2226 = .ok (.aload_n 1, 1) := dk_43 (dk_at dksL_law_87 21 rfl rfl)
theorem dL_law_2227 : decode cL_law 2227 = .ok (.aload_n 0, 1) := dk_42 (dk_at dksL_law_87 22 rfl rfl)
theorem dL_law_2228 : decode cL_law 2228 = .ok (.iload 5, 2) := dk_21 5 (dk_at dksL_law_88 0 rfl rfl)
theorem dL_law_2230 : decode cL_law 2230 = .ok (.iconst 1, 1) := dk_4 (dk_at dksL_law_88 2 rfl rfl)
theorem dL_law_2231 : decode cL_law 2231 = .ok (.iadd, 1) := dk_96 (dk_at dksL_law_88 3 rfl rfl)
theorem dL_law_2232 : decode cL_law 2232 = .ok (.iaload, 1) := dk_46 (dk_at dksL_law_88 4 rfl rfl)
theorem dL_law_2233 : decode cL_law 2233 = .ok (.i2c, 1) := dk_146 (dk_at dksL_law_88 5 rfl rfl)
theorem dL_law_2234 : decode cL_law 2234 = .ok (.aload_n 3, 1) := dk_45 (dk_at dksL_law_88 6 rfl rfl)
theorem dL_law_2235 : decode cL_law 2235 = .ok (.invokestatic 261, 3) := dk_184 1 5 (dk_at dksL_law_88 7 rfl rfl)
theorem dL_law_2238 : decode cL_law 2238 = .ok (.istore 6, 2) := dk_54 6 (dk_at dksL_law_88 10 rfl rfl)
theorem dL_law_2240 : decode cL_law 2240 = .ok (.aload_n 2, 1) := dk_44 (dk_at dksL_law_88 12 rfl rfl)
theorem dL_law_2241 : decode cL_law 2241 = .ok (.aload_n 0, 1) := dk_42 (dk_at dksL_law_88 13 rfl rfl)
theorem dL_law_2242 : decode cL_law 2242 = .ok (.iload 5, 2) := dk_21 5 (dk_at dksL_law_88 14 rfl rfl)
theorem dL_law_2244 : decode cL_law 2244 = .ok (.iconst 1, 1) := dk_4 (dk_at dksL_law_88 16 rfl rfl)
theorem dL_law_2245 : decode cL_law 2245 = .ok (.iadd, 1) := dk_96 (dk_at dksL_law_88 17 rfl rfl)
theorem dL_law_2246 : decode cL_law 2246 = .ok (.iaload, 1) := dk_46 (dk_at dksL_law_88 18 rfl rfl)
theorem dL_law_2247 : decode cL_law 2247 = .ok (.i2c, 1) := dk_146 (dk_at dksL_law_88 19 rfl rfl)
theorem dL_law_2248 : decode cL_law 2248 = .ok (.invokevirtual 263, 3) := dk_182 1 7 (dk_at dksL_law_88 20 rfl rfl)
theorem dL_law_2251 : decode cL_law 2251 = .ok (.istore 7, 2) := dk_54 7 (dk_at dksL_law_89 0 rfl rfl)
theorem dL_law_2253 : decode cL_law 2253 = .ok (.aload_n 2, 1) := dk_44 (dk_at dksL_law_89 2 rfl rfl)
theorem dL_law_2254 : decode cL_law 2254 = .ok (.invokevirtual 152, 3) := dk_182 0 152 (dk_at dksL_law_89 3 rfl rfl)
theorem dL_law_2257 : decode cL_law 2257 = .ok (.iload 6, 2) := dk_21 6 (dk_at dksL_law_89 6 rfl rfl)
theorem dL_law_2259 : decode cL_law 2259 = .ok (.if_icmp .eq 5, 3) := dk_159 0 5 (dk_at dksL_law_89 8 rfl rfl)
theorem dL_law_2262 : decode cL_law 2262 = .ok (.iconst 0, 1) := dk_3 (dk_at dksL_law_89 11 rfl rfl)
theorem dL_law_2263 : decode cL_law 2263 = .ok (.ireturn, 1) := dk_172 (dk_at dksL_law_89 12 rfl rfl)
theorem dL_law_2264 : decode cL_law 2264 = .ok (.iload 6, 2) := dk_21 6 (dk_at dksL_law_89 13 rfl rfl)
theorem dL_law_2266 : decode cL_law 2266 = .ok (.ifCond .ne 15, 3) := dk_154 0 15 (dk_at dksL_law_89 15 rfl rfl)
theorem dL_law_2269 : decode cL_law 2269 = .ok (.aload_n 3, 1) := dk_45 (dk_at dksL_law_89 18 rfl rfl)
theorem dL_law_2270 : decode cL_law 2270 = .ok (.iconst 0, 1) := dk_3 (dk_at dksL_law_89 19 rfl rfl)
theorem dL_law_2271 : decode cL_law 2271 = .ok (.laload, 1) := dk_47 (dk_at dksL_law_89 20 rfl rfl)
theorem dL_law_2272 : decode cL_law 2272 = .ok (.iload 7, 2) := dk_21 7 (dk_at dksL_law_89 21 rfl rfl)
theorem dL_law_2274 : decode cL_law 2274 = .ok (.i2l, 1) := dk_133 (dk_at dksL_law_89 23 rfl rfl)
theorem dL_law_2275 : decode cL_law 2275 = .ok (.lcmp, 1) := dk_148 (dk_at dksL_law_90 0 rfl rfl)
theorem dL_law_2276 : decode cL_law 2276 = .ok (.ifCond .eq 5, 3) := dk_153 0 5 (dk_at dksL_law_90 1 rfl rfl)
theorem dL_law_2279 : decode cL_law 2279 = .ok (.iconst 0, 1) := dk_3 (dk_at dksL_law_90 4 rfl rfl)
theorem dL_law_2280 : decode cL_law 2280 = .ok (.ireturn, 1) := dk_172 (dk_at dksL_law_90 5 rfl rfl)
theorem dL_law_2281 : decode cL_law 2281 = .ok (.goto 421, 3) := dk_167 1 165 (dk_at dksL_law_90 6 rfl rfl)
theorem dL_law_2284 : decode cL_law 2284 = .ok (.aload_n 1, 1) := dk_43 (dk_at dksL_law_90 9 rfl rfl)
theorem dL_law_2285 : decode cL_law 2285 = .ok (.aload_n 3, 1) := dk_45 (dk_at dksL_law_90 10 rfl rfl)
theorem dL_law_2286 : decode cL_law 2286 = .ok (.invokestatic 264, 3) := dk_184 1 8 (dk_at dksL_law_90 11 rfl rfl)
theorem dL_law_2289 : decode cL_law 2289 = .ok (.istore 6, 2) := dk_54 6 (dk_at dksL_law_90 14 rfl rfl)
theorem dL_law_2291 : decode cL_law 2291 = .ok (.aload_n 2, 1) := dk_44 (dk_at dksL_law_90 16 rfl rfl)
theorem dL_law_2292 : decode cL_law 2292 = .ok (.invokevirtual 266, 3) := dk_182 1 10 (dk_at dksL_law_90 17 rfl rfl)
theorem dL_law_2295 : decode cL_law 2295 = .ok (.istore 7, 2) := dk_54 7 (dk_at dksL_law_90 20 rfl rfl)
theorem dL_law_2297 : decode cL_law 2297 = .ok (.aload_n 2, 1) := dk_44 (dk_at dksL_law_90 22 rfl rfl)
theorem dL_law_2298 : decode cL_law 2298 = .ok (.invokevirtual 152, 3) := dk_182 0 152 (dk_at dksL_law_91 0 rfl rfl)
theorem dL_law_2301 : decode cL_law 2301 = .ok (.iload 6, 2) := dk_21 6 (dk_at dksL_law_91 3 rfl rfl)
theorem dL_law_2303 : decode cL_law 2303 = .ok (.if_icmp .eq 5, 3) := dk_159 0 5 (dk_at dksL_law_91 5 rfl rfl)
theorem dL_law_2306 : decode cL_law 2306 = .ok (.iconst 0, 1) := dk_3 (dk_at dksL_law_91 8 rfl rfl)
theorem dL_law_2307 : decode cL_law 2307 = .ok (.ireturn, 1) := dk_172 (dk_at dksL_law_91 9 rfl rfl)
theorem dL_law_2308 : decode cL_law 2308 = .ok (.iload 6, 2) := dk_21 6 (dk_at dksL_law_91 10 rfl rfl)
theorem dL_law_2310 : decode cL_law 2310 = .ok (.ifCond .ne 15, 3) := dk_154 0 15 (dk_at dksL_law_91 12 rfl rfl)
theorem dL_law_2313 : decode cL_law 2313 = .ok (.aload_n 3, 1) := dk_45 (dk_at dksL_law_91 15 rfl rfl)
theorem dL_law_2314 : decode cL_law 2314 = .ok (.iconst 0, 1) := dk_3 (dk_at dksL_law_91 16 rfl rfl)
theorem dL_law_2315 : decode cL_law 2315 = .ok (.laload, 1) := dk_47 (dk_at dksL_law_91 17 rfl rfl)
theorem dL_law_2316 : decode cL_law 2316 = .ok (.iload 7, 2) := dk_21 7 (dk_at dksL_law_91 18 rfl rfl)
theorem dL_law_2318 : decode cL_law 2318 = .ok (.i2l, 1) := dk_133 (dk_at dksL_law_91 20 rfl rfl)
theorem dL_law_2319 : decode cL_law 2319 = .ok (.lcmp, 1) := dk_148 (dk_at dksL_law_91 21 rfl rfl)
theorem dL_law_2320 : decode cL_law 2320 = .ok (.ifCond .eq 5, 3) := dk_153 0 5 (dk_at dksL_law_92 0 rfl rfl)
theorem dL_law_2323 : decode cL_law 2323 = .ok (.iconst 0, 1) := dk_3 (dk_at dksL_law_92 3 rfl rfl)
theorem dL_law_2324 : decode cL_law 2324 = .ok (.ireturn, 1) := dk_172 (dk_at dksL_law_92 4 rfl rfl)
theorem dL_law_2325 : decode cL_law 2325 = .ok (.goto 377, 3) := dk_167 1 121 (dk_at dksL_law_92 5 rfl rfl)
theorem dL_law_2328 : decode cL_law 2328 = .ok (.aload_n 1, 1) := dk_43 (dk_at dksL_law_92 8 rfl rfl)
theorem dL_law_2329 : decode cL_law 2329 = .ok (.aload_n 3, 1) := dk_45 (dk_at dksL_law_92 9 rfl rfl)
theorem dL_law_2330 : decode cL_law 2330 = .ok (.invokestatic 267, 3) := dk_184 1 11 (dk_at dksL_law_92 10 rfl rfl)
theorem dL_law_2333 : decode cL_law 2333 = .ok (.istore 6, 2) := dk_54 6 (dk_at dksL_law_92 13 rfl rfl)
theorem dL_law_2335 : decode cL_law 2335 = .ok (.aload_n 2, 1) := dk_44 (dk_at dksL_law_92 15 rfl rfl)
theorem dL_law_2336 : decode cL_law 2336 = .ok (.invokevirtual 269, 3) := dk_182 1 13 (dk_at dksL_law_92 16 rfl rfl)
theorem dL_law_2339 : decode cL_law 2339 = .ok (.istore 7, 2) := dk_54 7 (dk_at dksL_law_92 19 rfl rfl)
theorem dL_law_2341 : decode cL_law 2341 = .ok (.aload_n 2, 1) := dk_44 (dk_at dksL_law_92 21 rfl rfl)
theorem dL_law_2342 : decode cL_law 2342 = .ok (.invokevirtual 152, 3) := dk_182 0 152 (dk_at dksL_law_93 0 rfl rfl)
theorem dL_law_2345 : decode cL_law 2345 = .ok (.iload 6, 2) := dk_21 6 (dk_at dksL_law_93 3 rfl rfl)
theorem dL_law_2347 : decode cL_law 2347 = .ok (.if_icmp .eq 5, 3) := dk_159 0 5 (dk_at dksL_law_93 5 rfl rfl)
theorem dL_law_2350 : decode cL_law 2350 = .ok (.iconst 0, 1) := dk_3 (dk_at dksL_law_93 8 rfl rfl)
theorem dL_law_2351 : decode cL_law 2351 = .ok (.ireturn, 1) := dk_172 (dk_at dksL_law_93 9 rfl rfl)
theorem dL_law_2352 : decode cL_law 2352 = .ok (.iload 6, 2) := dk_21 6 (dk_at dksL_law_93 10 rfl rfl)
theorem dL_law_2354 : decode cL_law 2354 = .ok (.ifCond .ne 15, 3) := dk_154 0 15 (dk_at dksL_law_93 12 rfl rfl)
theorem dL_law_2357 : decode cL_law 2357 = .ok (.aload_n 3, 1) := dk_45 (dk_at dksL_law_93 15 rfl rfl)
theorem dL_law_2358 : decode cL_law 2358 = .ok (.iconst 0, 1) := dk_3 (dk_at dksL_law_93 16 rfl rfl)
theorem dL_law_2359 : decode cL_law 2359 = .ok (.laload, 1) := dk_47 (dk_at dksL_law_93 17 rfl rfl)
theorem dL_law_2360 : decode cL_law 2360 = .ok (.iload 7, 2) := dk_21 7 (dk_at dksL_law_93 18 rfl rfl)
theorem dL_law_2362 : decode cL_law 2362 = .ok (.i2l, 1) := dk_133 (dk_at dksL_law_93 20 rfl rfl)
theorem dL_law_2363 : decode cL_law 2363 = .ok (.lcmp, 1) := dk_148 (dk_at dksL_law_93 21 rfl rfl)
theorem dL_law_2364 : decode cL_law 2364 = .ok (.ifCond .eq 5, 3) := dk_153 0 5 (dk_at dksL_law_94 0 rfl rfl)
theorem dL_law_2367 : decode cL_law 2367 = .ok (.iconst 0, 1) := dk_3 (dk_at dksL_law_94 3 rfl rfl)
theorem dL_law_2368 : decode cL_law 2368 = .ok (.ireturn, 1) := dk_172 (dk_at dksL_law_94 4 rfl rfl)
theorem dL_law_2369 : decode cL_law 2369 = .ok (.goto 333, 3) := dk_167 1 77 (dk_at dksL_law_94 5 rfl rfl)
theorem dL_law_2372 : decode cL_law 2372 = .ok (.aload_n 1, 1) := dk_43 (dk_at dksL_law_94 8 rfl rfl)
theorem dL_law_2373 : decode cL_law 2373 = .ok (.aload_n 3, 1) := dk_45 (dk_at dksL_law_94 9 rfl rfl)
theorem dL_law_2374 : decode cL_law 2374 = .ok (.invokestatic 270, 3) := dk_184 1 14 (dk_at dksL_law_94 10 rfl rfl)
theorem dL_law_2377 : decode cL_law 2377 = .ok (.istore 6, 2) := dk_54 6 (dk_at dksL_law_94 13 rfl rfl)
theorem dL_law_2379 : decode cL_law 2379 = .ok (.aload_n 2, 1) := dk_44 (dk_at dksL_law_94 15 rfl rfl)
theorem dL_law_2380 : decode cL_law 2380 = .ok (.invokevirtual 272, 3) := dk_182 1 16 (dk_at dksL_law_94 16 rfl rfl)
theorem dL_law_2383 : decode cL_law 2383 = .ok (.istore 7, 2) := dk_54 7 (dk_at dksL_law_94 19 rfl rfl)
theorem dL_law_2385 : decode cL_law 2385 = .ok (.aload_n 2, 1) := dk_44 (dk_at dksL_law_94 21 rfl rfl)
theorem dL_law_2386 : decode cL_law 2386 = .ok (.invokevirtual 152, 3) := dk_182 0 152 (dk_at dksL_law_95 0 rfl rfl)
theorem dL_law_2389 : decode cL_law 2389 = .ok (.iload 6, 2) := dk_21 6 (dk_at dksL_law_95 3 rfl rfl)
theorem dL_law_2391 : decode cL_law 2391 = .ok (.if_icmp .eq 5, 3) := dk_159 0 5 (dk_at dksL_law_95 5 rfl rfl)
theorem dL_law_2394 : decode cL_law 2394 = .ok (.iconst 0, 1) := dk_3 (dk_at dksL_law_95 8 rfl rfl)
theorem dL_law_2395 : decode cL_law 2395 = .ok (.ireturn, 1) := dk_172 (dk_at dksL_law_95 9 rfl rfl)
theorem dL_law_2396 : decode cL_law 2396 = .ok (.iload 6, 2) := dk_21 6 (dk_at dksL_law_95 10 rfl rfl)
theorem dL_law_2398 : decode cL_law 2398 = .ok (.ifCond .ne 15, 3) := dk_154 0 15 (dk_at dksL_law_95 12 rfl rfl)
theorem dL_law_2401 : decode cL_law 2401 = .ok (.aload_n 3, 1) := dk_45 (dk_at dksL_law_95 15 rfl rfl)
theorem dL_law_2402 : decode cL_law 2402 = .ok (.iconst 0, 1) := dk_3 (dk_at dksL_law_95 16 rfl rfl)
theorem dL_law_2403 : decode cL_law 2403 = .ok (.laload, 1) := dk_47 (dk_at dksL_law_95 17 rfl rfl)
theorem dL_law_2404 : decode cL_law 2404 = .ok (.iload 7, 2) := dk_21 7 (dk_at dksL_law_95 18 rfl rfl)
theorem dL_law_2406 : decode cL_law 2406 = .ok (.i2l, 1) := dk_133 (dk_at dksL_law_95 20 rfl rfl)
theorem dL_law_2407 : decode cL_law 2407 = .ok (.lcmp, 1) := dk_148 (dk_at dksL_law_95 21 rfl rfl)
theorem dL_law_2408 : decode cL_law 2408 = .ok (.ifCond .eq 5, 3) := dk_153 0 5 (dk_at dksL_law_96 0 rfl rfl)
theorem dL_law_2411 : decode cL_law 2411 = .ok (.iconst 0, 1) := dk_3 (dk_at dksL_law_96 3 rfl rfl)
theorem dL_law_2412 : decode cL_law 2412 = .ok (.ireturn, 1) := dk_172 (dk_at dksL_law_96 4 rfl rfl)
theorem dL_law_2413 : decode cL_law 2413 = .ok (.goto 289, 3) := dk_167 1 33 (dk_at dksL_law_96 5 rfl rfl)
theorem dL_law_2416 : decode cL_law 2416 = .ok (.aload_n 1, 1) := dk_43 (dk_at dksL_law_96 8 rfl rfl)
theorem dL_law_2417 : decode cL_law 2417 = .ok (.aload_n 0, 1) := dk_42 (dk_at dksL_law_96 9 rfl rfl)
theorem dL_law_2418 : decode cL_law 2418 = .ok (.iload 5, 2) := dk_21 5 (dk_at dksL_law_96 10 rfl rfl)
theorem dL_law_2420 : decode cL_law 2420 = .ok (.iconst 1, 1) := dk_4 (dk_at dksL_law_96 12 rfl rfl)
theorem dL_law_2421 : decode cL_law 2421 = .ok (.iadd, 1) := dk_96 (dk_at dksL_law_96 13 rfl rfl)
theorem dL_law_2422 : decode cL_law 2422 = .ok (.iaload, 1) := dk_46 (dk_at dksL_law_96 14 rfl rfl)
theorem dL_law_2423 : decode cL_law 2423 = .ok (.aload_n 3, 1) := dk_45 (dk_at dksL_law_96 15 rfl rfl)
theorem dL_law_2424 : decode cL_law 2424 = .ok (.invokestatic 273, 3) := dk_184 1 17 (dk_at dksL_law_96 16 rfl rfl)
theorem dL_law_2427 : decode cL_law 2427 = .ok (.istore 6, 2) := dk_54 6 (dk_at dksL_law_96 19 rfl rfl)
theorem dL_law_2429 : decode cL_law 2429 = .ok (.aload_n 2, 1) := dk_44 (dk_at dksL_law_96 21 rfl rfl)
theorem dL_law_2430 : decode cL_law 2430 = .ok (.aload_n 0, 1) := dk_42 (dk_at dksL_law_96 22 rfl rfl)
theorem dL_law_2431 : decode cL_law 2431 = .ok (.iload 5, 2) := dk_21 5 (dk_at dksL_law_97 0 rfl rfl)
theorem dL_law_2433 : decode cL_law 2433 = .ok (.iconst 1, 1) := dk_4 (dk_at dksL_law_97 2 rfl rfl)
theorem dL_law_2434 : decode cL_law 2434 = .ok (.iadd, 1) := dk_96 (dk_at dksL_law_97 3 rfl rfl)
theorem dL_law_2435 : decode cL_law 2435 = .ok (.iaload, 1) := dk_46 (dk_at dksL_law_97 4 rfl rfl)
theorem dL_law_2436 : decode cL_law 2436 = .ok (.invokevirtual 275, 3) := dk_182 1 19 (dk_at dksL_law_97 5 rfl rfl)
theorem dL_law_2439 : decode cL_law 2439 = .ok (.istore 7, 2) := dk_54 7 (dk_at dksL_law_97 8 rfl rfl)
theorem dL_law_2441 : decode cL_law 2441 = .ok (.aload_n 2, 1) := dk_44 (dk_at dksL_law_97 10 rfl rfl)
theorem dL_law_2442 : decode cL_law 2442 = .ok (.invokevirtual 152, 3) := dk_182 0 152 (dk_at dksL_law_97 11 rfl rfl)
theorem dL_law_2445 : decode cL_law 2445 = .ok (.iload 6, 2) := dk_21 6 (dk_at dksL_law_97 14 rfl rfl)
theorem dL_law_2447 : decode cL_law 2447 = .ok (.if_icmp .eq 5, 3) := dk_159 0 5 (dk_at dksL_law_97 16 rfl rfl)
theorem dL_law_2450 : decode cL_law 2450 = .ok (.iconst 0, 1) := dk_3 (dk_at dksL_law_97 19 rfl rfl)
theorem dL_law_2451 : decode cL_law 2451 = .ok (.ireturn, 1) := dk_172 (dk_at dksL_law_97 20 rfl rfl)
theorem dL_law_2452 : decode cL_law 2452 = .ok (.iload 6, 2) := dk_21 6 (dk_at dksL_law_97 21 rfl rfl)
theorem dL_law_2454 : decode cL_law 2454 = .ok (.ifCond .ne 15, 3) := dk_154 0 15 (dk_at dksL_law_98 0 rfl rfl)
theorem dL_law_2457 : decode cL_law 2457 = .ok (.aload_n 3, 1) := dk_45 (dk_at dksL_law_98 3 rfl rfl)
theorem dL_law_2458 : decode cL_law 2458 = .ok (.iconst 0, 1) := dk_3 (dk_at dksL_law_98 4 rfl rfl)
theorem dL_law_2459 : decode cL_law 2459 = .ok (.laload, 1) := dk_47 (dk_at dksL_law_98 5 rfl rfl)
theorem dL_law_2460 : decode cL_law 2460 = .ok (.iload 7, 2) := dk_21 7 (dk_at dksL_law_98 6 rfl rfl)
theorem dL_law_2462 : decode cL_law 2462 = .ok (.i2l, 1) := dk_133 (dk_at dksL_law_98 8 rfl rfl)
theorem dL_law_2463 : decode cL_law 2463 = .ok (.lcmp, 1) := dk_148 (dk_at dksL_law_98 9 rfl rfl)
theorem dL_law_2464 : decode cL_law 2464 = .ok (.ifCond .eq 5, 3) := dk_153 0 5 (dk_at dksL_law_98 10 rfl rfl)
theorem dL_law_2467 : decode cL_law 2467 = .ok (.iconst 0, 1) := dk_3 (dk_at dksL_law_98 13 rfl rfl)
theorem dL_law_2468 : decode cL_law 2468 = .ok (.ireturn, 1) := dk_172 (dk_at dksL_law_98 14 rfl rfl)
theorem dL_law_2469 : decode cL_law 2469 = .ok (.goto 233, 3) := dk_167 0 233 (dk_at dksL_law_98 15 rfl rfl)
theorem dL_law_2472 : decode cL_law 2472 = .ok (.aload_n 1, 1) := dk_43 (dk_at dksL_law_98 18 rfl rfl)
theorem dL_law_2473 : decode cL_law 2473 = .ok (.aload_n 0, 1) := dk_42 (dk_at dksL_law_98 19 rfl rfl)
theorem dL_law_2474 : decode cL_law 2474 = .ok (.iload 5, 2) := dk_21 5 (dk_at dksL_law_98 20 rfl rfl)
theorem dL_law_2476 : decode cL_law 2476 = .ok (.iconst 1, 1) := dk_4 (dk_at dksL_law_98 22 rfl rfl)
theorem dL_law_2477 : decode cL_law 2477 = .ok (.iadd, 1) := dk_96 (dk_at dksL_law_98 23 rfl rfl)
theorem dL_law_2478 : decode cL_law 2478 = .ok (.iaload, 1) := dk_46 (dk_at dksL_law_99 0 rfl rfl)
theorem dL_law_2479 : decode cL_law 2479 = .ok (.i2c, 1) := dk_146 (dk_at dksL_law_99 1 rfl rfl)
theorem dL_law_2480 : decode cL_law 2480 = .ok (.aload_n 0, 1) := dk_42 (dk_at dksL_law_99 2 rfl rfl)
theorem dL_law_2481 : decode cL_law 2481 = .ok (.iload 5, 2) := dk_21 5 (dk_at dksL_law_99 3 rfl rfl)
theorem dL_law_2483 : decode cL_law 2483 = .ok (.iconst 2, 1) := dk_5 (dk_at dksL_law_99 5 rfl rfl)
theorem dL_law_2484 : decode cL_law 2484 = .ok (.iadd, 1) := dk_96 (dk_at dksL_law_99 6 rfl rfl)
theorem dL_law_2485 : decode cL_law 2485 = .ok (.iaload, 1) := dk_46 (dk_at dksL_law_99 7 rfl rfl)
theorem dL_law_2486 : decode cL_law 2486 = .ok (.aload_n 0, 1) := dk_42 (dk_at dksL_law_99 8 rfl rfl)
theorem dL_law_2487 : decode cL_law 2487 = .ok (.iload 5, 2) := dk_21 5 (dk_at dksL_law_99 9 rfl rfl)
theorem dL_law_2489 : decode cL_law 2489 = .ok (.iconst 3, 1) := dk_6 (dk_at dksL_law_99 11 rfl rfl)
theorem dL_law_2490 : decode cL_law 2490 = .ok (.iadd, 1) := dk_96 (dk_at dksL_law_99 12 rfl rfl)
theorem dL_law_2491 : decode cL_law 2491 = .ok (.iaload, 1) := dk_46 (dk_at dksL_law_99 13 rfl rfl)
theorem dL_law_2492 : decode cL_law 2492 = .ok (.aload_n 3, 1) := dk_45 (dk_at dksL_law_99 14 rfl rfl)
theorem dL_law_2493 : decode cL_law 2493 = .ok (.invokestatic 276, 3) := dk_184 1 20 (dk_at dksL_law_99 15 rfl rfl)
theorem dL_law_2496 : decode cL_law 2496 = .ok (.istore 6, 2) := dk_54 6 (dk_at dksL_law_99 18 rfl rfl)
theorem dL_law_2498 : decode cL_law 2498 = .ok (.aload_n 2, 1) := dk_44 (dk_at dksL_law_99 20 rfl rfl)
theorem dL_law_2499 : decode cL_law 2499 = .ok (.aload_n 0, 1) := dk_42 (dk_at dksL_law_99 21 rfl rfl)
theorem dL_law_2500 : decode cL_law 2500 = .ok (.iload 5, 2) := dk_21 5 (dk_at dksL_law_99 22 rfl rfl)
theorem dL_law_2502 : decode cL_law 2502 = .ok (.iconst 1, 1) := dk_4 (dk_at dksL_law_100 0 rfl rfl)
theorem dL_law_2503 : decode cL_law 2503 = .ok (.iadd, 1) := dk_96 (dk_at dksL_law_100 1 rfl rfl)
theorem dL_law_2504 : decode cL_law 2504 = .ok (.iaload, 1) := dk_46 (dk_at dksL_law_100 2 rfl rfl)
theorem dL_law_2505 : decode cL_law 2505 = .ok (.i2c, 1) := dk_146 (dk_at dksL_law_100 3 rfl rfl)
theorem dL_law_2506 : decode cL_law 2506 = .ok (.aload_n 0, 1) := dk_42 (dk_at dksL_law_100 4 rfl rfl)
theorem dL_law_2507 : decode cL_law 2507 = .ok (.iload 5, 2) := dk_21 5 (dk_at dksL_law_100 5 rfl rfl)
theorem dL_law_2509 : decode cL_law 2509 = .ok (.iconst 2, 1) := dk_5 (dk_at dksL_law_100 7 rfl rfl)
theorem dL_law_2510 : decode cL_law 2510 = .ok (.iadd, 1) := dk_96 (dk_at dksL_law_100 8 rfl rfl)
theorem dL_law_2511 : decode cL_law 2511 = .ok (.iaload, 1) := dk_46 (dk_at dksL_law_100 9 rfl rfl)
theorem dL_law_2512 : decode cL_law 2512 = .ok (.aload_n 0, 1) := dk_42 (dk_at dksL_law_100 10 rfl rfl)
theorem dL_law_2513 : decode cL_law 2513 = .ok (.iload 5, 2) := dk_21 5 (dk_at dksL_law_100 11 rfl rfl)
theorem dL_law_2515 : decode cL_law 2515 = .ok (.iconst 3, 1) := dk_6 (dk_at dksL_law_100 13 rfl rfl)
theorem dL_law_2516 : decode cL_law 2516 = .ok (.iadd, 1) := dk_96 (dk_at dksL_law_100 14 rfl rfl)
theorem dL_law_2517 : decode cL_law 2517 = .ok (.iaload, 1) := dk_46 (dk_at dksL_law_100 15 rfl rfl)
theorem dL_law_2518 : decode cL_law 2518 = .ok (.invokevirtual 278, 3) := dk_182 1 22 (dk_at dksL_law_100 16 rfl rfl)
theorem dL_law_2521 : decode cL_law 2521 = .ok (.istore 7, 2) := dk_54 7 (dk_at dksL_law_100 19 rfl rfl)
theorem dL_law_2523 : decode cL_law 2523 = .ok (.aload_n 2, 1) := dk_44 (dk_at dksL_law_100 21 rfl rfl)
theorem dL_law_2524 : decode cL_law 2524 = .ok (.invokevirtual 152, 3) := dk_182 0 152 (dk_at dksL_law_101 0 rfl rfl)
theorem dL_law_2527 : decode cL_law 2527 = .ok (.iload 6, 2) := dk_21 6 (dk_at dksL_law_101 3 rfl rfl)
theorem dL_law_2529 : decode cL_law 2529 = .ok (.if_icmp .eq 5, 3) := dk_159 0 5 (dk_at dksL_law_101 5 rfl rfl)
theorem dL_law_2532 : decode cL_law 2532 = .ok (.iconst 0, 1) := dk_3 (dk_at dksL_law_101 8 rfl rfl)
theorem dL_law_2533 : decode cL_law 2533 = .ok (.ireturn, 1) := dk_172 (dk_at dksL_law_101 9 rfl rfl)
theorem dL_law_2534 : decode cL_law 2534 = .ok (.iload 6, 2) := dk_21 6 (dk_at dksL_law_101 10 rfl rfl)
theorem dL_law_2536 : decode cL_law 2536 = .ok (.ifCond .ne 15, 3) := dk_154 0 15 (dk_at dksL_law_101 12 rfl rfl)
theorem dL_law_2539 : decode cL_law 2539 = .ok (.aload_n 3, 1) := dk_45 (dk_at dksL_law_101 15 rfl rfl)
theorem dL_law_2540 : decode cL_law 2540 = .ok (.iconst 0, 1) := dk_3 (dk_at dksL_law_101 16 rfl rfl)
theorem dL_law_2541 : decode cL_law 2541 = .ok (.laload, 1) := dk_47 (dk_at dksL_law_101 17 rfl rfl)
theorem dL_law_2542 : decode cL_law 2542 = .ok (.iload 7, 2) := dk_21 7 (dk_at dksL_law_101 18 rfl rfl)
theorem dL_law_2544 : decode cL_law 2544 = .ok (.i2l, 1) := dk_133 (dk_at dksL_law_101 20 rfl rfl)
theorem dL_law_2545 : decode cL_law 2545 = .ok (.lcmp, 1) := dk_148 (dk_at dksL_law_101 21 rfl rfl)
theorem dL_law_2546 : decode cL_law 2546 = .ok (.ifCond .eq 5, 3) := dk_153 0 5 (dk_at dksL_law_102 0 rfl rfl)
theorem dL_law_2549 : decode cL_law 2549 = .ok (.iconst 0, 1) := dk_3 (dk_at dksL_law_102 3 rfl rfl)
theorem dL_law_2550 : decode cL_law 2550 = .ok (.ireturn, 1) := dk_172 (dk_at dksL_law_102 4 rfl rfl)
theorem dL_law_2551 : decode cL_law 2551 = .ok (.goto 151, 3) := dk_167 0 151 (dk_at dksL_law_102 5 rfl rfl)
theorem dL_law_2554 : decode cL_law 2554 = .ok (.aload_n 1, 1) := dk_43 (dk_at dksL_law_102 8 rfl rfl)
theorem dL_law_2555 : decode cL_law 2555 = .ok (.invokevirtual 279, 3) := dk_182 1 23 (dk_at dksL_law_102 9 rfl rfl)
theorem dL_law_2558 : decode cL_law 2558 = .ok (.aload_n 2, 1) := dk_44 (dk_at dksL_law_102 12 rfl rfl)
theorem dL_law_2559 : decode cL_law 2559 = .ok (.invokevirtual 282, 3) := dk_182 1 26 (dk_at dksL_law_102 13 rfl rfl)
theorem dL_law_2562 : decode cL_law 2562 = .ok (.if_icmp .eq 140, 3) := dk_159 0 140 (dk_at dksL_law_102 16 rfl rfl)
theorem dL_law_2565 : decode cL_law 2565 = .ok (.iconst 0, 1) := dk_3 (dk_at dksL_law_102 19 rfl rfl)
theorem dL_law_2566 : decode cL_law 2566 = .ok (.ireturn, 1) := dk_172 (dk_at dksL_law_102 20 rfl rfl)
theorem dL_law_2567 : decode cL_law 2567 = .ok (.aload_n 1, 1) := dk_43 (dk_at dksL_law_102 21 rfl rfl)
theorem dL_law_2568 : decode cL_law 2568 = .ok (.aload_n 0, 1) := dk_42 (dk_at dksL_law_102 22 rfl rfl)
theorem dL_law_2569 : decode cL_law 2569 = .ok (.iload 5, 2) := dk_21 5 (dk_at dksL_law_103 0 rfl rfl)
theorem dL_law_2571 : decode cL_law 2571 = .ok (.iconst 1, 1) := dk_4 (dk_at dksL_law_103 2 rfl rfl)
theorem dL_law_2572 : decode cL_law 2572 = .ok (.iadd, 1) := dk_96 (dk_at dksL_law_103 3 rfl rfl)
theorem dL_law_2573 : decode cL_law 2573 = .ok (.iaload, 1) := dk_46 (dk_at dksL_law_103 4 rfl rfl)
theorem dL_law_2574 : decode cL_law 2574 = .ok (.aload_n 3, 1) := dk_45 (dk_at dksL_law_103 5 rfl rfl)
theorem dL_law_2575 : decode cL_law 2575 = .ok (.invokestatic 283, 3) := dk_184 1 27 (dk_at dksL_law_103 6 rfl rfl)
theorem dL_law_2578 : decode cL_law 2578 = .ok (.istore 6, 2) := dk_54 6 (dk_at dksL_law_103 9 rfl rfl)
theorem dL_law_2580 : decode cL_law 2580 = .ok (.aload_n 2, 1) := dk_44 (dk_at dksL_law_103 11 rfl rfl)
theorem dL_law_2581 : decode cL_law 2581 = .ok (.aload_n 0, 1) := dk_42 (dk_at dksL_law_103 12 rfl rfl)
theorem dL_law_2582 : decode cL_law 2582 = .ok (.iload 5, 2) := dk_21 5 (dk_at dksL_law_103 13 rfl rfl)
theorem dL_law_2584 : decode cL_law 2584 = .ok (.iconst 1, 1) := dk_4 (dk_at dksL_law_103 15 rfl rfl)
theorem dL_law_2585 : decode cL_law 2585 = .ok (.iadd, 1) := dk_96 (dk_at dksL_law_103 16 rfl rfl)
theorem dL_law_2586 : decode cL_law 2586 = .ok (.iaload, 1) := dk_46 (dk_at dksL_law_103 17 rfl rfl)
theorem dL_law_2587 : decode cL_law 2587 = .ok (.invokevirtual 285, 3) := dk_182 1 29 (dk_at dksL_law_103 18 rfl rfl)
theorem dL_law_2590 : decode cL_law 2590 = .ok (.istore 7, 2) := dk_54 7 (dk_at dksL_law_103 21 rfl rfl)
theorem dL_law_2592 : decode cL_law 2592 = .ok (.aload_n 2, 1) := dk_44 (dk_at dksL_law_103 23 rfl rfl)
theorem dL_law_2593 : decode cL_law 2593 = .ok (.invokevirtual 152, 3) := dk_182 0 152 (dk_at dksL_law_104 0 rfl rfl)
theorem dL_law_2596 : decode cL_law 2596 = .ok (.iload 6, 2) := dk_21 6 (dk_at dksL_law_104 3 rfl rfl)
theorem dL_law_2598 : decode cL_law 2598 = .ok (.if_icmp .eq 5, 3) := dk_159 0 5 (dk_at dksL_law_104 5 rfl rfl)
theorem dL_law_2601 : decode cL_law 2601 = .ok (.iconst 0, 1) := dk_3 (dk_at dksL_law_104 8 rfl rfl)
theorem dL_law_2602 : decode cL_law 2602 = .ok (.ireturn, 1) := dk_172 (dk_at dksL_law_104 9 rfl rfl)
theorem dL_law_2603 : decode cL_law 2603 = .ok (.iload 6, 2) := dk_21 6 (dk_at dksL_law_104 10 rfl rfl)
theorem dL_law_2605 : decode cL_law 2605 = .ok (.ifCond .ne 15, 3) := dk_154 0 15 (dk_at dksL_law_104 12 rfl rfl)
theorem dL_law_2608 : decode cL_law 2608 = .ok (.aload_n 3, 1) := dk_45 (dk_at dksL_law_104 15 rfl rfl)
theorem dL_law_2609 : decode cL_law 2609 = .ok (.iconst 0, 1) := dk_3 (dk_at dksL_law_104 16 rfl rfl)
theorem dL_law_2610 : decode cL_law 2610 = .ok (.laload, 1) := dk_47 (dk_at dksL_law_104 17 rfl rfl)
theorem dL_law_2611 : decode cL_law 2611 = .ok (.iload 7, 2) := dk_21 7 (dk_at dksL_law_104 18 rfl rfl)
theorem dL_law_2613 : decode cL_law 2613 = .ok (.i2l, 1) := dk_133 (dk_at dksL_law_104 20 rfl rfl)
theorem dL_law_2614 : decode cL_law 2614 = .ok (.lcmp, 1) := dk_148 (dk_at dksL_law_104 21 rfl rfl)
theorem dL_law_2615 : decode cL_law 2615 = .ok (.ifCond .eq 5, 3) := dk_153 0 5 (dk_at dksL_law_105 0 rfl rfl)
theorem dL_law_2618 : decode cL_law 2618 = .ok (.iconst 0, 1) := dk_3 (dk_at dksL_law_105 3 rfl rfl)
theorem dL_law_2619 : decode cL_law 2619 = .ok (.ireturn, 1) := dk_172 (dk_at dksL_law_105 4 rfl rfl)
theorem dL_law_2620 : decode cL_law 2620 = .ok (.goto 82, 3) := dk_167 0 82 (dk_at dksL_law_105 5 rfl rfl)
theorem dL_law_2623 : decode cL_law 2623 = .ok (.aload_n 1, 1) := dk_43 (dk_at dksL_law_105 8 rfl rfl)
theorem dL_law_2624 : decode cL_law 2624 = .ok (.aload_n 3, 1) := dk_45 (dk_at dksL_law_105 9 rfl rfl)
theorem dL_law_2625 : decode cL_law 2625 = .ok (.invokestatic 286, 3) := dk_184 1 30 (dk_at dksL_law_105 10 rfl rfl)
theorem dL_law_2628 : decode cL_law 2628 = .ok (.istore 6, 2) := dk_54 6 (dk_at dksL_law_105 13 rfl rfl)
theorem dL_law_2630 : decode cL_law 2630 = .ok (.aload_n 2, 1) := dk_44 (dk_at dksL_law_105 15 rfl rfl)
theorem dL_law_2631 : decode cL_law 2631 = .ok (.invokevirtual 288, 3) := dk_182 1 32 (dk_at dksL_law_105 16 rfl rfl)
theorem dL_law_2634 : decode cL_law 2634 = .ok (.istore 7, 2) := dk_54 7 (dk_at dksL_law_105 19 rfl rfl)
theorem dL_law_2636 : decode cL_law 2636 = .ok (.aload_n 2, 1) := dk_44 (dk_at dksL_law_105 21 rfl rfl)
theorem dL_law_2637 : decode cL_law 2637 = .ok (.invokevirtual 152, 3) := dk_182 0 152 (dk_at dksL_law_106 0 rfl rfl)
theorem dL_law_2640 : decode cL_law 2640 = .ok (.iload 6, 2) := dk_21 6 (dk_at dksL_law_106 3 rfl rfl)
theorem dL_law_2642 : decode cL_law 2642 = .ok (.if_icmp .eq 5, 3) := dk_159 0 5 (dk_at dksL_law_106 5 rfl rfl)
theorem dL_law_2645 : decode cL_law 2645 = .ok (.iconst 0, 1) := dk_3 (dk_at dksL_law_106 8 rfl rfl)
theorem dL_law_2646 : decode cL_law 2646 = .ok (.ireturn, 1) := dk_172 (dk_at dksL_law_106 9 rfl rfl)
theorem dL_law_2647 : decode cL_law 2647 = .ok (.iload 6, 2) := dk_21 6 (dk_at dksL_law_106 10 rfl rfl)
theorem dL_law_2649 : decode cL_law 2649 = .ok (.ifCond .ne 15, 3) := dk_154 0 15 (dk_at dksL_law_106 12 rfl rfl)
theorem dL_law_2652 : decode cL_law 2652 = .ok (.aload_n 3, 1) := dk_45 (dk_at dksL_law_106 15 rfl rfl)
theorem dL_law_2653 : decode cL_law 2653 = .ok (.iconst 0, 1) := dk_3 (dk_at dksL_law_106 16 rfl rfl)
theorem dL_law_2654 : decode cL_law 2654 = .ok (.laload, 1) := dk_47 (dk_at dksL_law_106 17 rfl rfl)
theorem dL_law_2655 : decode cL_law 2655 = .ok (.iload 7, 2) := dk_21 7 (dk_at dksL_law_106 18 rfl rfl)
theorem dL_law_2657 : decode cL_law 2657 = .ok (.i2l, 1) := dk_133 (dk_at dksL_law_106 20 rfl rfl)
theorem dL_law_2658 : decode cL_law 2658 = .ok (.lcmp, 1) := dk_148 (dk_at dksL_law_106 21 rfl rfl)
theorem dL_law_2659 : decode cL_law 2659 = .ok (.ifCond .eq 5, 3) := dk_153 0 5 (dk_at dksL_law_107 0 rfl rfl)
theorem dL_law_2662 : decode cL_law 2662 = .ok (.iconst 0, 1) := dk_3 (dk_at dksL_law_107 3 rfl rfl)
theorem dL_law_2663 : decode cL_law 2663 = .ok (.ireturn, 1) := dk_172 (dk_at dksL_law_107 4 rfl rfl)
theorem dL_law_2664 : decode cL_law 2664 = .ok (.goto 38, 3) := dk_167 0 38 (dk_at dksL_law_107 5 rfl rfl)
theorem dL_law_2667 : decode cL_law 2667 = .ok (.aload_n 1, 1) := dk_43 (dk_at dksL_law_107 8 rfl rfl)
theorem dL_law_2668 : decode cL_law 2668 = .ok (.invokevirtual 289, 3) := dk_182 1 33 (dk_at dksL_law_107 9 rfl rfl)
theorem dL_law_2671 : decode cL_law 2671 = .ok (.aload_n 2, 1) := dk_44 (dk_at dksL_law_107 12 rfl rfl)
theorem dL_law_2672 : decode cL_law 2672 = .ok (.invokevirtual 292, 3) := dk_182 1 36 (dk_at dksL_law_107 13 rfl rfl)
theorem dL_law_2675 : decode cL_law 2675 = .ok (.goto 27, 3) := dk_167 0 27 (dk_at dksL_law_107 16 rfl rfl)
theorem dL_law_2678 : decode cL_law 2678 = .ok (.aload_n 1, 1) := dk_43 (dk_at dksL_law_107 19 rfl rfl)
theorem dL_law_2679 : decode cL_law 2679 = .ok (.invokestatic 293, 3) := dk_184 1 37 (dk_at dksL_law_107 20 rfl rfl)
theorem dL_law_2682 : decode cL_law 2682 = .ok (.istore 6, 2) := dk_54 6 (dk_at dksL_law_108 0 rfl rfl)
theorem dL_law_2684 : decode cL_law 2684 = .ok (.aload_n 2, 1) := dk_44 (dk_at dksL_law_108 2 rfl rfl)
theorem dL_law_2685 : decode cL_law 2685 = .ok (.invokevirtual 296, 3) := dk_182 1 40 (dk_at dksL_law_108 3 rfl rfl)
theorem dL_law_2688 : decode cL_law 2688 = .ok (.aload_n 2, 1) := dk_44 (dk_at dksL_law_108 6 rfl rfl)
theorem dL_law_2689 : decode cL_law 2689 = .ok (.invokevirtual 152, 3) := dk_182 0 152 (dk_at dksL_law_108 7 rfl rfl)
theorem dL_law_2692 : decode cL_law 2692 = .ok (.iload 6, 2) := dk_21 6 (dk_at dksL_law_108 10 rfl rfl)
theorem dL_law_2694 : decode cL_law 2694 = .ok (.if_icmp .eq 5, 3) := dk_159 0 5 (dk_at dksL_law_108 12 rfl rfl)
theorem dL_law_2697 : decode cL_law 2697 = .ok (.iconst 0, 1) := dk_3 (dk_at dksL_law_108 15 rfl rfl)
theorem dL_law_2698 : decode cL_law 2698 = .ok (.ireturn, 1) := dk_172 (dk_at dksL_law_108 16 rfl rfl)
theorem dL_law_2699 : decode cL_law 2699 = .ok (.goto 3, 3) := dk_167 0 3 (dk_at dksL_law_108 17 rfl rfl)
theorem dL_law_2702 : decode cL_law 2702 = .ok (.iinc 5 5, 3) := dk_132 5 5 (dk_at dksL_law_108 20 rfl rfl)
theorem dL_law_2705 : decode cL_law 2705 = .ok (.goto (-2677), 3) := dk_167 245 139 (dk_at dksL_law_109 0 rfl rfl)
theorem dL_law_2708 : decode cL_law 2708 = .ok (.iconst 1, 1) := dk_4 (dk_at dksL_law_109 3 rfl rfl)
theorem dL_law_2709 : decode cL_law 2709 = .ok (.ireturn, 1) := dk_172 (dk_at dksL_law_109 4 rfl rfl)
