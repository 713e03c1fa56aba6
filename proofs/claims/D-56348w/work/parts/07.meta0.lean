/-! ===== the classes, array types, statics, constants that the rows speak of, by number (by program) ===== -/
def TZX21 : u_T := fun k => match k with
  | 0 => ("BrambleLogic$SyntaxException", "position", "I", true)
  | _ => ("java/lang/Throwable", "backtrace", "Ljava/lang/Object;", false)
def TZX27 : u_T := fun k => match k with
  | 0 => ("BrambleLogic$RefusedException", "reason", "I", true)
  | 1 => ("BrambleLogic$RefusedException", "detail", "I", true)
  | _ => ("java/lang/Throwable", "backtrace", "Ljava/lang/Object;", false)
def zCL : List vw_C := [(RX3, TX3, 2), (RX21, TZX21, 2), (RX27, TZX27, 3), (RJ12, TJ12, 0), (RJ19, TJ19, 0), (RJ20, TJ20, 0), (RJ21, TJ21, 0), (RJ25, TJ25, 0), (RJ27, TJ27, 0), (RJ14, TJ14, 1), (RJ2, TJ2, 3), (RJ22, TJ22, 4), (RJ23, TJ23, 1), (RJ3, TJ3, 3), (RJ5, TJ5, 4), (RJ6, TJ6, 4), (RX1, TX1, 8), (RX11, TX11, 2), (RX12, TX12, 2), (RX13, TX13, 1), (RX14, TX14, 2), (RX15, TX15, 5), (RX16, TX16, 3), (RX17, TX17, 4), (RX18, TX18, 5), (RX19, TX19, 1), (RX2, TX2, 4), (RX20, TX20, 3), (RX22, TX22, 5), (RX23, TX23, 2), (RX24, TX24, 3), (RX25, TX25, 5), (RX4, TX4, 1), (RX5, TX5, 1), (RX6, TX6, 28), (RX7, TX7, 2), (RX8, TX8, 3), (RX9, TX9, 3)]
def zTY : List FieldType := [.int, .byte, .boolean, .long, .double, .object "java/lang/Object", .object "BrambleLogic$Codes", .array .int, .array .boolean, .array .long]
def zStI : List (String × String × String × Int32) := [("java/lang/Integer$IntegerCache", "high", "I", 127), ("java/lang/String", "COMPACT_STRINGS", "Z", 1), ("java/lang/StringUTF16", "$assertionsDisabled", "Z", 1), ("java/lang/StringUTF16", "HI_BYTE_SHIFT", "I", 0), ("java/lang/StringUTF16", "LO_BYTE_SHIFT", "I", 8)]
def zStR : List (String × String × String × Nat) := [("java/lang/Integer", "DigitOnes", "[B", 1), ("java/lang/Integer", "DigitTens", "[B", 2), ("java/lang/Integer$IntegerCache", "cache", "[Ljava/lang/Integer;", 3), ("jdk/internal/util/ArraysSupport", "JLA", "Ljdk/internal/access/JavaLangAccess;", 4), ("java/util/ArrayList", "DEFAULTCAPACITY_EMPTY_ELEMENTDATA", "[Ljava/lang/Object;", 5), ("java/util/ArrayList", "EMPTY_ELEMENTDATA", "[Ljava/lang/Object;", 6), ("java/util/Optional", "EMPTY", "Ljava/util/Optional;", 7)]
def zStQ : List (String × String × String × Nat) := [("jdk/internal/util/Preconditions", "SIOOBE_FORMATTER", "Ljava/util/function/BiFunction;", 8)]
def zStr : List (String × Nat × String × Nat) := [("jdk/internal/util/ArraysSupport", 92, "unrecognized basic type: ", 16), ("java/lang/StringLatin1", 151, "", 17), ("java/util/Optional", 28, "No value present", 18), ("java/lang/ArrayIndexOutOfBoundsException", 13, "Array index out of range: ", 19), ("java/lang/StringIndexOutOfBoundsException", 13, "String index out of range: ", 20), ("java/util/ArrayDeque", 35, "Sorry, deque too big", 21), ("java/lang/StringUTF16", 295, "", 22), ("java/util/Arrays", 337, " > ", 23), ("java/util/Arrays", 48, "fromIndex(", 24), ("java/util/Arrays", 57, ") > toIndex(", 25), ("java/util/Arrays", 59, ")", 26), ("BrambleLogic", 87, "", 27), ("BrambleLogic$Step", 24, " by ", 28), ("BrambleLogic$Step", 51, ": ", 29), ("BrambleLogic$Step", 53, ",", 30), ("BrambleLogic$Logic", 312, "", 31), ("BrambleLogic$Logic", 314, " ", 32), ("BrambleLogic$Logic", 296, " given", 33), ("BrambleLogic$Parser", 144, "act ", 34), ("BrambleLogic$Parser", 146, "fact", 35), ("BrambleLogic$Parser", 68, "(", 36), ("BrambleLogic$Parser", 81, ",", 37), ("BrambleLogic$Parser", 83, ")", 38), ("BrambleLogic$Parser", 152, "ake ", 39), ("BrambleLogic$Parser", 154, "take", 40), ("BrambleLogic$Parser", 156, "ule ", 41), ("BrambleLogic$Parser", 112, ":", 42), ("BrambleLogic$Parser", 130, "rule", 43), ("BrambleLogic$Parser", 162, "rop ", 44), ("BrambleLogic$Parser", 164, "drop", 45), ("BrambleLogic$Command", 30, "fact", 46), ("BrambleLogic$Command", 36, "take", 47), ("BrambleLogic$Command", 38, "rule", 48), ("BrambleLogicModel", 293, "act ", 49), ("BrambleLogicModel", 299, "ake ", 50), ("BrambleLogicModel", 301, "ule ", 51), ("BrambleLogicModel", 306, "rop ", 52), ("BrambleLogicModel", 367, " given", 53), ("BrambleLogicModel", 369, " by ", 54), ("BrambleLogicModel", 356, ": ", 55), ("BrambleLogicModel", 358, ",", 56)]
def zMir : List (String × Nat) := [("java/util/ArrayList", 9), ("[Ljava/lang/Object;", 10), ("java/util/ArrayDeque", 11)]
theorem in_ZX21 : ∀ w ∈ u_ws RX21 TZX21 2, w ∈ lw_all := by
  intro w h
  rw [show u_ws RX21 TZX21 2 = [u_lay RX21 TZX21 0, u_lay RX21 TZX21 1] from rfl] at h
  rcases List.mem_cons.mp h with e | h
  · rw [e]; exact q2280
  rw [List.mem_singleton.mp h]
  exact q2273
def tyZX21 : Nat → FieldType := fun k => match k with
  | 0 => .int
  | _ => .object "java/lang/Object"
theorem nmZX21 : ∀ a, a < 2 → ∀ b, b < 2 → a ≠ b → (TZX21 a).2.1 ≠ (TZX21 b).2.1 := by decide +kernel
theorem tyZX21_ok : ∀ k, k < 2 → parseFieldDescriptor (TZX21 k).2.2.1 = some (tyZX21 k) := by decide +kernel
theorem in_ZX27 : ∀ w ∈ u_ws RX27 TZX27 3, w ∈ lw_all := by
  intro w h
  rw [show u_ws RX27 TZX27 3 = [u_lay RX27 TZX27 0, u_lay RX27 TZX27 1, u_lay RX27 TZX27 2] from rfl] at h
  rcases List.mem_cons.mp h with e | h
  · rw [e]; exact q2637
  rcases List.mem_cons.mp h with e | h
  · rw [e]; exact q2639
  rw [List.mem_singleton.mp h]
  exact q2628
def tyZX27 : Nat → FieldType := fun k => match k with
  | 0 => .int
  | 1 => .int
  | _ => .object "java/lang/Object"
theorem nmZX27 : ∀ a, a < 3 → ∀ b, b < 3 → a ≠ b → (TZX27 a).2.1 ≠ (TZX27 b).2.1 := by decide +kernel
theorem tyZX27_ok : ∀ k, k < 3 → parseFieldDescriptor (TZX27 k).2.2.1 = some (tyZX27 k) := by decide +kernel
def zTg : Nat → String := fun k => match k with
  | 0 => "java/lang/IllegalArgumentException"
  | 1 => "java/lang/Object"
  | 2 => "java/lang/UnsupportedOperationException"
  | 3 => "java/util/List"
  | 4 => "java/util/Collection"
  | 5 => "java/lang/IllegalStateException"
  | 6 => "java/util/NoSuchElementException"
  | 7 => "java/util/Iterator"
  | 8 => "java/lang/IndexOutOfBoundsException"
  | 9 => "java/lang/ArithmeticException"
  | 10 => "java/util/Deque"
  | 11 => "BrambleLogic$SyntaxException"
  | 12 => "BrambleLogic$Literal"
  | 13 => "BrambleLogic$RefusedException"
  | _ => ""
def zCastT : List (Nat × Nat) := [(3, 0), (3, 1), (9, 1), (4, 2), (4, 1), (10, 3), (10, 4), (10, 1), (5, 5), (5, 1), (6, 6), (6, 1), (11, 7), (11, 1), (12, 1), (7, 8), (7, 1), (8, 9), (8, 1), (13, 4), (13, 10), (13, 1), (14, 1), (15, 1), (16, 1), (17, 1), (18, 1), (19, 1), (20, 1), (21, 1), (22, 1), (23, 1), (24, 1), (25, 1), (26, 1), (27, 1), (1, 11), (1, 1), (28, 1), (29, 12), (29, 1), (30, 12), (30, 1), (31, 1), (2, 13), (2, 1), (0, 1), (32, 1), (33, 1), (34, 1), (35, 1), (36, 1), (37, 1)]
theorem zCastT_ok : ∀ q ∈ zCastT, ∃ C, zCL[q.1]? = some C ∧ Cond.castable C.1 (zTg q.2) ∈ lw_tbl := by
  intro q h
  simp only [zCastT, List.mem_cons, List.not_mem_nil, or_false] at h
  rcases h with h | h | h | h | h | h | h | h | h | h | h | h | h | h | h | h | h | h | h | h | h | h | h | h | h | h | h | h | h | h | h | h | h | h | h | h | h | h | h | h | h | h | h | h | h | h | h | h | h | h | h | h | h
  · rw [h]; exact ⟨_, rfl, q1404⟩
  · rw [h]; exact ⟨_, rfl, q3373⟩
  · rw [h]; exact ⟨_, rfl, q3392⟩
  · rw [h]; exact ⟨_, rfl, q1539⟩
  · rw [h]; exact ⟨_, rfl, q3375⟩
  · rw [h]; exact ⟨_, rfl, q384⟩
  · rw [h]; exact ⟨_, rfl, q1501⟩
  · rw [h]; exact ⟨_, rfl, q3367⟩
  · rw [h]; exact ⟨_, rfl, q1557⟩
  · rw [h]; exact ⟨_, rfl, q3376⟩
  · rw [h]; exact ⟨_, rfl, q435⟩
  · rw [h]; exact ⟨_, rfl, q3377⟩
  · rw [h]; exact ⟨_, rfl, q414⟩
  · rw [h]; exact ⟨_, rfl, q3379⟩
  · rw [h]; exact ⟨_, rfl, q3380⟩
  · rw [h]; exact ⟨_, rfl, q1707⟩
  · rw [h]; exact ⟨_, rfl, q3383⟩
  · rw [h]; exact ⟨_, rfl, q2115⟩
  · rw [h]; exact ⟨_, rfl, q3394⟩
  · rw [h]; exact ⟨_, rfl, q1486⟩
  · rw [h]; exact ⟨_, rfl, q1583⟩
  · rw [h]; exact ⟨_, rfl, q3370⟩
  · rw [h]; exact ⟨_, rfl, q3371⟩
  · rw [h]; exact ⟨_, rfl, q3374⟩
  · rw [h]; exact ⟨_, rfl, q3365⟩
  · rw [h]; exact ⟨_, rfl, q3384⟩
  · rw [h]; exact ⟨_, rfl, q3385⟩
  · rw [h]; exact ⟨_, rfl, q3386⟩
  · rw [h]; exact ⟨_, rfl, q3387⟩
  · rw [h]; exact ⟨_, rfl, q3388⟩
  · rw [h]; exact ⟨_, rfl, q3389⟩
  · rw [h]; exact ⟨_, rfl, q3390⟩
  · rw [h]; exact ⟨_, rfl, q3391⟩
  · rw [h]; exact ⟨_, rfl, q3393⟩
  · rw [h]; exact ⟨_, rfl, q3366⟩
  · rw [h]; exact ⟨_, rfl, q3395⟩
  · rw [h]; exact ⟨_, rfl, q2267⟩
  · rw [h]; exact ⟨_, rfl, q3397⟩
  · rw [h]; exact ⟨_, rfl, q3398⟩
  · rw [h]; exact ⟨_, rfl, q514⟩
  · rw [h]; exact ⟨_, rfl, q3400⟩
  · rw [h]; exact ⟨_, rfl, q536⟩
  · rw [h]; exact ⟨_, rfl, q3401⟩
  · rw [h]; exact ⟨_, rfl, q3402⟩
  · rw [h]; exact ⟨_, rfl, q2622⟩
  · rw [h]; exact ⟨_, rfl, q3404⟩
  · rw [h]; exact ⟨_, rfl, q3368⟩
  · rw [h]; exact ⟨_, rfl, q3369⟩
  · rw [h]; exact ⟨_, rfl, q3364⟩
  · rw [h]; exact ⟨_, rfl, q3372⟩
  · rw [h]; exact ⟨_, rfl, q3378⟩
  · rw [h]; exact ⟨_, rfl, q3381⟩
  · rw [h]; exact ⟨_, rfl, q3399⟩
/-- exceptions that are not of a class, by number -/
def zNcT : List (Nat × Nat) := [(1, 13), (1, 0), (1, 2), (1, 5), (1, 6), (1, 8), (1, 9), (2, 11), (2, 0), (2, 2), (2, 5), (2, 6), (2, 8), (2, 9), (3, 11), (3, 13), (3, 2), (3, 5), (3, 6), (3, 8), (3, 9), (4, 11), (4, 13), (4, 0), (4, 5), (4, 6), (4, 8), (4, 9), (5, 11), (5, 13), (5, 0), (5, 2), (5, 6), (5, 8), (5, 9), (6, 11), (6, 13), (6, 0), (6, 2), (6, 5), (6, 8), (6, 9), (7, 11), (7, 13), (7, 0), (7, 2), (7, 5), (7, 6), (7, 9), (8, 11), (8, 13), (8, 0), (8, 2), (8, 5), (8, 6), (8, 8)]
