/-! SecondHelpings -/
set_option maxRecDepth 100000
def RX1 : String := "SecondHelpings"
def TX1 : u_T := fun k => match k with
  | 0 => ("SecondHelpings", "tape", "[B", true)
  | 1 => ("SecondHelpings", "length", "I", false)
  | 2 => ("SecondHelpings", "size", "I", false)
  | 3 => ("SecondHelpings", "broken", "LSecondHelpings$Fault;", true)
  | 4 => ("SecondHelpings", "lines", "[Ljava/lang/String;", true)
  | 5 => ("SecondHelpings", "words", "[Ljava/lang/String;", true)
  | 6 => ("SecondHelpings", "laws", "[Ljava/lang/String;", true)
  | 7 => ("SecondHelpings", "board", "LSecondHelpings$Board;", false)
  | 8 => ("SecondHelpings", "now", "LSecondHelpings$State;", true)
  | 9 => ("SecondHelpings", "tried", "LSecondHelpings$State;", true)
  | 10 => ("SecondHelpings", "boardReader", "LSecondHelpings$BoardReader;", true)
  | 11 => ("SecondHelpings", "bookReader", "LSecondHelpings$BookReader;", true)
  | 12 => ("SecondHelpings", "fault", "I", false)
  | 13 => ("SecondHelpings", "ahead", "[LSecondHelpings$State;", true)
  | 14 => ("SecondHelpings", "undoMany", "I", false)
  | 15 => ("SecondHelpings", "orders", "[LSecondHelpings$State;", true)
  | 16 => ("SecondHelpings", "rising", "[I", true)
  | 17 => ("SecondHelpings", "orderRow", "[I", true)
  | 18 => ("SecondHelpings", "orderBest", "I", false)
  | 19 => ("SecondHelpings", "orderMany", "I", false)
  | 20 => ("SecondHelpings", "surelySet", "I", false)
  | 21 => ("SecondHelpings", "askPerson", "I", false)
  | 22 => ("SecondHelpings", "hasEaters", "Z", false)
  | 23 => ("SecondHelpings", "shares", "[I", true)
  | 24 => ("SecondHelpings", "rests", "[I", true)
  | 25 => ("SecondHelpings", "sitting", "[I", true)
  | 26 => ("SecondHelpings", "seatRow", "[I", true)
  | 27 => ("SecondHelpings", "seatBest", "I", false)
  | 28 => ("SecondHelpings", "seatMany", "I", false)
  | 29 => ("SecondHelpings", "text", "[B", true)
  | 30 => ("SecondHelpings", "textMany", "I", false)
  | 31 => ("SecondHelpings", "toldRow", "[I", true)
  | 32 => ("SecondHelpings", "hasTold", "Z", false)
  | 33 => ("SecondHelpings", "sentenceReader", "LSecondHelpings$SentenceReader;", true)
  | 34 => ("SecondHelpings", "sentence", "LSecondHelpings$Cond;", false)
  | _ => ("SecondHelpings", "images", "[LSecondHelpings$Kept;", true)
def tyX1 : Nat → FieldType := fun k => match k with
  | 0 => .array .byte
  | 1 => .int
  | 2 => .int
  | 3 => .object "SecondHelpings$Fault"
  | 4 => .array (.object "java/lang/String")
  | 5 => .array (.object "java/lang/String")
  | 6 => .array (.object "java/lang/String")
  | 7 => .object "SecondHelpings$Board"
  | 8 => .object "SecondHelpings$State"
  | 9 => .object "SecondHelpings$State"
  | 10 => .object "SecondHelpings$BoardReader"
  | 11 => .object "SecondHelpings$BookReader"
  | 12 => .int
  | 13 => .array (.object "SecondHelpings$State")
  | 14 => .int
  | 15 => .array (.object "SecondHelpings$State")
  | 16 => .array .int
  | 17 => .array .int
  | 18 => .int
  | 19 => .int
  | 20 => .int
  | 21 => .int
  | 22 => .boolean
  | 23 => .array .int
  | 24 => .array .int
  | 25 => .array .int
  | 26 => .array .int
  | 27 => .int
  | 28 => .int
  | 29 => .array .byte
  | 30 => .int
  | 31 => .array .int
  | 32 => .boolean
  | 33 => .object "SecondHelpings$SentenceReader"
  | 34 => .object "SecondHelpings$Cond"
  | _ => .array (.object "SecondHelpings$Kept")
abbrev wsX10 : List Cond := u_ws RX1 TX1 36
set_option maxRecDepth 100000 in
theorem nmX1 : ∀ a, a < 36 → ∀ b, b < 36 → a ≠ b → (TX1 a).2.1 ≠ (TX1 b).2.1 := by decide +kernel
set_option maxRecDepth 100000 in
theorem tyX1_ok : ∀ k, k < 36 → parseFieldDescriptor (TX1 k).2.2.1 = some (tyX1 k) := by decide +kernel
abbrev cX1_init : ByteArray := prog_1_method_1_code
def yX1_init : MethodName := ⟨RX1, "<init>", "()V"⟩
def dkwX1_init_16 : List UInt8 := [181, 0, 161, 42, 187, 0, 164, 89, 42, 183, 0, 166, 181, 0, 167, 42, 5, 189, 0, 171, 181, 0, 173, 177]
abbrev dktX1_init_16 : List UInt8 := dkwX1_init_16 ++ []
def dkwX1_init_15 : List UInt8 := [188, 10, 181, 0, 152, 42, 2, 181, 0, 155, 42, 16, 48, 188, 8, 181, 0, 158, 42, 7, 188, 10]
abbrev dktX1_init_15 : List UInt8 := dkwX1_init_15 ++ dktX1_init_16
def dkwX1_init_14 : List UInt8 := [188, 10, 181, 0, 143, 42, 16, 7, 188, 10, 181, 0, 146, 42, 16, 7, 188, 10, 181, 0, 149, 42, 16, 7]
abbrev dktX1_init_14 : List UInt8 := dkwX1_init_14 ++ dktX1_init_15
def dkwX1_init_13 : List UInt8 := [42, 16, 7, 188, 10, 181, 0, 132, 42, 16, 7, 188, 10, 181, 0, 136, 42, 2, 181, 0, 139, 42, 16, 7]
abbrev dktX1_init_13 : List UInt8 := dkwX1_init_13 ++ dktX1_init_14
def dkwX1_init_12 : List UInt8 := [180, 0, 91, 182, 0, 121, 42, 16, 8, 189, 0, 95, 181, 0, 125, 42, 16, 8, 189, 0, 95, 181, 0, 129]
abbrev dktX1_init_12 : List UInt8 := dkwX1_init_12 ++ dktX1_init_13
def dkwX1_init_11 : List UInt8 := [183, 0, 107, 181, 0, 110, 42, 187, 0, 114, 89, 42, 183, 0, 116, 181, 0, 117, 42, 180, 0, 98, 42]
abbrev dktX1_init_11 : List UInt8 := dkwX1_init_11 ++ dktX1_init_12
def dkwX1_init_10 : List UInt8 := [183, 0, 97, 181, 0, 98, 42, 187, 0, 95, 89, 183, 0, 97, 181, 0, 102, 42, 187, 0, 105, 89, 42]
abbrev dktX1_init_10 : List UInt8 := dkwX1_init_10 ++ dktX1_init_11
def dkwX1_init_9 : List UInt8 := [18, 44, 83, 181, 0, 85, 42, 187, 0, 88, 89, 183, 0, 90, 181, 0, 91, 42, 187, 0, 95, 89]
abbrev dktX1_init_9 : List UInt8 := dkwX1_init_9 ++ dktX1_init_10
def dkwX1_init_8 : List UInt8 := [18, 80, 83, 181, 0, 82, 42, 6, 189, 0, 20, 89, 3, 18, 40, 83, 89, 4, 18, 42, 83, 89, 5]
abbrev dktX1_init_8 : List UInt8 := dkwX1_init_8 ++ dktX1_init_9
def dkwX1_init_7 : List UInt8 := [18, 72, 83, 89, 16, 19, 18, 74, 83, 89, 16, 20, 18, 76, 83, 89, 16, 21, 18, 78, 83, 89, 16, 22]
abbrev dktX1_init_7 : List UInt8 := dkwX1_init_7 ++ dktX1_init_8
def dkwX1_init_6 : List UInt8 := [18, 64, 83, 89, 16, 15, 18, 66, 83, 89, 16, 16, 18, 68, 83, 89, 16, 17, 18, 70, 83, 89, 16, 18]
abbrev dktX1_init_6 : List UInt8 := dkwX1_init_6 ++ dktX1_init_7
def dkwX1_init_5 : List UInt8 := [18, 56, 83, 89, 16, 11, 18, 58, 83, 89, 16, 12, 18, 60, 83, 89, 16, 13, 18, 62, 83, 89, 16, 14]
abbrev dktX1_init_5 : List UInt8 := dkwX1_init_5 ++ dktX1_init_6
def dkwX1_init_4 : List UInt8 := [18, 48, 83, 89, 16, 7, 18, 50, 83, 89, 16, 8, 18, 52, 83, 89, 16, 9, 18, 54, 83, 89, 16, 10]
abbrev dktX1_init_4 : List UInt8 := dkwX1_init_4 ++ dktX1_init_5
def dkwX1_init_3 : List UInt8 := [83, 89, 5, 18, 40, 83, 89, 6, 18, 42, 83, 89, 7, 18, 44, 83, 89, 8, 18, 46, 83, 89, 16, 6]
abbrev dktX1_init_3 : List UInt8 := dkwX1_init_3 ++ dktX1_init_4
def dkwX1_init_2 : List UInt8 := [83, 89, 7, 18, 30, 83, 181, 0, 32, 42, 16, 23, 189, 0, 20, 89, 3, 18, 36, 83, 89, 4, 18, 38]
abbrev dktX1_init_2 : List UInt8 := dkwX1_init_2 ++ dktX1_init_3
def dkwX1_init_1 : List UInt8 := [42, 8, 189, 0, 20, 89, 3, 18, 22, 83, 89, 4, 18, 24, 83, 89, 5, 18, 26, 83, 89, 6, 18, 28]
abbrev dktX1_init_1 : List UInt8 := dkwX1_init_1 ++ dktX1_init_2
def dkwX1_init_0 : List UInt8 := [42, 183, 0, 1, 42, 17, 3, 172, 188, 8, 181, 0, 9, 42, 187, 0, 13, 89, 183, 0, 15, 181, 0, 16]
abbrev dktX1_init_0 : List UInt8 := dkwX1_init_0 ++ dktX1_init_1
theorem dksX1_init_0 : cX1_init.data.toList.drop 0 = dktX1_init_0 := by decide +kernel
theorem dksX1_init_1 : cX1_init.data.toList.drop 24 = dktX1_init_1 := dk_seg dksX1_init_0 24 rfl rfl
theorem dksX1_init_2 : cX1_init.data.toList.drop 48 = dktX1_init_2 := dk_seg dksX1_init_1 24 rfl rfl
theorem dksX1_init_3 : cX1_init.data.toList.drop 72 = dktX1_init_3 := dk_seg dksX1_init_2 24 rfl rfl
theorem dksX1_init_4 : cX1_init.data.toList.drop 96 = dktX1_init_4 := dk_seg dksX1_init_3 24 rfl rfl
theorem dksX1_init_5 : cX1_init.data.toList.drop 120 = dktX1_init_5 := dk_seg dksX1_init_4 24 rfl rfl
theorem dksX1_init_6 : cX1_init.data.toList.drop 144 = dktX1_init_6 := dk_seg dksX1_init_5 24 rfl rfl
theorem dksX1_init_7 : cX1_init.data.toList.drop 168 = dktX1_init_7 := dk_seg dksX1_init_6 24 rfl rfl
theorem dksX1_init_8 : cX1_init.data.toList.drop 192 = dktX1_init_8 := dk_seg dksX1_init_7 24 rfl rfl
theorem dksX1_init_9 : cX1_init.data.toList.drop 215 = dktX1_init_9 := dk_seg dksX1_init_8 23 rfl rfl
theorem dksX1_init_10 : cX1_init.data.toList.drop 237 = dktX1_init_10 := dk_seg dksX1_init_9 22 rfl rfl
theorem dksX1_init_11 : cX1_init.data.toList.drop 260 = dktX1_init_11 := dk_seg dksX1_init_10 23 rfl rfl
theorem dksX1_init_12 : cX1_init.data.toList.drop 283 = dktX1_init_12 := dk_seg dksX1_init_11 23 rfl rfl
theorem dksX1_init_13 : cX1_init.data.toList.drop 307 = dktX1_init_13 := dk_seg dksX1_init_12 24 rfl rfl
theorem dksX1_init_14 : cX1_init.data.toList.drop 331 = dktX1_init_14 := dk_seg dksX1_init_13 24 rfl rfl
theorem dksX1_init_15 : cX1_init.data.toList.drop 355 = dktX1_init_15 := dk_seg dksX1_init_14 24 rfl rfl
theorem dksX1_init_16 : cX1_init.data.toList.drop 377 = dktX1_init_16 := dk_seg dksX1_init_15 22 rfl rfl
theorem dX1_init_0 : decode cX1_init 0 = .ok (.aload_n 0, 1) := dk_42 (dk_at dksX1_init_0 0 rfl rfl)
theorem dX1_init_1 : decode cX1_init 1 = .ok (.invokespecial 1, 3) := dk_183 0 1 (dk_at dksX1_init_0 1 rfl rfl)
theorem dX1_init_4 : decode cX1_init 4 = .ok (.aload_n 0, 1) := dk_42 (dk_at dksX1_init_0 4 rfl rfl)
theorem dX1_init_5 : decode cX1_init 5 = .ok (.sipush 940, 3) := dk_17 3 172 (dk_at dksX1_init_0 5 rfl rfl)
theorem dX1_init_8 : decode cX1_init 8 = .ok (.newarray .byte, 2) := dk_188_8 (dk_at dksX1_init_0 8 rfl rfl)
theorem dX1_init_10 : decode cX1_init 10 = .ok (.putfield 9, 3) := dk_181 0 9 (dk_at dksX1_init_0 10 rfl rfl)
theorem dX1_init_13 : decode cX1_init 13 = .ok (.aload_n 0, 1) := dk_42 (dk_at dksX1_init_0 13 rfl rfl)
theorem dX1_init_14 : decode cX1_init 14 = .ok (.new 13, 3) := dk_187 0 13 (dk_at dksX1_init_0 14 rfl rfl)
theorem dX1_init_17 : decode cX1_init 17 = .ok (.dup, 1) := dk_89 (dk_at dksX1_init_0 17 rfl rfl)
theorem dX1_init_18 : decode cX1_init 18 = .ok (.invokespecial 15, 3) := dk_183 0 15 (dk_at dksX1_init_0 18 rfl rfl)
theorem dX1_init_21 : decode cX1_init 21 = .ok (.putfield 16, 3) := dk_181 0 16 (dk_at dksX1_init_0 21 rfl rfl)
theorem dX1_init_24 : decode cX1_init 24 = .ok (.aload_n 0, 1) := dk_42 (dk_at dksX1_init_1 0 rfl rfl)
theorem dX1_init_25 : decode cX1_init 25 = .ok (.iconst 5, 1) := dk_8 (dk_at dksX1_init_1 1 rfl rfl)
theorem dX1_init_26 : decode cX1_init 26 = .ok (.anewarray 20, 3) := dk_189 0 20 (dk_at dksX1_init_1 2 rfl rfl)
theorem dX1_init_29 : decode cX1_init 29 = .ok (.dup, 1) := dk_89 (dk_at dksX1_init_1 5 rfl rfl)
theorem dX1_init_30 : decode cX1_init 30 = .ok (.iconst 0, 1) := dk_3 (dk_at dksX1_init_1 6 rfl rfl)
theorem dX1_init_31 : decode cX1_init 31 = .ok (.ldc 22, 2) := dk_18 22 (dk_at dksX1_init_1 7 rfl rfl)
theorem dX1_init_33 : decode cX1_init 33 = .ok (.aastore, 1) := dk_83 (dk_at dksX1_init_1 9 rfl rfl)
theorem dX1_init_34 : decode cX1_init 34 = .ok (.dup, 1) := dk_89 (dk_at dksX1_init_1 10 rfl rfl)
theorem dX1_init_35 : decode cX1_init 35 = .ok (.iconst 1, 1) := dk_4 (dk_at dksX1_init_1 11 rfl rfl)
theorem dX1_init_36 : decode cX1_init 36 = .ok (.ldc 24, 2) := dk_18 24 (dk_at dksX1_init_1 12 rfl rfl)
theorem dX1_init_38 : decode cX1_init 38 = .ok (.aastore, 1) := dk_83 (dk_at dksX1_init_1 14 rfl rfl)
theorem dX1_init_39 : decode cX1_init 39 = .ok (.dup, 1) := dk_89 (dk_at dksX1_init_1 15 rfl rfl)
theorem dX1_init_40 : decode cX1_init 40 = .ok (.iconst 2, 1) := dk_5 (dk_at dksX1_init_1 16 rfl rfl)
theorem dX1_init_41 : decode cX1_init 41 = .ok (.ldc 26, 2) := dk_18 26 (dk_at dksX1_init_1 17 rfl rfl)
theorem dX1_init_43 : decode cX1_init 43 = .ok (.aastore, 1) := dk_83 (dk_at dksX1_init_1 19 rfl rfl)
theorem dX1_init_44 : decode cX1_init 44 = .ok (.dup, 1) := dk_89 (dk_at dksX1_init_1 20 rfl rfl)
theorem dX1_init_45 : decode cX1_init 45 = .ok (.iconst 3, 1) := dk_6 (dk_at dksX1_init_1 21 rfl rfl)
theorem dX1_init_46 : decode cX1_init 46 = .ok (.ldc 28, 2) := dk_18 28 (dk_at dksX1_init_1 22 rfl rfl)
theorem dX1_init_48 : decode cX1_init 48 = .ok (.aastore, 1) := dk_83 (dk_at dksX1_init_2 0 rfl rfl)
theorem dX1_init_49 : decode cX1_init 49 = .ok (.dup, 1) := dk_89 (dk_at dksX1_init_2 1 rfl rfl)
theorem dX1_init_50 : decode cX1_init 50 = .ok (.iconst 4, 1) := dk_7 (dk_at dksX1_init_2 2 rfl rfl)
theorem dX1_init_51 : decode cX1_init 51 = .ok (.ldc 30, 2) := dk_18 30 (dk_at dksX1_init_2 3 rfl rfl)
theorem dX1_init_53 : decode cX1_init 53 = .ok (.aastore, 1) := dk_83 (dk_at dksX1_init_2 5 rfl rfl)
theorem dX1_init_54 : decode cX1_init 54 = .ok (.putfield 32, 3) := dk_181 0 32 (dk_at dksX1_init_2 6 rfl rfl)
theorem dX1_init_57 : decode cX1_init 57 = .ok (.aload_n 0, 1) := dk_42 (dk_at dksX1_init_2 9 rfl rfl)
theorem dX1_init_58 : decode cX1_init 58 = .ok (.bipush 23, 2) := dk_16 23 (dk_at dksX1_init_2 10 rfl rfl)
theorem dX1_init_60 : decode cX1_init 60 = .ok (.anewarray 20, 3) := dk_189 0 20 (dk_at dksX1_init_2 12 rfl rfl)
theorem dX1_init_63 : decode cX1_init 63 = .ok (.dup, 1) := dk_89 (dk_at dksX1_init_2 15 rfl rfl)
theorem dX1_init_64 : decode cX1_init 64 = .ok (.iconst 0, 1) := dk_3 (dk_at dksX1_init_2 16 rfl rfl)
theorem dX1_init_65 : decode cX1_init 65 = .ok (.ldc 36, 2) := dk_18 36 (dk_at dksX1_init_2 17 rfl rfl)
theorem dX1_init_67 : decode cX1_init 67 = .ok (.aastore, 1) := dk_83 (dk_at dksX1_init_2 19 rfl rfl)
theorem dX1_init_68 : decode cX1_init 68 = .ok (.dup, 1) := dk_89 (dk_at dksX1_init_2 20 rfl rfl)
theorem dX1_init_69 : decode cX1_init 69 = .ok (.iconst 1, 1) := dk_4 (dk_at dksX1_init_2 21 rfl rfl)
theorem dX1_init_70 : decode cX1_init 70 = .ok (.ldc 38, 2) := dk_18 38 (dk_at dksX1_init_2 22 rfl rfl)
theorem dX1_init_72 : decode cX1_init 72 = .ok (.aastore, 1) := dk_83 (dk_at dksX1_init_3 0 rfl rfl)
theorem dX1_init_73 : decode cX1_init 73 = .ok (.dup, 1) := dk_89 (dk_at dksX1_init_3 1 rfl rfl)
theorem dX1_init_74 : decode cX1_init 74 = .ok (.iconst 2, 1) := dk_5 (dk_at dksX1_init_3 2 rfl rfl)
theorem dX1_init_75 : decode cX1_init 75 = .ok (.ldc 40, 2) := dk_18 40 (dk_at dksX1_init_3 3 rfl rfl)
theorem dX1_init_77 : decode cX1_init 77 = .ok (.aastore, 1) := dk_83 (dk_at dksX1_init_3 5 rfl rfl)
theorem dX1_init_78 : decode cX1_init 78 = .ok (.dup, 1) := dk_89 (dk_at dksX1_init_3 6 rfl rfl)
theorem dX1_init_79 : decode cX1_init 79 = .ok (.iconst 3, 1) := dk_6 (dk_at dksX1_init_3 7 rfl rfl)
theorem dX1_init_80 : decode cX1_init 80 = .ok (.ldc 42, 2) := dk_18 42 (dk_at dksX1_init_3 8 rfl rfl)
theorem dX1_init_82 : decode cX1_init 82 = .ok (.aastore, 1) := dk_83 (dk_at dksX1_init_3 10 rfl rfl)
theorem dX1_init_83 : decode cX1_init 83 = .ok (.dup, 1) := dk_89 (dk_at dksX1_init_3 11 rfl rfl)
theorem dX1_init_84 : decode cX1_init 84 = .ok (.iconst 4, 1) := dk_7 (dk_at dksX1_init_3 12 rfl rfl)
theorem dX1_init_85 : decode cX1_init 85 = .ok (.ldc 44, 2) := dk_18 44 (dk_at dksX1_init_3 13 rfl rfl)
theorem dX1_init_87 : decode cX1_init 87 = .ok (.aastore, 1) := dk_83 (dk_at dksX1_init_3 15 rfl rfl)
theorem dX1_init_88 : decode cX1_init 88 = .ok (.dup, 1) := dk_89 (dk_at dksX1_init_3 16 rfl rfl)
theorem dX1_init_89 : decode cX1_init 89 = .ok (.iconst 5, 1) := dk_8 (dk_at dksX1_init_3 17 rfl rfl)
theorem dX1_init_90 : decode cX1_init 90 = .ok (.ldc 46, 2) := dk_18 46 (dk_at dksX1_init_3 18 rfl rfl)
theorem dX1_init_92 : decode cX1_init 92 = .ok (.aastore, 1) := dk_83 (dk_at dksX1_init_3 20 rfl rfl)
theorem dX1_init_93 : decode cX1_init 93 = .ok (.dup, 1) := dk_89 (dk_at dksX1_init_3 21 rfl rfl)
theorem dX1_init_94 : decode cX1_init 94 = .ok (.bipush 6, 2) := dk_16 6 (dk_at dksX1_init_3 22 rfl rfl)
theorem dX1_init_96 : decode cX1_init 96 = .ok (.ldc 48, 2) := dk_18 48 (dk_at dksX1_init_4 0 rfl rfl)
theorem dX1_init_98 : decode cX1_init 98 = .ok (.aastore, 1) := dk_83 (dk_at dksX1_init_4 2 rfl rfl)
theorem dX1_init_99 : decode cX1_init 99 = .ok (.dup, 1) := dk_89 (dk_at dksX1_init_4 3 rfl rfl)
theorem dX1_init_100 : decode cX1_init 100 = .ok (.bipush 7, 2) := dk_16 7 (dk_at dksX1_init_4 4 rfl rfl)
theorem dX1_init_102 : decode cX1_init 102 = .ok (.ldc 50, 2) := dk_18 50 (dk_at dksX1_init_4 6 rfl rfl)
theorem dX1_init_104 : decode cX1_init 104 = .ok (.aastore, 1) := dk_83 (dk_at dksX1_init_4 8 rfl rfl)
theorem dX1_init_105 : decode cX1_init 105 = .ok (.dup, 1) := dk_89 (dk_at dksX1_init_4 9 rfl rfl)
theorem dX1_init_106 : decode cX1_init 106 = .ok (.bipush 8, 2) := dk_16 8 (dk_at dksX1_init_4 10 rfl rfl)
theorem dX1_init_108 : decode cX1_init 108 = .ok (.ldc 52, 2) := dk_18 52 (dk_at dksX1_init_4 12 rfl rfl)
theorem dX1_init_110 : decode cX1_init 110 = .ok (.aastore, 1) := dk_83 (dk_at dksX1_init_4 14 rfl rfl)
theorem dX1_init_111 : decode cX1_init 111 = .ok (.dup, 1) := dk_89 (dk_at dksX1_init_4 15 rfl rfl)
theorem dX1_init_112 : decode cX1_init 112 = .ok (.bipush 9, 2) := dk_16 9 (dk_at dksX1_init_4 16 rfl rfl)
theorem dX1_init_114 : decode cX1_init 114 = .ok (.ldc 54, 2) := dk_18 54 (dk_at dksX1_init_4 18 rfl rfl)
theorem dX1_init_116 : decode cX1_init 116 = .ok (.aastore, 1) := dk_83 (dk_at dksX1_init_4 20 rfl rfl)
theorem dX1_init_117 : decode cX1_init 117 = .ok (.dup, 1) := dk_89 (dk_at dksX1_init_4 21 rfl rfl)
theorem dX1_init_118 : decode cX1_init 118 = .ok (.bipush 10, 2) := dk_16 10 (dk_at dksX1_init_4 22 rfl rfl)
theorem dX1_init_120 : decode cX1_init 120 = .ok (.ldc 56, 2) := dk_18 56 (dk_at dksX1_init_5 0 rfl rfl)
theorem dX1_init_122 : decode cX1_init 122 = .ok (.aastore, 1) := dk_83 (dk_at dksX1_init_5 2 rfl rfl)
theorem dX1_init_123 : decode cX1_init 123 = .ok (.dup, 1) := dk_89 (dk_at dksX1_init_5 3 rfl rfl)
theorem dX1_init_124 : decode cX1_init 124 = .ok (.bipush 11, 2) := dk_16 11 (dk_at dksX1_init_5 4 rfl rfl)
theorem dX1_init_126 : decode cX1_init 126 = .ok (.ldc 58, 2) := dk_18 58 (dk_at dksX1_init_5 6 rfl rfl)
theorem dX1_init_128 : decode cX1_init 128 = .ok (.aastore, 1) := dk_83 (dk_at dksX1_init_5 8 rfl rfl)
theorem dX1_init_129 : decode cX1_init 129 = .ok (.dup, 1) := dk_89 (dk_at dksX1_init_5 9 rfl rfl)
theorem dX1_init_130 : decode cX1_init 130 = .ok (.bipush 12, 2) := dk_16 12 (dk_at dksX1_init_5 10 rfl rfl)
theorem dX1_init_132 : decode cX1_init 132 = .ok (.ldc 60, 2) := dk_18 60 (dk_at dksX1_init_5 12 rfl rfl)
theorem dX1_init_134 : decode cX1_init 134 = .ok (.aastore, 1) := dk_83 (dk_at dksX1_init_5 14 rfl rfl)
theorem dX1_init_135 : decode cX1_init 135 = .ok (.dup, 1) := dk_89 (dk_at dksX1_init_5 15 rfl rfl)
theorem dX1_init_136 : decode cX1_init 136 = .ok (.bipush 13, 2) := dk_16 13 (dk_at dksX1_init_5 16 rfl rfl)
theorem dX1_init_138 : decode cX1_init 138 = .ok (.ldc 62, 2) := dk_18 62 (dk_at dksX1_init_5 18 rfl rfl)
theorem dX1_init_140 : decode cX1_init 140 = .ok (.aastore, 1) := dk_83 (dk_at dksX1_init_5 20 rfl rfl)
theorem dX1_init_141 : decode cX1_init 141 = .ok (.dup, 1) := dk_89 (dk_at dksX1_init_5 21 rfl rfl)
theorem dX1_init_142 : decode cX1_init 142 = .ok (.bipush 14, 2) := dk_16 14 (dk_at dksX1_init_5 22 rfl rfl)
theorem dX1_init_144 : decode cX1_init 144 = .ok (.ldc 64, 2) := dk_18 64 (dk_at dksX1_init_6 0 rfl rfl)
theorem dX1_init_146 : decode cX1_init 146 = .ok (.aastore, 1) := dk_83 (dk_at dksX1_init_6 2 rfl rfl)
theorem dX1_init_147 : decode cX1_init 147 = .ok (.dup, 1) := dk_89 (dk_at dksX1_init_6 3 rfl rfl)
theorem dX1_init_148 : decode cX1_init 148 = .ok (.bipush 15, 2) := dk_16 15 (dk_at dksX1_init_6 4 rfl rfl)
theorem dX1_init_150 : decode cX1_init 150 = .ok (.ldc 66, 2) := dk_18 66 (dk_at dksX1_init_6 6 rfl rfl)
theorem dX1_init_152 : decode cX1_init 152 = .ok (.aastore, 1) := dk_83 (dk_at dksX1_init_6 8 rfl rfl)
theorem dX1_init_153 : decode cX1_init 153 = .ok (.dup, 1) := dk_89 (dk_at dksX1_init_6 9 rfl rfl)
theorem dX1_init_154 : decode cX1_init 154 = .ok (.bipush 16, 2) := dk_16 16 (dk_at dksX1_init_6 10 rfl rfl)
theorem dX1_init_156 : decode cX1_init 156 = .ok (.ldc 68, 2) := dk_18 68 (dk_at dksX1_init_6 12 rfl rfl)
theorem dX1_init_158 : decode cX1_init 158 = .ok (.aastore, 1) := dk_83 (dk_at dksX1_init_6 14 rfl rfl)
theorem dX1_init_159 : decode cX1_init 159 = .ok (.dup, 1) := dk_89 (dk_at dksX1_init_6 15 rfl rfl)
theorem dX1_init_160 : decode cX1_init 160 = .ok (.bipush 17, 2) := dk_16 17 (dk_at dksX1_init_6 16 rfl rfl)
theorem dX1_init_162 : decode cX1_init 162 = .ok (.ldc 70, 2) := dk_18 70 (dk_at dksX1_init_6 18 rfl rfl)
theorem dX1_init_164 : decode cX1_init 164 = .ok (.aastore, 1) := dk_83 (dk_at dksX1_init_6 20 rfl rfl)
theorem dX1_init_165 : decode cX1_init 165 = .ok (.dup, 1) := dk_89 (dk_at dksX1_init_6 21 rfl rfl)
theorem dX1_init_166 : decode cX1_init 166 = .ok (.bipush 18, 2) := dk_16 18 (dk_at dksX1_init_6 22 rfl rfl)
theorem dX1_init_168 : decode cX1_init 168 = .ok (.ldc 72, 2) := dk_18 72 (dk_at dksX1_init_7 0 rfl rfl)
theorem dX1_init_170 : decode cX1_init 170 = .ok (.aastore, 1) := dk_83 (dk_at dksX1_init_7 2 rfl rfl)
theorem dX1_init_171 : decode cX1_init 171 = .ok (.dup, 1) := dk_89 (dk_at dksX1_init_7 3 rfl rfl)
theorem dX1_init_172 : decode cX1_init 172 = .ok (.bipush 19, 2) := dk_16 19 (dk_at dksX1_init_7 4 rfl rfl)
theorem dX1_init_174 : decode cX1_init 174 = .ok (.ldc 74, 2) := dk_18 74 (dk_at dksX1_init_7 6 rfl rfl)
theorem dX1_init_176 : decode cX1_init 176 = .ok (.aastore, 1) := dk_83 (dk_at dksX1_init_7 8 rfl rfl)
theorem dX1_init_177 : decode cX1_init 177 = .ok (.dup, 1) := dk_89 (dk_at dksX1_init_7 9 rfl rfl)
theorem dX1_init_178 : decode cX1_init 178 = .ok (.bipush 20, 2) := dk_16 20 (dk_at dksX1_init_7 10 rfl rfl)
theorem dX1_init_180 : decode cX1_init 180 = .ok (.ldc 76, 2) := dk_18 76 (dk_at dksX1_init_7 12 rfl rfl)
theorem dX1_init_182 : decode cX1_init 182 = .ok (.aastore, 1) := dk_83 (dk_at dksX1_init_7 14 rfl rfl)
theorem dX1_init_183 : decode cX1_init 183 = .ok (.dup, 1) := dk_89 (dk_at dksX1_init_7 15 rfl rfl)
theorem dX1_init_184 : decode cX1_init 184 = .ok (.bipush 21, 2) := dk_16 21 (dk_at dksX1_init_7 16 rfl rfl)
theorem dX1_init_186 : decode cX1_init 186 = .ok (.ldc 78, 2) := dk_18 78 (dk_at dksX1_init_7 18 rfl rfl)
theorem dX1_init_188 : decode cX1_init 188 = .ok (.aastore, 1) := dk_83 (dk_at dksX1_init_7 20 rfl rfl)
theorem dX1_init_189 : decode cX1_init 189 = .ok (.dup, 1) := dk_89 (dk_at dksX1_init_7 21 rfl rfl)
theorem dX1_init_190 : decode cX1_init 190 = .ok (.bipush 22, 2) := dk_16 22 (dk_at dksX1_init_7 22 rfl rfl)
theorem dX1_init_192 : decode cX1_init 192 = .ok (.ldc 80, 2) := dk_18 80 (dk_at dksX1_init_8 0 rfl rfl)
theorem dX1_init_194 : decode cX1_init 194 = .ok (.aastore, 1) := dk_83 (dk_at dksX1_init_8 2 rfl rfl)
theorem dX1_init_195 : decode cX1_init 195 = .ok (.putfield 82, 3) := dk_181 0 82 (dk_at dksX1_init_8 3 rfl rfl)
theorem dX1_init_198 : decode cX1_init 198 = .ok (.aload_n 0, 1) := dk_42 (dk_at dksX1_init_8 6 rfl rfl)
theorem dX1_init_199 : decode cX1_init 199 = .ok (.iconst 3, 1) := dk_6 (dk_at dksX1_init_8 7 rfl rfl)
theorem dX1_init_200 : decode cX1_init 200 = .ok (.anewarray 20, 3) := dk_189 0 20 (dk_at dksX1_init_8 8 rfl rfl)
theorem dX1_init_203 : decode cX1_init 203 = .ok (.dup, 1) := dk_89 (dk_at dksX1_init_8 11 rfl rfl)
theorem dX1_init_204 : decode cX1_init 204 = .ok (.iconst 0, 1) := dk_3 (dk_at dksX1_init_8 12 rfl rfl)
theorem dX1_init_205 : decode cX1_init 205 = .ok (.ldc 40, 2) := dk_18 40 (dk_at dksX1_init_8 13 rfl rfl)
theorem dX1_init_207 : decode cX1_init 207 = .ok (.aastore, 1) := dk_83 (dk_at dksX1_init_8 15 rfl rfl)
theorem dX1_init_208 : decode cX1_init 208 = .ok (.dup, 1) := dk_89 (dk_at dksX1_init_8 16 rfl rfl)
theorem dX1_init_209 : decode cX1_init 209 = .ok (.iconst 1, 1) := dk_4 (dk_at dksX1_init_8 17 rfl rfl)
theorem dX1_init_210 : decode cX1_init 210 = .ok (.ldc 42, 2) := dk_18 42 (dk_at dksX1_init_8 18 rfl rfl)
theorem dX1_init_212 : decode cX1_init 212 = .ok (.aastore, 1) := dk_83 (dk_at dksX1_init_8 20 rfl rfl)
theorem dX1_init_213 : decode cX1_init 213 = .ok (.dup, 1) := dk_89 (dk_at dksX1_init_8 21 rfl rfl)
theorem dX1_init_214 : decode cX1_init 214 = .ok (.iconst 2, 1) := dk_5 (dk_at dksX1_init_8 22 rfl rfl)
theorem dX1_init_215 : decode cX1_init 215 = .ok (.ldc 44, 2) := dk_18 44 (dk_at dksX1_init_9 0 rfl rfl)
theorem dX1_init_217 : decode cX1_init 217 = .ok (.aastore, 1) := dk_83 (dk_at dksX1_init_9 2 rfl rfl)
theorem dX1_init_218 : decode cX1_init 218 = .ok (.putfield 85, 3) := dk_181 0 85 (dk_at dksX1_init_9 3 rfl rfl)
theorem dX1_init_221 : decode cX1_init 221 = .ok (.aload_n 0, 1) := dk_42 (dk_at dksX1_init_9 6 rfl rfl)
theorem dX1_init_222 : decode cX1_init 222 = .ok (.new 88, 3) := dk_187 0 88 (dk_at dksX1_init_9 7 rfl rfl)
theorem dX1_init_225 : decode cX1_init 225 = .ok (.dup, 1) := dk_89 (dk_at dksX1_init_9 10 rfl rfl)
theorem dX1_init_226 : decode cX1_init 226 = .ok (.invokespecial 90, 3) := dk_183 0 90 (dk_at dksX1_init_9 11 rfl rfl)
theorem dX1_init_229 : decode cX1_init 229 = .ok (.putfield 91, 3) := dk_181 0 91 (dk_at dksX1_init_9 14 rfl rfl)
theorem dX1_init_232 : decode cX1_init 232 = .ok (.aload_n 0, 1) := dk_42 (dk_at dksX1_init_9 17 rfl rfl)
theorem dX1_init_233 : decode cX1_init 233 = .ok (.new 95, 3) := dk_187 0 95 (dk_at dksX1_init_9 18 rfl rfl)
theorem dX1_init_236 : decode cX1_init 236 = .ok (.dup, 1) := dk_89 (dk_at dksX1_init_9 21 rfl rfl)
theorem dX1_init_237 : decode cX1_init 237 = .ok (.invokespecial 97, 3) := dk_183 0 97 (dk_at dksX1_init_10 0 rfl rfl)
theorem dX1_init_240 : decode cX1_init 240 = .ok (.putfield 98, 3) := dk_181 0 98 (dk_at dksX1_init_10 3 rfl rfl)
theorem dX1_init_243 : decode cX1_init 243 = .ok (.aload_n 0, 1) := dk_42 (dk_at dksX1_init_10 6 rfl rfl)
theorem dX1_init_244 : decode cX1_init 244 = .ok (.new 95, 3) := dk_187 0 95 (dk_at dksX1_init_10 7 rfl rfl)
theorem dX1_init_247 : decode cX1_init 247 = .ok (.dup, 1) := dk_89 (dk_at dksX1_init_10 10 rfl rfl)
theorem dX1_init_248 : decode cX1_init 248 = .ok (.invokespecial 97, 3) := dk_183 0 97 (dk_at dksX1_init_10 11 rfl rfl)
theorem dX1_init_251 : decode cX1_init 251 = .ok (.putfield 102, 3) := dk_181 0 102 (dk_at dksX1_init_10 14 rfl rfl)
theorem dX1_init_254 : decode cX1_init 254 = .ok (.aload_n 0, 1) := dk_42 (dk_at dksX1_init_10 17 rfl rfl)
theorem dX1_init_255 : decode cX1_init 255 = .ok (.new 105, 3) := dk_187 0 105 (dk_at dksX1_init_10 18 rfl rfl)
theorem dX1_init_258 : decode cX1_init 258 = .ok (.dup, 1) := dk_89 (dk_at dksX1_init_10 21 rfl rfl)
theorem dX1_init_259 : decode cX1_init 259 = .ok (.aload_n 0, 1) := dk_42 (dk_at dksX1_init_10 22 rfl rfl)
theorem dX1_init_260 : decode cX1_init 260 = .ok (.invokespecial 107, 3) := dk_183 0 107 (dk_at dksX1_init_11 0 rfl rfl)
theorem dX1_init_263 : decode cX1_init 263 = .ok (.putfield 110, 3) := dk_181 0 110 (dk_at dksX1_init_11 3 rfl rfl)
theorem dX1_init_266 : decode cX1_init 266 = .ok (.aload_n 0, 1) := dk_42 (dk_at dksX1_init_11 6 rfl rfl)
theorem dX1_init_267 : decode cX1_init 267 = .ok (.new 114, 3) := dk_187 0 114 (dk_at dksX1_init_11 7 rfl rfl)
theorem dX1_init_270 : decode cX1_init 270 = .ok (.dup, 1) := dk_89 (dk_at dksX1_init_11 10 rfl rfl)
theorem dX1_init_271 : decode cX1_init 271 = .ok (.aload_n 0, 1) := dk_42 (dk_at dksX1_init_11 11 rfl rfl)
theorem dX1_init_272 : decode cX1_init 272 = .ok (.invokespecial 116, 3) := dk_183 0 116 (dk_at dksX1_init_11 12 rfl rfl)
theorem dX1_init_275 : decode cX1_init 275 = .ok (.putfield 117, 3) := dk_181 0 117 (dk_at dksX1_init_11 15 rfl rfl)
theorem dX1_init_278 : decode cX1_init 278 = .ok (.aload_n 0, 1) := dk_42 (dk_at dksX1_init_11 18 rfl rfl)
theorem dX1_init_279 : decode cX1_init 279 = .ok (.getfield 98, 3) := dk_180 0 98 (dk_at dksX1_init_11 19 rfl rfl)
theorem dX1_init_282 : decode cX1_init 282 = .ok (.aload_n 0, 1) := dk_42 (dk_at dksX1_init_11 22 rfl rfl)
theorem dX1_init_283 : decode cX1_init 283 = .ok (.getfield 91, 3) := dk_180 0 91 (dk_at dksX1_init_12 0 rfl rfl)
theorem dX1_init_286 : decode cX1_init 286 = .ok (.invokevirtual 121, 3) := dk_182 0 121 (dk_at dksX1_init_12 3 rfl rfl)
theorem dX1_init_289 : decode cX1_init 289 = .ok (.aload_n 0, 1) := dk_42 (dk_at dksX1_init_12 6 rfl rfl)
theorem dX1_init_290 : decode cX1_init 290 = .ok (.bipush 8, 2) := dk_16 8 (dk_at dksX1_init_12 7 rfl rfl)
theorem dX1_init_292 : decode cX1_init 292 = .ok (.anewarray 95, 3) := dk_189 0 95 (dk_at dksX1_init_12 9 rfl rfl)
theorem dX1_init_295 : decode cX1_init 295 = .ok (.putfield 125, 3) := dk_181 0 125 (dk_at dksX1_init_12 12 rfl rfl)
theorem dX1_init_298 : decode cX1_init 298 = .ok (.aload_n 0, 1) := dk_42 (dk_at dksX1_init_12 15 rfl rfl)
theorem dX1_init_299 : decode cX1_init 299 = .ok (.bipush 8, 2) := dk_16 8 (dk_at dksX1_init_12 16 rfl rfl)
theorem dX1_init_301 : decode cX1_init 301 = .ok (.anewarray 95, 3) := dk_189 0 95 (dk_at dksX1_init_12 18 rfl rfl)
theorem dX1_init_304 : decode cX1_init 304 = .ok (.putfield 129, 3) := dk_181 0 129 (dk_at dksX1_init_12 21 rfl rfl)
theorem dX1_init_307 : decode cX1_init 307 = .ok (.aload_n 0, 1) := dk_42 (dk_at dksX1_init_13 0 rfl rfl)
theorem dX1_init_308 : decode cX1_init 308 = .ok (.bipush 7, 2) := dk_16 7 (dk_at dksX1_init_13 1 rfl rfl)
theorem dX1_init_310 : decode cX1_init 310 = .ok (.newarray .int, 2) := dk_188_10 (dk_at dksX1_init_13 3 rfl rfl)
theorem dX1_init_312 : decode cX1_init 312 = .ok (.putfield 132, 3) := dk_181 0 132 (dk_at dksX1_init_13 5 rfl rfl)
theorem dX1_init_315 : decode cX1_init 315 = .ok (.aload_n 0, 1) := dk_42 (dk_at dksX1_init_13 8 rfl rfl)
theorem dX1_init_316 : decode cX1_init 316 = .ok (.bipush 7, 2) := dk_16 7 (dk_at dksX1_init_13 9 rfl rfl)
theorem dX1_init_318 : decode cX1_init 318 = .ok (.newarray .int, 2) := dk_188_10 (dk_at dksX1_init_13 11 rfl rfl)
theorem dX1_init_320 : decode cX1_init 320 = .ok (.putfield 136, 3) := dk_181 0 136 (dk_at dksX1_init_13 13 rfl rfl)
theorem dX1_init_323 : decode cX1_init 323 = .ok (.aload_n 0, 1) := dk_42 (dk_at dksX1_init_13 16 rfl rfl)
theorem dX1_init_324 : decode cX1_init 324 = .ok (.iconst (-1), 1) := dk_2 (dk_at dksX1_init_13 17 rfl rfl)
theorem dX1_init_325 : decode cX1_init 325 = .ok (.putfield 139, 3) := dk_181 0 139 (dk_at dksX1_init_13 18 rfl rfl)
theorem dX1_init_328 : decode cX1_init 328 = .ok (.aload_n 0, 1) := dk_42 (dk_at dksX1_init_13 21 rfl rfl)
theorem dX1_init_329 : decode cX1_init 329 = .ok (.bipush 7, 2) := dk_16 7 (dk_at dksX1_init_13 22 rfl rfl)
theorem dX1_init_331 : decode cX1_init 331 = .ok (.newarray .int, 2) := dk_188_10 (dk_at dksX1_init_14 0 rfl rfl)
theorem dX1_init_333 : decode cX1_init 333 = .ok (.putfield 143, 3) := dk_181 0 143 (dk_at dksX1_init_14 2 rfl rfl)
theorem dX1_init_336 : decode cX1_init 336 = .ok (.aload_n 0, 1) := dk_42 (dk_at dksX1_init_14 5 rfl rfl)
theorem dX1_init_337 : decode cX1_init 337 = .ok (.bipush 7, 2) := dk_16 7 (dk_at dksX1_init_14 6 rfl rfl)
theorem dX1_init_339 : decode cX1_init 339 = .ok (.newarray .int, 2) := dk_188_10 (dk_at dksX1_init_14 8 rfl rfl)
theorem dX1_init_341 : decode cX1_init 341 = .ok (.putfield 146, 3) := dk_181 0 146 (dk_at dksX1_init_14 10 rfl rfl)
theorem dX1_init_344 : decode cX1_init 344 = .ok (.aload_n 0, 1) := dk_42 (dk_at dksX1_init_14 13 rfl rfl)
theorem dX1_init_345 : decode cX1_init 345 = .ok (.bipush 7, 2) := dk_16 7 (dk_at dksX1_init_14 14 rfl rfl)
theorem dX1_init_347 : decode cX1_init 347 = .ok (.newarray .int, 2) := dk_188_10 (dk_at dksX1_init_14 16 rfl rfl)
theorem dX1_init_349 : decode cX1_init 349 = .ok (.putfield 149, 3) := dk_181 0 149 (dk_at dksX1_init_14 18 rfl rfl)
theorem dX1_init_352 : decode cX1_init 352 = .ok (.aload_n 0, 1) := dk_42 (dk_at dksX1_init_14 21 rfl rfl)
theorem dX1_init_353 : decode cX1_init 353 = .ok (.bipush 7, 2) := dk_16 7 (dk_at dksX1_init_14 22 rfl rfl)
theorem dX1_init_355 : decode cX1_init 355 = .ok (.newarray .int, 2) := dk_188_10 (dk_at dksX1_init_15 0 rfl rfl)
theorem dX1_init_357 : decode cX1_init 357 = .ok (.putfield 152, 3) := dk_181 0 152 (dk_at dksX1_init_15 2 rfl rfl)
theorem dX1_init_360 : decode cX1_init 360 = .ok (.aload_n 0, 1) := dk_42 (dk_at dksX1_init_15 5 rfl rfl)
theorem dX1_init_361 : decode cX1_init 361 = .ok (.iconst (-1), 1) := dk_2 (dk_at dksX1_init_15 6 rfl rfl)
theorem dX1_init_362 : decode cX1_init 362 = .ok (.putfield 155, 3) := dk_181 0 155 (dk_at dksX1_init_15 7 rfl rfl)
theorem dX1_init_365 : decode cX1_init 365 = .ok (.aload_n 0, 1) := dk_42 (dk_at dksX1_init_15 10 rfl rfl)
theorem dX1_init_366 : decode cX1_init 366 = .ok (.bipush 48, 2) := dk_16 48 (dk_at dksX1_init_15 11 rfl rfl)
theorem dX1_init_368 : decode cX1_init 368 = .ok (.newarray .byte, 2) := dk_188_8 (dk_at dksX1_init_15 13 rfl rfl)
theorem dX1_init_370 : decode cX1_init 370 = .ok (.putfield 158, 3) := dk_181 0 158 (dk_at dksX1_init_15 15 rfl rfl)
theorem dX1_init_373 : decode cX1_init 373 = .ok (.aload_n 0, 1) := dk_42 (dk_at dksX1_init_15 18 rfl rfl)
theorem dX1_init_374 : decode cX1_init 374 = .ok (.iconst 4, 1) := dk_7 (dk_at dksX1_init_15 19 rfl rfl)
theorem dX1_init_375 : decode cX1_init 375 = .ok (.newarray .int, 2) := dk_188_10 (dk_at dksX1_init_15 20 rfl rfl)
theorem dX1_init_377 : decode cX1_init 377 = .ok (.putfield 161, 3) := dk_181 0 161 (dk_at dksX1_init_16 0 rfl rfl)
theorem dX1_init_380 : decode cX1_init 380 = .ok (.aload_n 0, 1) := dk_42 (dk_at dksX1_init_16 3 rfl rfl)
theorem dX1_init_381 : decode cX1_init 381 = .ok (.new 164, 3) := dk_187 0 164 (dk_at dksX1_init_16 4 rfl rfl)
theorem dX1_init_384 : decode cX1_init 384 = .ok (.dup, 1) := dk_89 (dk_at dksX1_init_16 7 rfl rfl)
theorem dX1_init_385 : decode cX1_init 385 = .ok (.aload_n 0, 1) := dk_42 (dk_at dksX1_init_16 8 rfl rfl)
theorem dX1_init_386 : decode cX1_init 386 = .ok (.invokespecial 166, 3) := dk_183 0 166 (dk_at dksX1_init_16 9 rfl rfl)
theorem dX1_init_389 : decode cX1_init 389 = .ok (.putfield 167, 3) := dk_181 0 167 (dk_at dksX1_init_16 12 rfl rfl)
theorem dX1_init_392 : decode cX1_init 392 = .ok (.aload_n 0, 1) := dk_42 (dk_at dksX1_init_16 15 rfl rfl)
theorem dX1_init_393 : decode cX1_init 393 = .ok (.iconst 2, 1) := dk_5 (dk_at dksX1_init_16 16 rfl rfl)
theorem dX1_init_394 : decode cX1_init 394 = .ok (.anewarray 171, 3) := dk_189 0 171 (dk_at dksX1_init_16 17 rfl rfl)
theorem dX1_init_397 : decode cX1_init 397 = .ok (.putfield 173, 3) := dk_181 0 173 (dk_at dksX1_init_16 20 rfl rfl)
theorem dX1_init_400 : decode cX1_init 400 = .ok (.return_, 1) := dk_177 (dk_at dksX1_init_16 23 rfl rfl)
abbrev cX1_feed : ByteArray := prog_1_method_2_code
def yX1_feed : MethodName := ⟨RX1, "feed", "(IIIII)I"⟩
def dkwX1_feed_2 : List UInt8 := [172]
abbrev dktX1_feed_2 : List UInt8 := dkwX1_feed_2 ++ []
def dkwX1_feed_1 : List UInt8 := [182, 0, 180, 42, 29, 182, 0, 180, 42, 21, 4, 182, 0, 180, 42, 21, 5, 182, 0, 180, 42, 180, 0, 177]
abbrev dktX1_feed_1 : List UInt8 := dkwX1_feed_1 ++ dktX1_feed_2
def dkwX1_feed_0 : List UInt8 := [42, 180, 0, 177, 16, 20, 96, 17, 3, 172, 164, 0, 5, 2, 172, 42, 27, 182, 0, 180, 42, 28]
abbrev dktX1_feed_0 : List UInt8 := dkwX1_feed_0 ++ dktX1_feed_1
theorem dksX1_feed_0 : cX1_feed.data.toList.drop 0 = dktX1_feed_0 := by decide +kernel
theorem dksX1_feed_1 : cX1_feed.data.toList.drop 22 = dktX1_feed_1 := dk_seg dksX1_feed_0 22 rfl rfl
theorem dksX1_feed_2 : cX1_feed.data.toList.drop 46 = dktX1_feed_2 := dk_seg dksX1_feed_1 24 rfl rfl
theorem dX1_feed_0 : decode cX1_feed 0 = .ok (.aload_n 0, 1) := dk_42 (dk_at dksX1_feed_0 0 rfl rfl)
theorem dX1_feed_1 : decode cX1_feed 1 = .ok (.getfield 177, 3) := dk_180 0 177 (dk_at dksX1_feed_0 1 rfl rfl)
theorem dX1_feed_4 : decode cX1_feed 4 = .ok (.bipush 20, 2) := dk_16 20 (dk_at dksX1_feed_0 4 rfl rfl)
theorem dX1_feed_6 : decode cX1_feed 6 = .ok (.iadd, 1) := dk_96 (dk_at dksX1_feed_0 6 rfl rfl)
theorem dX1_feed_7 : decode cX1_feed 7 = .ok (.sipush 940, 3) := dk_17 3 172 (dk_at dksX1_feed_0 7 rfl rfl)
theorem dX1_feed_10 : decode cX1_feed 10 = .ok (.if_icmp .le 5, 3) := dk_164 0 5 (dk_at dksX1_feed_0 10 rfl rfl)
theorem dX1_feed_13 : decode cX1_feed 13 = .ok (.iconst (-1), 1) := dk_2 (dk_at dksX1_feed_0 13 rfl rfl)
theorem dX1_feed_14 : decode cX1_feed 14 = .ok (.ireturn, 1) := dk_172 (dk_at dksX1_feed_0 14 rfl rfl)
theorem dX1_feed_15 : decode cX1_feed 15 = .ok (.aload_n 0, 1) := dk_42 (dk_at dksX1_feed_0 15 rfl rfl)
theorem dX1_feed_16 : decode cX1_feed 16 = .ok (.iload_n 1, 1) := dk_27 (dk_at dksX1_feed_0 16 rfl rfl)
theorem dX1_feed_17 : decode cX1_feed 17 = .ok (.invokevirtual 180, 3) := dk_182 0 180 (dk_at dksX1_feed_0 17 rfl rfl)
theorem dX1_feed_20 : decode cX1_feed 20 = .ok (.aload_n 0, 1) := dk_42 (dk_at dksX1_feed_0 20 rfl rfl)
theorem dX1_feed_21 : decode cX1_feed 21 = .ok (.iload_n 2, 1) := dk_28 (dk_at dksX1_feed_0 21 rfl rfl)
theorem dX1_feed_22 : decode cX1_feed 22 = .ok (.invokevirtual 180, 3) := dk_182 0 180 (dk_at dksX1_feed_1 0 rfl rfl)
theorem dX1_feed_25 : decode cX1_feed 25 = .ok (.aload_n 0, 1) := dk_42 (dk_at dksX1_feed_1 3 rfl rfl)
theorem dX1_feed_26 : decode cX1_feed 26 = .ok (.iload_n 3, 1) := dk_29 (dk_at dksX1_feed_1 4 rfl rfl)
theorem dX1_feed_27 : decode cX1_feed 27 = .ok (.invokevirtual 180, 3) := dk_182 0 180 (dk_at dksX1_feed_1 5 rfl rfl)
theorem dX1_feed_30 : decode cX1_feed 30 = .ok (.aload_n 0, 1) := dk_42 (dk_at dksX1_feed_1 8 rfl rfl)
theorem dX1_feed_31 : decode cX1_feed 31 = .ok (.iload 4, 2) := dk_21 4 (dk_at dksX1_feed_1 9 rfl rfl)
theorem dX1_feed_33 : decode cX1_feed 33 = .ok (.invokevirtual 180, 3) := dk_182 0 180 (dk_at dksX1_feed_1 11 rfl rfl)
theorem dX1_feed_36 : decode cX1_feed 36 = .ok (.aload_n 0, 1) := dk_42 (dk_at dksX1_feed_1 14 rfl rfl)
theorem dX1_feed_37 : decode cX1_feed 37 = .ok (.iload 5, 2) := dk_21 5 (dk_at dksX1_feed_1 15 rfl rfl)
theorem dX1_feed_39 : decode cX1_feed 39 = .ok (.invokevirtual 180, 3) := dk_182 0 180 (dk_at dksX1_feed_1 17 rfl rfl)
theorem dX1_feed_42 : decode cX1_feed 42 = .ok (.aload_n 0, 1) := dk_42 (dk_at dksX1_feed_1 20 rfl rfl)
theorem dX1_feed_43 : decode cX1_feed 43 = .ok (.getfield 177, 3) := dk_180 0 177 (dk_at dksX1_feed_1 21 rfl rfl)
theorem dX1_feed_46 : decode cX1_feed 46 = .ok (.ireturn, 1) := dk_172 (dk_at dksX1_feed_2 0 rfl rfl)
abbrev cX1_four : ByteArray := prog_1_method_3_code
def yX1_four : MethodName := ⟨RX1, "four", "(I)V"⟩
def dkwX1_four_1 : List UInt8 := [180, 0, 177, 4, 96, 181, 0, 177, 132, 2, 248, 167, 255, 226, 177]
abbrev dktX1_four_1 : List UInt8 := dkwX1_four_1 ++ []
def dkwX1_four_0 : List UInt8 := [16, 24, 61, 28, 155, 0, 32, 42, 180, 0, 9, 42, 180, 0, 177, 27, 28, 122, 145, 84, 42, 89]
abbrev dktX1_four_0 : List UInt8 := dkwX1_four_0 ++ dktX1_four_1
theorem dksX1_four_0 : cX1_four.data.toList.drop 0 = dktX1_four_0 := by decide +kernel
theorem dksX1_four_1 : cX1_four.data.toList.drop 22 = dktX1_four_1 := dk_seg dksX1_four_0 22 rfl rfl
theorem dX1_four_0 : decode cX1_four 0 = .ok (.bipush 24, 2) := dk_16 24 (dk_at dksX1_four_0 0 rfl rfl)
theorem dX1_four_2 : decode cX1_four 2 = .ok (.istore_n 2, 1) := dk_61 (dk_at dksX1_four_0 2 rfl rfl)
theorem dX1_four_3 : decode cX1_four 3 = .ok (.iload_n 2, 1) := dk_28 (dk_at dksX1_four_0 3 rfl rfl)
theorem dX1_four_4 : decode cX1_four 4 = .ok (.ifCond .lt 32, 3) := dk_155 0 32 (dk_at dksX1_four_0 4 rfl rfl)
theorem dX1_four_7 : decode cX1_four 7 = .ok (.aload_n 0, 1) := dk_42 (dk_at dksX1_four_0 7 rfl rfl)
theorem dX1_four_8 : decode cX1_four 8 = .ok (.getfield 9, 3) := dk_180 0 9 (dk_at dksX1_four_0 8 rfl rfl)
theorem dX1_four_11 : decode cX1_four 11 = .ok (.aload_n 0, 1) := dk_42 (dk_at dksX1_four_0 11 rfl rfl)
theorem dX1_four_12 : decode cX1_four 12 = .ok (.getfield 177, 3) := dk_180 0 177 (dk_at dksX1_four_0 12 rfl rfl)
theorem dX1_four_15 : decode cX1_four 15 = .ok (.iload_n 1, 1) := dk_27 (dk_at dksX1_four_0 15 rfl rfl)
theorem dX1_four_16 : decode cX1_four 16 = .ok (.iload_n 2, 1) := dk_28 (dk_at dksX1_four_0 16 rfl rfl)
theorem dX1_four_17 : decode cX1_four 17 = .ok (.ishr, 1) := dk_122 (dk_at dksX1_four_0 17 rfl rfl)
theorem dX1_four_18 : decode cX1_four 18 = .ok (.i2b, 1) := dk_145 (dk_at dksX1_four_0 18 rfl rfl)
theorem dX1_four_19 : decode cX1_four 19 = .ok (.bastore, 1) := dk_84 (dk_at dksX1_four_0 19 rfl rfl)
theorem dX1_four_20 : decode cX1_four 20 = .ok (.aload_n 0, 1) := dk_42 (dk_at dksX1_four_0 20 rfl rfl)
theorem dX1_four_21 : decode cX1_four 21 = .ok (.dup, 1) := dk_89 (dk_at dksX1_four_0 21 rfl rfl)
theorem dX1_four_22 : decode cX1_four 22 = .ok (.getfield 177, 3) := dk_180 0 177 (dk_at dksX1_four_1 0 rfl rfl)
theorem dX1_four_25 : decode cX1_four 25 = .ok (.iconst 1, 1) := dk_4 (dk_at dksX1_four_1 3 rfl rfl)
theorem dX1_four_26 : decode cX1_four 26 = .ok (.iadd, 1) := dk_96 (dk_at dksX1_four_1 4 rfl rfl)
theorem dX1_four_27 : decode cX1_four 27 = .ok (.putfield 177, 3) := dk_181 0 177 (dk_at dksX1_four_1 5 rfl rfl)
theorem dX1_four_30 : decode cX1_four 30 = .ok (.iinc 2 (-8), 3) := dk_132 2 248 (dk_at dksX1_four_1 8 rfl rfl)
theorem dX1_four_33 : decode cX1_four 33 = .ok (.goto (-30), 3) := dk_167 255 226 (dk_at dksX1_four_1 11 rfl rfl)
theorem dX1_four_36 : decode cX1_four 36 = .ok (.return_, 1) := dk_177 (dk_at dksX1_four_1 14 rfl rfl)
abbrev cX1_end : ByteArray := prog_1_method_4_code
def yX1_end : MethodName := ⟨RX1, "end", "(I)Z"⟩
def dkwX1_end_0 : List UInt8 := [27, 155, 0, 11, 27, 42, 180, 0, 177, 164, 0, 5, 3, 172, 42, 27, 181, 0, 177, 4, 172]
abbrev dktX1_end_0 : List UInt8 := dkwX1_end_0 ++ []
theorem dksX1_end_0 : cX1_end.data.toList.drop 0 = dktX1_end_0 := by decide +kernel
theorem dX1_end_0 : decode cX1_end 0 = .ok (.iload_n 1, 1) := dk_27 (dk_at dksX1_end_0 0 rfl rfl)
theorem dX1_end_1 : decode cX1_end 1 = .ok (.ifCond .lt 11, 3) := dk_155 0 11 (dk_at dksX1_end_0 1 rfl rfl)
theorem dX1_end_4 : decode cX1_end 4 = .ok (.iload_n 1, 1) := dk_27 (dk_at dksX1_end_0 4 rfl rfl)
theorem dX1_end_5 : decode cX1_end 5 = .ok (.aload_n 0, 1) := dk_42 (dk_at dksX1_end_0 5 rfl rfl)
theorem dX1_end_6 : decode cX1_end 6 = .ok (.getfield 177, 3) := dk_180 0 177 (dk_at dksX1_end_0 6 rfl rfl)
theorem dX1_end_9 : decode cX1_end 9 = .ok (.if_icmp .le 5, 3) := dk_164 0 5 (dk_at dksX1_end_0 9 rfl rfl)
theorem dX1_end_12 : decode cX1_end 12 = .ok (.iconst 0, 1) := dk_3 (dk_at dksX1_end_0 12 rfl rfl)
theorem dX1_end_13 : decode cX1_end 13 = .ok (.ireturn, 1) := dk_172 (dk_at dksX1_end_0 13 rfl rfl)
theorem dX1_end_14 : decode cX1_end 14 = .ok (.aload_n 0, 1) := dk_42 (dk_at dksX1_end_0 14 rfl rfl)
theorem dX1_end_15 : decode cX1_end 15 = .ok (.iload_n 1, 1) := dk_27 (dk_at dksX1_end_0 15 rfl rfl)
theorem dX1_end_16 : decode cX1_end 16 = .ok (.putfield 177, 3) := dk_181 0 177 (dk_at dksX1_end_0 16 rfl rfl)
theorem dX1_end_19 : decode cX1_end 19 = .ok (.iconst 1, 1) := dk_4 (dk_at dksX1_end_0 19 rfl rfl)
theorem dX1_end_20 : decode cX1_end 20 = .ok (.ireturn, 1) := dk_172 (dk_at dksX1_end_0 20 rfl rfl)
abbrev cX1_table : ByteArray := prog_1_method_10_code
def yX1_table : MethodName := ⟨RX1, "table", "()I"⟩
def dkwX1_table_2 : List UInt8 := [181, 0, 203, 28, 172, 77, 42, 44, 180, 0, 207, 181, 0, 193, 2, 44, 180, 0, 210, 100, 172]
abbrev dktX1_table_2 : List UInt8 := dkwX1_table_2 ++ []
def dkwX1_table_1 : List UInt8 := [182, 0, 196, 61, 42, 43, 181, 0, 91, 42, 180, 0, 98, 43, 182, 0, 121, 42, 3, 181, 0, 200, 42, 1]
abbrev dktX1_table_1 : List UInt8 := dkwX1_table_1 ++ dktX1_table_2
def dkwX1_table_0 : List UInt8 := [42, 182, 0, 190, 42, 3, 181, 0, 193, 187, 0, 88, 89, 183, 0, 90, 76, 42, 180, 0, 110, 43]
abbrev dktX1_table_0 : List UInt8 := dkwX1_table_0 ++ dktX1_table_1
theorem dksX1_table_0 : cX1_table.data.toList.drop 0 = dktX1_table_0 := by decide +kernel
theorem dksX1_table_1 : cX1_table.data.toList.drop 22 = dktX1_table_1 := dk_seg dksX1_table_0 22 rfl rfl
theorem dksX1_table_2 : cX1_table.data.toList.drop 46 = dktX1_table_2 := dk_seg dksX1_table_1 24 rfl rfl
theorem dX1_table_0 : decode cX1_table 0 = .ok (.aload_n 0, 1) := dk_42 (dk_at dksX1_table_0 0 rfl rfl)
theorem dX1_table_1 : decode cX1_table 1 = .ok (.invokevirtual 190, 3) := dk_182 0 190 (dk_at dksX1_table_0 1 rfl rfl)
theorem dX1_table_4 : decode cX1_table 4 = .ok (.aload_n 0, 1) := dk_42 (dk_at dksX1_table_0 4 rfl rfl)
theorem dX1_table_5 : decode cX1_table 5 = .ok (.iconst 0, 1) := dk_3 (dk_at dksX1_table_0 5 rfl rfl)
theorem dX1_table_6 : decode cX1_table 6 = .ok (.putfield 193, 3) := dk_181 0 193 (dk_at dksX1_table_0 6 rfl rfl)
theorem dX1_table_9 : decode cX1_table 9 = .ok (.new 88, 3) := dk_187 0 88 (dk_at dksX1_table_0 9 rfl rfl)
theorem dX1_table_12 : decode cX1_table 12 = .ok (.dup, 1) := dk_89 (dk_at dksX1_table_0 12 rfl rfl)
theorem dX1_table_13 : decode cX1_table 13 = .ok (.invokespecial 90, 3) := dk_183 0 90 (dk_at dksX1_table_0 13 rfl rfl)
theorem dX1_table_16 : decode cX1_table 16 = .ok (.astore_n 1, 1) := dk_76 (dk_at dksX1_table_0 16 rfl rfl)
theorem dX1_table_17 : decode cX1_table 17 = .ok (.aload_n 0, 1) := dk_42 (dk_at dksX1_table_0 17 rfl rfl)
theorem dX1_table_18 : decode cX1_table 18 = .ok (.getfield 110, 3) := dk_180 0 110 (dk_at dksX1_table_0 18 rfl rfl)
theorem dX1_table_21 : decode cX1_table 21 = .ok (.aload_n 1, 1) := dk_43 (dk_at dksX1_table_0 21 rfl rfl)
theorem dX1_table_22 : decode cX1_table 22 = .ok (.invokevirtual 196, 3) := dk_182 0 196 (dk_at dksX1_table_1 0 rfl rfl)
theorem dX1_table_25 : decode cX1_table 25 = .ok (.istore_n 2, 1) := dk_61 (dk_at dksX1_table_1 3 rfl rfl)
theorem dX1_table_26 : decode cX1_table 26 = .ok (.aload_n 0, 1) := dk_42 (dk_at dksX1_table_1 4 rfl rfl)
theorem dX1_table_27 : decode cX1_table 27 = .ok (.aload_n 1, 1) := dk_43 (dk_at dksX1_table_1 5 rfl rfl)
theorem dX1_table_28 : decode cX1_table 28 = .ok (.putfield 91, 3) := dk_181 0 91 (dk_at dksX1_table_1 6 rfl rfl)
theorem dX1_table_31 : decode cX1_table 31 = .ok (.aload_n 0, 1) := dk_42 (dk_at dksX1_table_1 9 rfl rfl)
theorem dX1_table_32 : decode cX1_table 32 = .ok (.getfield 98, 3) := dk_180 0 98 (dk_at dksX1_table_1 10 rfl rfl)
theorem dX1_table_35 : decode cX1_table 35 = .ok (.aload_n 1, 1) := dk_43 (dk_at dksX1_table_1 13 rfl rfl)
theorem dX1_table_36 : decode cX1_table 36 = .ok (.invokevirtual 121, 3) := dk_182 0 121 (dk_at dksX1_table_1 14 rfl rfl)
theorem dX1_table_39 : decode cX1_table 39 = .ok (.aload_n 0, 1) := dk_42 (dk_at dksX1_table_1 17 rfl rfl)
theorem dX1_table_40 : decode cX1_table 40 = .ok (.iconst 0, 1) := dk_3 (dk_at dksX1_table_1 18 rfl rfl)
theorem dX1_table_41 : decode cX1_table 41 = .ok (.putfield 200, 3) := dk_181 0 200 (dk_at dksX1_table_1 19 rfl rfl)
theorem dX1_table_44 : decode cX1_table 44 = .ok (.aload_n 0, 1) := dk_42 (dk_at dksX1_table_1 22 rfl rfl)
theorem dX1_table_45 : decode cX1_table 45 = .ok (.aconst_null, 1) := dk_1 (dk_at dksX1_table_1 23 rfl rfl)
theorem dX1_table_46 : decode cX1_table 46 = .ok (.putfield 203, 3) := dk_181 0 203 (dk_at dksX1_table_2 0 rfl rfl)
theorem dX1_table_49 : decode cX1_table 49 = .ok (.iload_n 2, 1) := dk_28 (dk_at dksX1_table_2 3 rfl rfl)
theorem dX1_table_50 : decode cX1_table 50 = .ok (.ireturn, 1) := dk_172 (dk_at dksX1_table_2 4 rfl rfl)
theorem dX1_table_51 : decode cX1_table 51 = .ok (.astore_n 2, 1) := dk_77 (dk_at dksX1_table_2 5 rfl rfl)
theorem dX1_table_52 : decode cX1_table 52 = .ok (.aload_n 0, 1) := dk_42 (dk_at dksX1_table_2 6 rfl rfl)
theorem dX1_table_53 : decode cX1_table 53 = .ok (.aload_n 2, 1) := dk_44 (dk_at dksX1_table_2 7 rfl rfl)
theorem dX1_table_54 : decode cX1_table 54 = .ok (.getfield 207, 3) := dk_180 0 207 (dk_at dksX1_table_2 8 rfl rfl)
theorem dX1_table_57 : decode cX1_table 57 = .ok (.putfield 193, 3) := dk_181 0 193 (dk_at dksX1_table_2 11 rfl rfl)
theorem dX1_table_60 : decode cX1_table 60 = .ok (.iconst (-1), 1) := dk_2 (dk_at dksX1_table_2 14 rfl rfl)
theorem dX1_table_61 : decode cX1_table 61 = .ok (.aload_n 2, 1) := dk_44 (dk_at dksX1_table_2 15 rfl rfl)
theorem dX1_table_62 : decode cX1_table 62 = .ok (.getfield 210, 3) := dk_180 0 210 (dk_at dksX1_table_2 16 rfl rfl)
theorem dX1_table_65 : decode cX1_table 65 = .ok (.isub, 1) := dk_100 (dk_at dksX1_table_2 19 rfl rfl)
theorem dX1_table_66 : decode cX1_table 66 = .ok (.ireturn, 1) := dk_172 (dk_at dksX1_table_2 20 rfl rfl)
abbrev cX1_taken : ByteArray := prog_1_method_5_code
def yX1_taken : MethodName := ⟨RX1, "taken", "()V"⟩
def dkwX1_taken_0 : List UInt8 := [42, 42, 180, 0, 177, 181, 0, 184, 42, 3, 181, 0, 177, 177]
abbrev dktX1_taken_0 : List UInt8 := dkwX1_taken_0 ++ []
theorem dksX1_taken_0 : cX1_taken.data.toList.drop 0 = dktX1_taken_0 := by decide +kernel
theorem dX1_taken_0 : decode cX1_taken 0 = .ok (.aload_n 0, 1) := dk_42 (dk_at dksX1_taken_0 0 rfl rfl)
theorem dX1_taken_1 : decode cX1_taken 1 = .ok (.aload_n 0, 1) := dk_42 (dk_at dksX1_taken_0 1 rfl rfl)
theorem dX1_taken_2 : decode cX1_taken 2 = .ok (.getfield 177, 3) := dk_180 0 177 (dk_at dksX1_taken_0 2 rfl rfl)
theorem dX1_taken_5 : decode cX1_taken 5 = .ok (.putfield 184, 3) := dk_181 0 184 (dk_at dksX1_taken_0 5 rfl rfl)
theorem dX1_taken_8 : decode cX1_taken 8 = .ok (.aload_n 0, 1) := dk_42 (dk_at dksX1_taken_0 8 rfl rfl)
theorem dX1_taken_9 : decode cX1_taken 9 = .ok (.iconst 0, 1) := dk_3 (dk_at dksX1_taken_0 9 rfl rfl)
theorem dX1_taken_10 : decode cX1_taken 10 = .ok (.putfield 177, 3) := dk_181 0 177 (dk_at dksX1_taken_0 10 rfl rfl)
theorem dX1_taken_13 : decode cX1_taken 13 = .ok (.return_, 1) := dk_177 (dk_at dksX1_taken_0 13 rfl rfl)
abbrev cX1_isIn : ByteArray := prog_1_method_7_code
def yX1_isIn : MethodName := ⟨RX1, "isIn", "(III)Z"⟩
def dkwX1_isIn_0 : List UInt8 := [26, 27, 161, 0, 12, 26, 28, 163, 0, 7, 4, 167, 0, 4, 3, 172]
abbrev dktX1_isIn_0 : List UInt8 := dkwX1_isIn_0 ++ []
theorem dksX1_isIn_0 : cX1_isIn.data.toList.drop 0 = dktX1_isIn_0 := by decide +kernel
theorem dX1_isIn_0 : decode cX1_isIn 0 = .ok (.iload_n 0, 1) := dk_26 (dk_at dksX1_isIn_0 0 rfl rfl)
theorem dX1_isIn_1 : decode cX1_isIn 1 = .ok (.iload_n 1, 1) := dk_27 (dk_at dksX1_isIn_0 1 rfl rfl)
theorem dX1_isIn_2 : decode cX1_isIn 2 = .ok (.if_icmp .lt 12, 3) := dk_161 0 12 (dk_at dksX1_isIn_0 2 rfl rfl)
theorem dX1_isIn_5 : decode cX1_isIn 5 = .ok (.iload_n 0, 1) := dk_26 (dk_at dksX1_isIn_0 5 rfl rfl)
theorem dX1_isIn_6 : decode cX1_isIn 6 = .ok (.iload_n 2, 1) := dk_28 (dk_at dksX1_isIn_0 6 rfl rfl)
theorem dX1_isIn_7 : decode cX1_isIn 7 = .ok (.if_icmp .gt 7, 3) := dk_163 0 7 (dk_at dksX1_isIn_0 7 rfl rfl)
theorem dX1_isIn_10 : decode cX1_isIn 10 = .ok (.iconst 1, 1) := dk_4 (dk_at dksX1_isIn_0 10 rfl rfl)
theorem dX1_isIn_11 : decode cX1_isIn 11 = .ok (.goto 4, 3) := dk_167 0 4 (dk_at dksX1_isIn_0 11 rfl rfl)
theorem dX1_isIn_14 : decode cX1_isIn 14 = .ok (.iconst 0, 1) := dk_3 (dk_at dksX1_isIn_0 14 rfl rfl)
theorem dX1_isIn_15 : decode cX1_isIn 15 = .ok (.ireturn, 1) := dk_172 (dk_at dksX1_isIn_0 15 rfl rfl)
abbrev cX1_has : ByteArray := prog_1_method_9_code
def yX1_has : MethodName := ⟨RX1, "has", "(II)Z"⟩
def dkwX1_has_0 : List UInt8 := [26, 27, 122, 4, 126, 4, 160, 0, 7, 4, 167, 0, 4, 3, 172]
abbrev dktX1_has_0 : List UInt8 := dkwX1_has_0 ++ []
theorem dksX1_has_0 : cX1_has.data.toList.drop 0 = dktX1_has_0 := by decide +kernel
theorem dX1_has_0 : decode cX1_has 0 = .ok (.iload_n 0, 1) := dk_26 (dk_at dksX1_has_0 0 rfl rfl)
theorem dX1_has_1 : decode cX1_has 1 = .ok (.iload_n 1, 1) := dk_27 (dk_at dksX1_has_0 1 rfl rfl)
theorem dX1_has_2 : decode cX1_has 2 = .ok (.ishr, 1) := dk_122 (dk_at dksX1_has_0 2 rfl rfl)
theorem dX1_has_3 : decode cX1_has 3 = .ok (.iconst 1, 1) := dk_4 (dk_at dksX1_has_0 3 rfl rfl)
theorem dX1_has_4 : decode cX1_has 4 = .ok (.iand, 1) := dk_126 (dk_at dksX1_has_0 4 rfl rfl)
theorem dX1_has_5 : decode cX1_has 5 = .ok (.iconst 1, 1) := dk_4 (dk_at dksX1_has_0 5 rfl rfl)
theorem dX1_has_6 : decode cX1_has 6 = .ok (.if_icmp .ne 7, 3) := dk_160 0 7 (dk_at dksX1_has_0 6 rfl rfl)
theorem dX1_has_9 : decode cX1_has 9 = .ok (.iconst 1, 1) := dk_4 (dk_at dksX1_has_0 9 rfl rfl)
theorem dX1_has_10 : decode cX1_has 10 = .ok (.goto 4, 3) := dk_167 0 4 (dk_at dksX1_has_0 10 rfl rfl)
theorem dX1_has_13 : decode cX1_has 13 = .ok (.iconst 0, 1) := dk_3 (dk_at dksX1_has_0 13 rfl rfl)
theorem dX1_has_14 : decode cX1_has 14 = .ok (.ireturn, 1) := dk_172 (dk_at dksX1_has_0 14 rfl rfl)
abbrev cX1_fault : ByteArray := prog_1_method_11_code
def yX1_fault : MethodName := ⟨RX1, "fault", "()I"⟩
theorem dX1_fault_0 : decode cX1_fault 0 = .ok (.aload_n 0, 1) := by decide +kernel
theorem dX1_fault_1 : decode cX1_fault 1 = .ok (.getfield 193, 3) := by decide +kernel
theorem dX1_fault_4 : decode cX1_fault 4 = .ok (.ireturn, 1) := by decide +kernel
abbrev cX1_plate : ByteArray := prog_1_method_15_code
def yX1_plate : MethodName := ⟨RX1, "plate", "(II)I"⟩
def dkwX1_plate_1 : List UInt8 := [16, 6, 27, 104, 28, 96, 46, 167, 0, 4, 2, 172]
abbrev dktX1_plate_1 : List UInt8 := dkwX1_plate_1 ++ []
def dkwX1_plate_0 : List UInt8 := [42, 27, 182, 0, 223, 153, 0, 28, 42, 28, 182, 1, 1, 153, 0, 20, 42, 180, 0, 98, 180, 1, 4]
abbrev dktX1_plate_0 : List UInt8 := dkwX1_plate_0 ++ dktX1_plate_1
theorem dksX1_plate_0 : cX1_plate.data.toList.drop 0 = dktX1_plate_0 := by decide +kernel
theorem dksX1_plate_1 : cX1_plate.data.toList.drop 23 = dktX1_plate_1 := dk_seg dksX1_plate_0 23 rfl rfl
theorem dX1_plate_0 : decode cX1_plate 0 = .ok (.aload_n 0, 1) := dk_42 (dk_at dksX1_plate_0 0 rfl rfl)
theorem dX1_plate_1 : decode cX1_plate 1 = .ok (.iload_n 1, 1) := dk_27 (dk_at dksX1_plate_0 1 rfl rfl)
theorem dX1_plate_2 : decode cX1_plate 2 = .ok (.invokevirtual 223, 3) := dk_182 0 223 (dk_at dksX1_plate_0 2 rfl rfl)
theorem dX1_plate_5 : decode cX1_plate 5 = .ok (.ifCond .eq 28, 3) := dk_153 0 28 (dk_at dksX1_plate_0 5 rfl rfl)
theorem dX1_plate_8 : decode cX1_plate 8 = .ok (.aload_n 0, 1) := dk_42 (dk_at dksX1_plate_0 8 rfl rfl)
theorem dX1_plate_9 : decode cX1_plate 9 = .ok (.iload_n 2, 1) := dk_28 (dk_at dksX1_plate_0 9 rfl rfl)
theorem dX1_plate_10 : decode cX1_plate 10 = .ok (.invokevirtual 257, 3) := dk_182 1 1 (dk_at dksX1_plate_0 10 rfl rfl)
theorem dX1_plate_13 : decode cX1_plate 13 = .ok (.ifCond .eq 20, 3) := dk_153 0 20 (dk_at dksX1_plate_0 13 rfl rfl)
theorem dX1_plate_16 : decode cX1_plate 16 = .ok (.aload_n 0, 1) := dk_42 (dk_at dksX1_plate_0 16 rfl rfl)
theorem dX1_plate_17 : decode cX1_plate 17 = .ok (.getfield 98, 3) := dk_180 0 98 (dk_at dksX1_plate_0 17 rfl rfl)
theorem dX1_plate_20 : decode cX1_plate 20 = .ok (.getfield 260, 3) := dk_180 1 4 (dk_at dksX1_plate_0 20 rfl rfl)
theorem dX1_plate_23 : decode cX1_plate 23 = .ok (.bipush 6, 2) := dk_16 6 (dk_at dksX1_plate_1 0 rfl rfl)
theorem dX1_plate_25 : decode cX1_plate 25 = .ok (.iload_n 1, 1) := dk_27 (dk_at dksX1_plate_1 2 rfl rfl)
theorem dX1_plate_26 : decode cX1_plate 26 = .ok (.imul, 1) := dk_104 (dk_at dksX1_plate_1 3 rfl rfl)
theorem dX1_plate_27 : decode cX1_plate 27 = .ok (.iload_n 2, 1) := dk_28 (dk_at dksX1_plate_1 4 rfl rfl)
theorem dX1_plate_28 : decode cX1_plate 28 = .ok (.iadd, 1) := dk_96 (dk_at dksX1_plate_1 5 rfl rfl)
theorem dX1_plate_29 : decode cX1_plate 29 = .ok (.iaload, 1) := dk_46 (dk_at dksX1_plate_1 6 rfl rfl)
theorem dX1_plate_30 : decode cX1_plate 30 = .ok (.goto 4, 3) := dk_167 0 4 (dk_at dksX1_plate_1 7 rfl rfl)
theorem dX1_plate_33 : decode cX1_plate 33 = .ok (.iconst (-1), 1) := dk_2 (dk_at dksX1_plate_1 10 rfl rfl)
theorem dX1_plate_34 : decode cX1_plate 34 = .ok (.ireturn, 1) := dk_172 (dk_at dksX1_plate_1 11 rfl rfl)
abbrev cX1_isPerson : ByteArray := prog_1_method_12_code
def yX1_isPerson : MethodName := ⟨RX1, "isPerson", "(I)Z"⟩
def dkwX1_isPerson_0 : List UInt8 := [27, 3, 42, 180, 0, 91, 180, 0, 213, 4, 100, 184, 0, 216, 172]
abbrev dktX1_isPerson_0 : List UInt8 := dkwX1_isPerson_0 ++ []
theorem dksX1_isPerson_0 : cX1_isPerson.data.toList.drop 0 = dktX1_isPerson_0 := by decide +kernel
theorem dX1_isPerson_0 : decode cX1_isPerson 0 = .ok (.iload_n 1, 1) := dk_27 (dk_at dksX1_isPerson_0 0 rfl rfl)
theorem dX1_isPerson_1 : decode cX1_isPerson 1 = .ok (.iconst 0, 1) := dk_3 (dk_at dksX1_isPerson_0 1 rfl rfl)
theorem dX1_isPerson_2 : decode cX1_isPerson 2 = .ok (.aload_n 0, 1) := dk_42 (dk_at dksX1_isPerson_0 2 rfl rfl)
theorem dX1_isPerson_3 : decode cX1_isPerson 3 = .ok (.getfield 91, 3) := dk_180 0 91 (dk_at dksX1_isPerson_0 3 rfl rfl)
theorem dX1_isPerson_6 : decode cX1_isPerson 6 = .ok (.getfield 213, 3) := dk_180 0 213 (dk_at dksX1_isPerson_0 6 rfl rfl)
theorem dX1_isPerson_9 : decode cX1_isPerson 9 = .ok (.iconst 1, 1) := dk_4 (dk_at dksX1_isPerson_0 9 rfl rfl)
theorem dX1_isPerson_10 : decode cX1_isPerson 10 = .ok (.isub, 1) := dk_100 (dk_at dksX1_isPerson_0 10 rfl rfl)
theorem dX1_isPerson_11 : decode cX1_isPerson 11 = .ok (.invokestatic 216, 3) := dk_184 0 216 (dk_at dksX1_isPerson_0 11 rfl rfl)
theorem dX1_isPerson_14 : decode cX1_isPerson 14 = .ok (.ireturn, 1) := dk_172 (dk_at dksX1_isPerson_0 14 rfl rfl)
abbrev cX1_isDish : ByteArray := prog_1_method_13_code
def yX1_isDish : MethodName := ⟨RX1, "isDish", "(I)Z"⟩
def dkwX1_isDish_0 : List UInt8 := [27, 3, 42, 180, 0, 91, 180, 0, 220, 4, 100, 184, 0, 216, 172]
abbrev dktX1_isDish_0 : List UInt8 := dkwX1_isDish_0 ++ []
theorem dksX1_isDish_0 : cX1_isDish.data.toList.drop 0 = dktX1_isDish_0 := by decide +kernel
theorem dX1_isDish_0 : decode cX1_isDish 0 = .ok (.iload_n 1, 1) := dk_27 (dk_at dksX1_isDish_0 0 rfl rfl)
theorem dX1_isDish_1 : decode cX1_isDish 1 = .ok (.iconst 0, 1) := dk_3 (dk_at dksX1_isDish_0 1 rfl rfl)
theorem dX1_isDish_2 : decode cX1_isDish 2 = .ok (.aload_n 0, 1) := dk_42 (dk_at dksX1_isDish_0 2 rfl rfl)
theorem dX1_isDish_3 : decode cX1_isDish 3 = .ok (.getfield 91, 3) := dk_180 0 91 (dk_at dksX1_isDish_0 3 rfl rfl)
theorem dX1_isDish_6 : decode cX1_isDish 6 = .ok (.getfield 220, 3) := dk_180 0 220 (dk_at dksX1_isDish_0 6 rfl rfl)
theorem dX1_isDish_9 : decode cX1_isDish 9 = .ok (.iconst 1, 1) := dk_4 (dk_at dksX1_isDish_0 9 rfl rfl)
theorem dX1_isDish_10 : decode cX1_isDish 10 = .ok (.isub, 1) := dk_100 (dk_at dksX1_isDish_0 10 rfl rfl)
theorem dX1_isDish_11 : decode cX1_isDish 11 = .ok (.invokestatic 216, 3) := dk_184 0 216 (dk_at dksX1_isDish_0 11 rfl rfl)
theorem dX1_isDish_14 : decode cX1_isDish 14 = .ok (.ireturn, 1) := dk_172 (dk_at dksX1_isDish_0 14 rfl rfl)
abbrev cX1_dish : ByteArray := prog_1_method_16_code
def yX1_dish : MethodName := ⟨RX1, "dish", "(II)I"⟩
def dkwX1_dish_4 : List UInt8 := [21, 4, 104, 27, 96, 46, 96, 62, 132, 4, 1, 167, 255, 223, 29, 172, 2, 172]
abbrev dktX1_dish_4 : List UInt8 := dkwX1_dish_4 ++ []
def dkwX1_dish_3 : List UInt8 := [54, 4, 21, 4, 42, 180, 0, 91, 180, 0, 213, 162, 0, 27, 29, 42, 180, 0, 98, 180, 1, 4, 16, 6]
abbrev dktX1_dish_3 : List UInt8 := dkwX1_dish_3 ++ dktX1_dish_4
def dkwX1_dish_2 : List UInt8 := [42, 180, 0, 98, 180, 1, 6, 27, 46, 172, 42, 180, 0, 91, 180, 1, 9, 27, 46, 172, 3, 62, 3]
abbrev dktX1_dish_2 : List UInt8 := dkwX1_dish_2 ++ dktX1_dish_3
def dkwX1_dish_1 : List UInt8 := [170, 0, 0, 0, 88, 0, 0, 0, 0, 0, 0, 0, 2, 0, 0, 0, 25, 0, 0, 0, 35, 0, 0, 0, 45]
abbrev dktX1_dish_1 : List UInt8 := dkwX1_dish_1 ++ dktX1_dish_2
def dkwX1_dish_0 : List UInt8 := [42, 27, 182, 1, 1, 154, 0, 5, 2, 172, 28]
abbrev dktX1_dish_0 : List UInt8 := dkwX1_dish_0 ++ dktX1_dish_1
theorem dksX1_dish_0 : cX1_dish.data.toList.drop 0 = dktX1_dish_0 := by decide +kernel
theorem dksX1_dish_1 : cX1_dish.data.toList.drop 11 = dktX1_dish_1 := dk_seg dksX1_dish_0 11 rfl rfl
theorem dksX1_dish_2 : cX1_dish.data.toList.drop 36 = dktX1_dish_2 := dk_seg dksX1_dish_1 25 rfl rfl
theorem dksX1_dish_3 : cX1_dish.data.toList.drop 59 = dktX1_dish_3 := dk_seg dksX1_dish_2 23 rfl rfl
theorem dksX1_dish_4 : cX1_dish.data.toList.drop 83 = dktX1_dish_4 := dk_seg dksX1_dish_3 24 rfl rfl
theorem dX1_dish_0 : decode cX1_dish 0 = .ok (.aload_n 0, 1) := dk_42 (dk_at dksX1_dish_0 0 rfl rfl)
theorem dX1_dish_1 : decode cX1_dish 1 = .ok (.iload_n 1, 1) := dk_27 (dk_at dksX1_dish_0 1 rfl rfl)
theorem dX1_dish_2 : decode cX1_dish 2 = .ok (.invokevirtual 257, 3) := dk_182 1 1 (dk_at dksX1_dish_0 2 rfl rfl)
theorem dX1_dish_5 : decode cX1_dish 5 = .ok (.ifCond .ne 5, 3) := dk_154 0 5 (dk_at dksX1_dish_0 5 rfl rfl)
theorem dX1_dish_8 : decode cX1_dish 8 = .ok (.iconst (-1), 1) := dk_2 (dk_at dksX1_dish_0 8 rfl rfl)
theorem dX1_dish_9 : decode cX1_dish 9 = .ok (.ireturn, 1) := dk_172 (dk_at dksX1_dish_0 9 rfl rfl)
theorem dX1_dish_10 : decode cX1_dish 10 = .ok (.iload_n 2, 1) := dk_28 (dk_at dksX1_dish_0 10 rfl rfl)
theorem dX1_dish_11 : decode cX1_dish 11 = .ok (.tableswitch 88 0 2 #[25, 35, 45], 25) := by decide +kernel
theorem dX1_dish_36 : decode cX1_dish 36 = .ok (.aload_n 0, 1) := dk_42 (dk_at dksX1_dish_2 0 rfl rfl)
theorem dX1_dish_37 : decode cX1_dish 37 = .ok (.getfield 98, 3) := dk_180 0 98 (dk_at dksX1_dish_2 1 rfl rfl)
theorem dX1_dish_40 : decode cX1_dish 40 = .ok (.getfield 262, 3) := dk_180 1 6 (dk_at dksX1_dish_2 4 rfl rfl)
theorem dX1_dish_43 : decode cX1_dish 43 = .ok (.iload_n 1, 1) := dk_27 (dk_at dksX1_dish_2 7 rfl rfl)
theorem dX1_dish_44 : decode cX1_dish 44 = .ok (.iaload, 1) := dk_46 (dk_at dksX1_dish_2 8 rfl rfl)
theorem dX1_dish_45 : decode cX1_dish 45 = .ok (.ireturn, 1) := dk_172 (dk_at dksX1_dish_2 9 rfl rfl)
theorem dX1_dish_46 : decode cX1_dish 46 = .ok (.aload_n 0, 1) := dk_42 (dk_at dksX1_dish_2 10 rfl rfl)
theorem dX1_dish_47 : decode cX1_dish 47 = .ok (.getfield 91, 3) := dk_180 0 91 (dk_at dksX1_dish_2 11 rfl rfl)
theorem dX1_dish_50 : decode cX1_dish 50 = .ok (.getfield 265, 3) := dk_180 1 9 (dk_at dksX1_dish_2 14 rfl rfl)
theorem dX1_dish_53 : decode cX1_dish 53 = .ok (.iload_n 1, 1) := dk_27 (dk_at dksX1_dish_2 17 rfl rfl)
theorem dX1_dish_54 : decode cX1_dish 54 = .ok (.iaload, 1) := dk_46 (dk_at dksX1_dish_2 18 rfl rfl)
theorem dX1_dish_55 : decode cX1_dish 55 = .ok (.ireturn, 1) := dk_172 (dk_at dksX1_dish_2 19 rfl rfl)
theorem dX1_dish_56 : decode cX1_dish 56 = .ok (.iconst 0, 1) := dk_3 (dk_at dksX1_dish_2 20 rfl rfl)
theorem dX1_dish_57 : decode cX1_dish 57 = .ok (.istore_n 3, 1) := dk_62 (dk_at dksX1_dish_2 21 rfl rfl)
theorem dX1_dish_58 : decode cX1_dish 58 = .ok (.iconst 0, 1) := dk_3 (dk_at dksX1_dish_2 22 rfl rfl)
theorem dX1_dish_59 : decode cX1_dish 59 = .ok (.istore 4, 2) := dk_54 4 (dk_at dksX1_dish_3 0 rfl rfl)
theorem dX1_dish_61 : decode cX1_dish 61 = .ok (.iload 4, 2) := dk_21 4 (dk_at dksX1_dish_3 2 rfl rfl)
theorem dX1_dish_63 : decode cX1_dish 63 = .ok (.aload_n 0, 1) := dk_42 (dk_at dksX1_dish_3 4 rfl rfl)
theorem dX1_dish_64 : decode cX1_dish 64 = .ok (.getfield 91, 3) := dk_180 0 91 (dk_at dksX1_dish_3 5 rfl rfl)
theorem dX1_dish_67 : decode cX1_dish 67 = .ok (.getfield 213, 3) := dk_180 0 213 (dk_at dksX1_dish_3 8 rfl rfl)
theorem dX1_dish_70 : decode cX1_dish 70 = .ok (.if_icmp .ge 27, 3) := dk_162 0 27 (dk_at dksX1_dish_3 11 rfl rfl)
theorem dX1_dish_73 : decode cX1_dish 73 = .ok (.iload_n 3, 1) := dk_29 (dk_at dksX1_dish_3 14 rfl rfl)
theorem dX1_dish_74 : decode cX1_dish 74 = .ok (.aload_n 0, 1) := dk_42 (dk_at dksX1_dish_3 15 rfl rfl)
theorem dX1_dish_75 : decode cX1_dish 75 = .ok (.getfield 98, 3) := dk_180 0 98 (dk_at dksX1_dish_3 16 rfl rfl)
theorem dX1_dish_78 : decode cX1_dish 78 = .ok (.getfield 260, 3) := dk_180 1 4 (dk_at dksX1_dish_3 19 rfl rfl)
theorem dX1_dish_81 : decode cX1_dish 81 = .ok (.bipush 6, 2) := dk_16 6 (dk_at dksX1_dish_3 22 rfl rfl)
theorem dX1_dish_83 : decode cX1_dish 83 = .ok (.iload 4, 2) := dk_21 4 (dk_at dksX1_dish_4 0 rfl rfl)
theorem dX1_dish_85 : decode cX1_dish 85 = .ok (.imul, 1) := dk_104 (dk_at dksX1_dish_4 2 rfl rfl)
theorem dX1_dish_86 : decode cX1_dish 86 = .ok (.iload_n 1, 1) := dk_27 (dk_at dksX1_dish_4 3 rfl rfl)
theorem dX1_dish_87 : decode cX1_dish 87 = .ok (.iadd, 1) := dk_96 (dk_at dksX1_dish_4 4 rfl rfl)
theorem dX1_dish_88 : decode cX1_dish 88 = .ok (.iaload, 1) := dk_46 (dk_at dksX1_dish_4 5 rfl rfl)
theorem dX1_dish_89 : decode cX1_dish 89 = .ok (.iadd, 1) := dk_96 (dk_at dksX1_dish_4 6 rfl rfl)
theorem dX1_dish_90 : decode cX1_dish 90 = .ok (.istore_n 3, 1) := dk_62 (dk_at dksX1_dish_4 7 rfl rfl)
theorem dX1_dish_91 : decode cX1_dish 91 = .ok (.iinc 4 1, 3) := dk_132 4 1 (dk_at dksX1_dish_4 8 rfl rfl)
theorem dX1_dish_94 : decode cX1_dish 94 = .ok (.goto (-33), 3) := dk_167 255 223 (dk_at dksX1_dish_4 11 rfl rfl)
theorem dX1_dish_97 : decode cX1_dish 97 = .ok (.iload_n 3, 1) := dk_29 (dk_at dksX1_dish_4 14 rfl rfl)
theorem dX1_dish_98 : decode cX1_dish 98 = .ok (.ireturn, 1) := dk_172 (dk_at dksX1_dish_4 15 rfl rfl)
theorem dX1_dish_99 : decode cX1_dish 99 = .ok (.iconst (-1), 1) := dk_2 (dk_at dksX1_dish_4 16 rfl rfl)
theorem dX1_dish_100 : decode cX1_dish 100 = .ok (.ireturn, 1) := dk_172 (dk_at dksX1_dish_4 17 rfl rfl)
abbrev cX1_now : ByteArray := prog_1_method_17_code
def yX1_now : MethodName := ⟨RX1, "now", "(I)I"⟩
def dkwX1_now_6 : List UInt8 := [180, 1, 21, 172, 2, 172]
abbrev dktX1_now_6 : List UInt8 := dkwX1_now_6 ++ []
def dkwX1_now_5 : List UInt8 := [42, 180, 0, 98, 180, 1, 16, 172, 42, 180, 0, 98, 180, 1, 18, 172, 28, 172, 29, 172, 42, 180, 0, 98]
abbrev dktX1_now_5 : List UInt8 := dkwX1_now_5 ++ dktX1_now_6
def dkwX1_now_4 : List UInt8 := [42, 180, 0, 98, 180, 1, 11, 172, 42, 180, 0, 98, 180, 1, 14, 172, 42, 180, 0, 98, 180, 0, 239, 172]
abbrev dktX1_now_4 : List UInt8 := dkwX1_now_4 ++ dktX1_now_5
def dkwX1_now_3 : List UInt8 := [170, 0, 0, 0, 0, 0, 0, 100, 0, 0, 0, 0, 0, 0, 0, 7, 0, 0, 0, 48, 0, 0, 0, 56, 0, 0, 0, 64, 0, 0, 0, 72, 0, 0, 0, 80, 0, 0, 0, 88, 0, 0, 0, 90, 0, 0, 0, 92]
abbrev dktX1_now_3 : List UInt8 := dkwX1_now_3 ++ dktX1_now_4
def dkwX1_now_2 : List UInt8 := [167, 255, 215, 27]
abbrev dktX1_now_2 : List UInt8 := dkwX1_now_2 ++ dktX1_now_3
def dkwX1_now_1 : List UInt8 := [180, 0, 244, 21, 4, 46, 96, 61, 29, 42, 180, 0, 98, 180, 0, 248, 21, 4, 46, 96, 62, 132, 4, 1]
abbrev dktX1_now_1 : List UInt8 := dkwX1_now_1 ++ dktX1_now_2
def dkwX1_now_0 : List UInt8 := [3, 61, 3, 62, 3, 54, 4, 21, 4, 42, 180, 0, 91, 180, 0, 213, 162, 0, 35, 28, 42, 180, 0, 98]
abbrev dktX1_now_0 : List UInt8 := dkwX1_now_0 ++ dktX1_now_1
theorem dksX1_now_0 : cX1_now.data.toList.drop 0 = dktX1_now_0 := by decide +kernel
theorem dksX1_now_1 : cX1_now.data.toList.drop 24 = dktX1_now_1 := dk_seg dksX1_now_0 24 rfl rfl
theorem dksX1_now_2 : cX1_now.data.toList.drop 48 = dktX1_now_2 := dk_seg dksX1_now_1 24 rfl rfl
theorem dksX1_now_3 : cX1_now.data.toList.drop 52 = dktX1_now_3 := dk_seg dksX1_now_2 4 rfl rfl
theorem dksX1_now_4 : cX1_now.data.toList.drop 100 = dktX1_now_4 := dk_seg dksX1_now_3 48 rfl rfl
theorem dksX1_now_5 : cX1_now.data.toList.drop 124 = dktX1_now_5 := dk_seg dksX1_now_4 24 rfl rfl
theorem dksX1_now_6 : cX1_now.data.toList.drop 148 = dktX1_now_6 := dk_seg dksX1_now_5 24 rfl rfl
theorem dX1_now_0 : decode cX1_now 0 = .ok (.iconst 0, 1) := dk_3 (dk_at dksX1_now_0 0 rfl rfl)
theorem dX1_now_1 : decode cX1_now 1 = .ok (.istore_n 2, 1) := dk_61 (dk_at dksX1_now_0 1 rfl rfl)
theorem dX1_now_2 : decode cX1_now 2 = .ok (.iconst 0, 1) := dk_3 (dk_at dksX1_now_0 2 rfl rfl)
theorem dX1_now_3 : decode cX1_now 3 = .ok (.istore_n 3, 1) := dk_62 (dk_at dksX1_now_0 3 rfl rfl)
theorem dX1_now_4 : decode cX1_now 4 = .ok (.iconst 0, 1) := dk_3 (dk_at dksX1_now_0 4 rfl rfl)
theorem dX1_now_5 : decode cX1_now 5 = .ok (.istore 4, 2) := dk_54 4 (dk_at dksX1_now_0 5 rfl rfl)
theorem dX1_now_7 : decode cX1_now 7 = .ok (.iload 4, 2) := dk_21 4 (dk_at dksX1_now_0 7 rfl rfl)
theorem dX1_now_9 : decode cX1_now 9 = .ok (.aload_n 0, 1) := dk_42 (dk_at dksX1_now_0 9 rfl rfl)
theorem dX1_now_10 : decode cX1_now 10 = .ok (.getfield 91, 3) := dk_180 0 91 (dk_at dksX1_now_0 10 rfl rfl)
theorem dX1_now_13 : decode cX1_now 13 = .ok (.getfield 213, 3) := dk_180 0 213 (dk_at dksX1_now_0 13 rfl rfl)
theorem dX1_now_16 : decode cX1_now 16 = .ok (.if_icmp .ge 35, 3) := dk_162 0 35 (dk_at dksX1_now_0 16 rfl rfl)
theorem dX1_now_19 : decode cX1_now 19 = .ok (.iload_n 2, 1) := dk_28 (dk_at dksX1_now_0 19 rfl rfl)
theorem dX1_now_20 : decode cX1_now 20 = .ok (.aload_n 0, 1) := dk_42 (dk_at dksX1_now_0 20 rfl rfl)
theorem dX1_now_21 : decode cX1_now 21 = .ok (.getfield 98, 3) := dk_180 0 98 (dk_at dksX1_now_0 21 rfl rfl)
theorem dX1_now_24 : decode cX1_now 24 = .ok (.getfield 244, 3) := dk_180 0 244 (dk_at dksX1_now_1 0 rfl rfl)
theorem dX1_now_27 : decode cX1_now 27 = .ok (.iload 4, 2) := dk_21 4 (dk_at dksX1_now_1 3 rfl rfl)
theorem dX1_now_29 : decode cX1_now 29 = .ok (.iaload, 1) := dk_46 (dk_at dksX1_now_1 5 rfl rfl)
theorem dX1_now_30 : decode cX1_now 30 = .ok (.iadd, 1) := dk_96 (dk_at dksX1_now_1 6 rfl rfl)
theorem dX1_now_31 : decode cX1_now 31 = .ok (.istore_n 2, 1) := dk_61 (dk_at dksX1_now_1 7 rfl rfl)
theorem dX1_now_32 : decode cX1_now 32 = .ok (.iload_n 3, 1) := dk_29 (dk_at dksX1_now_1 8 rfl rfl)
theorem dX1_now_33 : decode cX1_now 33 = .ok (.aload_n 0, 1) := dk_42 (dk_at dksX1_now_1 9 rfl rfl)
theorem dX1_now_34 : decode cX1_now 34 = .ok (.getfield 98, 3) := dk_180 0 98 (dk_at dksX1_now_1 10 rfl rfl)
theorem dX1_now_37 : decode cX1_now 37 = .ok (.getfield 248, 3) := dk_180 0 248 (dk_at dksX1_now_1 13 rfl rfl)
theorem dX1_now_40 : decode cX1_now 40 = .ok (.iload 4, 2) := dk_21 4 (dk_at dksX1_now_1 16 rfl rfl)
theorem dX1_now_42 : decode cX1_now 42 = .ok (.iaload, 1) := dk_46 (dk_at dksX1_now_1 18 rfl rfl)
theorem dX1_now_43 : decode cX1_now 43 = .ok (.iadd, 1) := dk_96 (dk_at dksX1_now_1 19 rfl rfl)
theorem dX1_now_44 : decode cX1_now 44 = .ok (.istore_n 3, 1) := dk_62 (dk_at dksX1_now_1 20 rfl rfl)
theorem dX1_now_45 : decode cX1_now 45 = .ok (.iinc 4 1, 3) := dk_132 4 1 (dk_at dksX1_now_1 21 rfl rfl)
theorem dX1_now_48 : decode cX1_now 48 = .ok (.goto (-41), 3) := dk_167 255 215 (dk_at dksX1_now_2 0 rfl rfl)
theorem dX1_now_51 : decode cX1_now 51 = .ok (.iload_n 1, 1) := dk_27 (dk_at dksX1_now_2 3 rfl rfl)
theorem dX1_now_52 : decode cX1_now 52 = .ok (.tableswitch 100 0 7 #[48, 56, 64, 72, 80, 88, 90, 92], 48) := by decide +kernel
theorem dX1_now_100 : decode cX1_now 100 = .ok (.aload_n 0, 1) := dk_42 (dk_at dksX1_now_4 0 rfl rfl)
theorem dX1_now_101 : decode cX1_now 101 = .ok (.getfield 98, 3) := dk_180 0 98 (dk_at dksX1_now_4 1 rfl rfl)
theorem dX1_now_104 : decode cX1_now 104 = .ok (.getfield 267, 3) := dk_180 1 11 (dk_at dksX1_now_4 4 rfl rfl)
theorem dX1_now_107 : decode cX1_now 107 = .ok (.ireturn, 1) := dk_172 (dk_at dksX1_now_4 7 rfl rfl)
theorem dX1_now_108 : decode cX1_now 108 = .ok (.aload_n 0, 1) := dk_42 (dk_at dksX1_now_4 8 rfl rfl)
theorem dX1_now_109 : decode cX1_now 109 = .ok (.getfield 98, 3) := dk_180 0 98 (dk_at dksX1_now_4 9 rfl rfl)
theorem dX1_now_112 : decode cX1_now 112 = .ok (.getfield 270, 3) := dk_180 1 14 (dk_at dksX1_now_4 12 rfl rfl)
theorem dX1_now_115 : decode cX1_now 115 = .ok (.ireturn, 1) := dk_172 (dk_at dksX1_now_4 15 rfl rfl)
theorem dX1_now_116 : decode cX1_now 116 = .ok (.aload_n 0, 1) := dk_42 (dk_at dksX1_now_4 16 rfl rfl)
theorem dX1_now_117 : decode cX1_now 117 = .ok (.getfield 98, 3) := dk_180 0 98 (dk_at dksX1_now_4 17 rfl rfl)
theorem dX1_now_120 : decode cX1_now 120 = .ok (.getfield 239, 3) := dk_180 0 239 (dk_at dksX1_now_4 20 rfl rfl)
theorem dX1_now_123 : decode cX1_now 123 = .ok (.ireturn, 1) := dk_172 (dk_at dksX1_now_4 23 rfl rfl)
theorem dX1_now_124 : decode cX1_now 124 = .ok (.aload_n 0, 1) := dk_42 (dk_at dksX1_now_5 0 rfl rfl)
theorem dX1_now_125 : decode cX1_now 125 = .ok (.getfield 98, 3) := dk_180 0 98 (dk_at dksX1_now_5 1 rfl rfl)
theorem dX1_now_128 : decode cX1_now 128 = .ok (.getfield 272, 3) := dk_180 1 16 (dk_at dksX1_now_5 4 rfl rfl)
theorem dX1_now_131 : decode cX1_now 131 = .ok (.ireturn, 1) := dk_172 (dk_at dksX1_now_5 7 rfl rfl)
theorem dX1_now_132 : decode cX1_now 132 = .ok (.aload_n 0, 1) := dk_42 (dk_at dksX1_now_5 8 rfl rfl)
theorem dX1_now_133 : decode cX1_now 133 = .ok (.getfield 98, 3) := dk_180 0 98 (dk_at dksX1_now_5 9 rfl rfl)
theorem dX1_now_136 : decode cX1_now 136 = .ok (.getfield 274, 3) := dk_180 1 18 (dk_at dksX1_now_5 12 rfl rfl)
theorem dX1_now_139 : decode cX1_now 139 = .ok (.ireturn, 1) := dk_172 (dk_at dksX1_now_5 15 rfl rfl)
theorem dX1_now_140 : decode cX1_now 140 = .ok (.iload_n 2, 1) := dk_28 (dk_at dksX1_now_5 16 rfl rfl)
theorem dX1_now_141 : decode cX1_now 141 = .ok (.ireturn, 1) := dk_172 (dk_at dksX1_now_5 17 rfl rfl)
theorem dX1_now_142 : decode cX1_now 142 = .ok (.iload_n 3, 1) := dk_29 (dk_at dksX1_now_5 18 rfl rfl)
theorem dX1_now_143 : decode cX1_now 143 = .ok (.ireturn, 1) := dk_172 (dk_at dksX1_now_5 19 rfl rfl)
theorem dX1_now_144 : decode cX1_now 144 = .ok (.aload_n 0, 1) := dk_42 (dk_at dksX1_now_5 20 rfl rfl)
theorem dX1_now_145 : decode cX1_now 145 = .ok (.getfield 98, 3) := dk_180 0 98 (dk_at dksX1_now_5 21 rfl rfl)
theorem dX1_now_148 : decode cX1_now 148 = .ok (.getfield 277, 3) := dk_180 1 21 (dk_at dksX1_now_6 0 rfl rfl)
theorem dX1_now_151 : decode cX1_now 151 = .ok (.ireturn, 1) := dk_172 (dk_at dksX1_now_6 3 rfl rfl)
theorem dX1_now_152 : decode cX1_now 152 = .ok (.iconst (-1), 1) := dk_2 (dk_at dksX1_now_6 4 rfl rfl)
theorem dX1_now_153 : decode cX1_now 153 = .ok (.ireturn, 1) := dk_172 (dk_at dksX1_now_6 5 rfl rfl)
abbrev cX1_undo : ByteArray := prog_1_method_19_code
def yX1_undo : MethodName := ⟨RX1, "undo", "()I"⟩
def dkwX1_undo_1 : List UInt8 := [180, 0, 125, 42, 180, 0, 200, 50, 182, 1, 30, 42, 180, 0, 200, 172]
abbrev dktX1_undo_1 : List UInt8 := dkwX1_undo_1 ++ []
def dkwX1_undo_0 : List UInt8 := [42, 180, 0, 200, 154, 0, 5, 2, 172, 42, 89, 180, 0, 200, 4, 100, 181, 0, 200, 42, 180, 0, 98, 42]
abbrev dktX1_undo_0 : List UInt8 := dkwX1_undo_0 ++ dktX1_undo_1
theorem dksX1_undo_0 : cX1_undo.data.toList.drop 0 = dktX1_undo_0 := by decide +kernel
theorem dksX1_undo_1 : cX1_undo.data.toList.drop 24 = dktX1_undo_1 := dk_seg dksX1_undo_0 24 rfl rfl
theorem dX1_undo_0 : decode cX1_undo 0 = .ok (.aload_n 0, 1) := dk_42 (dk_at dksX1_undo_0 0 rfl rfl)
theorem dX1_undo_1 : decode cX1_undo 1 = .ok (.getfield 200, 3) := dk_180 0 200 (dk_at dksX1_undo_0 1 rfl rfl)
theorem dX1_undo_4 : decode cX1_undo 4 = .ok (.ifCond .ne 5, 3) := dk_154 0 5 (dk_at dksX1_undo_0 4 rfl rfl)
theorem dX1_undo_7 : decode cX1_undo 7 = .ok (.iconst (-1), 1) := dk_2 (dk_at dksX1_undo_0 7 rfl rfl)
theorem dX1_undo_8 : decode cX1_undo 8 = .ok (.ireturn, 1) := dk_172 (dk_at dksX1_undo_0 8 rfl rfl)
theorem dX1_undo_9 : decode cX1_undo 9 = .ok (.aload_n 0, 1) := dk_42 (dk_at dksX1_undo_0 9 rfl rfl)
theorem dX1_undo_10 : decode cX1_undo 10 = .ok (.dup, 1) := dk_89 (dk_at dksX1_undo_0 10 rfl rfl)
theorem dX1_undo_11 : decode cX1_undo 11 = .ok (.getfield 200, 3) := dk_180 0 200 (dk_at dksX1_undo_0 11 rfl rfl)
theorem dX1_undo_14 : decode cX1_undo 14 = .ok (.iconst 1, 1) := dk_4 (dk_at dksX1_undo_0 14 rfl rfl)
theorem dX1_undo_15 : decode cX1_undo 15 = .ok (.isub, 1) := dk_100 (dk_at dksX1_undo_0 15 rfl rfl)
theorem dX1_undo_16 : decode cX1_undo 16 = .ok (.putfield 200, 3) := dk_181 0 200 (dk_at dksX1_undo_0 16 rfl rfl)
theorem dX1_undo_19 : decode cX1_undo 19 = .ok (.aload_n 0, 1) := dk_42 (dk_at dksX1_undo_0 19 rfl rfl)
theorem dX1_undo_20 : decode cX1_undo 20 = .ok (.getfield 98, 3) := dk_180 0 98 (dk_at dksX1_undo_0 20 rfl rfl)
theorem dX1_undo_23 : decode cX1_undo 23 = .ok (.aload_n 0, 1) := dk_42 (dk_at dksX1_undo_0 23 rfl rfl)
theorem dX1_undo_24 : decode cX1_undo 24 = .ok (.getfield 125, 3) := dk_180 0 125 (dk_at dksX1_undo_1 0 rfl rfl)
theorem dX1_undo_27 : decode cX1_undo 27 = .ok (.aload_n 0, 1) := dk_42 (dk_at dksX1_undo_1 3 rfl rfl)
theorem dX1_undo_28 : decode cX1_undo 28 = .ok (.getfield 200, 3) := dk_180 0 200 (dk_at dksX1_undo_1 4 rfl rfl)
theorem dX1_undo_31 : decode cX1_undo 31 = .ok (.aaload, 1) := dk_50 (dk_at dksX1_undo_1 7 rfl rfl)
theorem dX1_undo_32 : decode cX1_undo 32 = .ok (.invokevirtual 286, 3) := dk_182 1 30 (dk_at dksX1_undo_1 8 rfl rfl)
theorem dX1_undo_35 : decode cX1_undo 35 = .ok (.aload_n 0, 1) := dk_42 (dk_at dksX1_undo_1 11 rfl rfl)
theorem dX1_undo_36 : decode cX1_undo 36 = .ok (.getfield 200, 3) := dk_180 0 200 (dk_at dksX1_undo_1 12 rfl rfl)
theorem dX1_undo_39 : decode cX1_undo 39 = .ok (.ireturn, 1) := dk_172 (dk_at dksX1_undo_1 15 rfl rfl)
abbrev cX1_eat : ByteArray := prog_1_method_20_code
def yX1_eat : MethodName := ⟨RX1, "eat", "(III)I"⟩
def dkwX1_eat_2 : List UInt8 := [153, 0, 6, 21, 4, 172, 42, 182, 1, 38, 42, 180, 0, 98, 27, 28, 29, 182, 1, 41, 3, 172]
abbrev dktX1_eat_2 : List UInt8 := dkwX1_eat_2 ++ []
def dkwX1_eat_1 : List UInt8 := [154, 0, 5, 2, 172, 42, 180, 0, 98, 42, 180, 0, 91, 27, 28, 29, 182, 1, 34, 54, 4, 21, 4]
abbrev dktX1_eat_1 : List UInt8 := dkwX1_eat_1 ++ dktX1_eat_2
def dkwX1_eat_0 : List UInt8 := [42, 27, 182, 0, 223, 153, 0, 21, 42, 28, 182, 1, 1, 153, 0, 13, 29, 4, 16, 20, 184, 0, 216]
abbrev dktX1_eat_0 : List UInt8 := dkwX1_eat_0 ++ dktX1_eat_1
theorem dksX1_eat_0 : cX1_eat.data.toList.drop 0 = dktX1_eat_0 := by decide +kernel
theorem dksX1_eat_1 : cX1_eat.data.toList.drop 23 = dktX1_eat_1 := dk_seg dksX1_eat_0 23 rfl rfl
theorem dksX1_eat_2 : cX1_eat.data.toList.drop 46 = dktX1_eat_2 := dk_seg dksX1_eat_1 23 rfl rfl
theorem dX1_eat_0 : decode cX1_eat 0 = .ok (.aload_n 0, 1) := dk_42 (dk_at dksX1_eat_0 0 rfl rfl)
theorem dX1_eat_1 : decode cX1_eat 1 = .ok (.iload_n 1, 1) := dk_27 (dk_at dksX1_eat_0 1 rfl rfl)
theorem dX1_eat_2 : decode cX1_eat 2 = .ok (.invokevirtual 223, 3) := dk_182 0 223 (dk_at dksX1_eat_0 2 rfl rfl)
theorem dX1_eat_5 : decode cX1_eat 5 = .ok (.ifCond .eq 21, 3) := dk_153 0 21 (dk_at dksX1_eat_0 5 rfl rfl)
theorem dX1_eat_8 : decode cX1_eat 8 = .ok (.aload_n 0, 1) := dk_42 (dk_at dksX1_eat_0 8 rfl rfl)
theorem dX1_eat_9 : decode cX1_eat 9 = .ok (.iload_n 2, 1) := dk_28 (dk_at dksX1_eat_0 9 rfl rfl)
theorem dX1_eat_10 : decode cX1_eat 10 = .ok (.invokevirtual 257, 3) := dk_182 1 1 (dk_at dksX1_eat_0 10 rfl rfl)
theorem dX1_eat_13 : decode cX1_eat 13 = .ok (.ifCond .eq 13, 3) := dk_153 0 13 (dk_at dksX1_eat_0 13 rfl rfl)
theorem dX1_eat_16 : decode cX1_eat 16 = .ok (.iload_n 3, 1) := dk_29 (dk_at dksX1_eat_0 16 rfl rfl)
theorem dX1_eat_17 : decode cX1_eat 17 = .ok (.iconst 1, 1) := dk_4 (dk_at dksX1_eat_0 17 rfl rfl)
theorem dX1_eat_18 : decode cX1_eat 18 = .ok (.bipush 20, 2) := dk_16 20 (dk_at dksX1_eat_0 18 rfl rfl)
theorem dX1_eat_20 : decode cX1_eat 20 = .ok (.invokestatic 216, 3) := dk_184 0 216 (dk_at dksX1_eat_0 20 rfl rfl)
theorem dX1_eat_23 : decode cX1_eat 23 = .ok (.ifCond .ne 5, 3) := dk_154 0 5 (dk_at dksX1_eat_1 0 rfl rfl)
theorem dX1_eat_26 : decode cX1_eat 26 = .ok (.iconst (-1), 1) := dk_2 (dk_at dksX1_eat_1 3 rfl rfl)
theorem dX1_eat_27 : decode cX1_eat 27 = .ok (.ireturn, 1) := dk_172 (dk_at dksX1_eat_1 4 rfl rfl)
theorem dX1_eat_28 : decode cX1_eat 28 = .ok (.aload_n 0, 1) := dk_42 (dk_at dksX1_eat_1 5 rfl rfl)
theorem dX1_eat_29 : decode cX1_eat 29 = .ok (.getfield 98, 3) := dk_180 0 98 (dk_at dksX1_eat_1 6 rfl rfl)
theorem dX1_eat_32 : decode cX1_eat 32 = .ok (.aload_n 0, 1) := dk_42 (dk_at dksX1_eat_1 9 rfl rfl)
theorem dX1_eat_33 : decode cX1_eat 33 = .ok (.getfield 91, 3) := dk_180 0 91 (dk_at dksX1_eat_1 10 rfl rfl)
theorem dX1_eat_36 : decode cX1_eat 36 = .ok (.iload_n 1, 1) := dk_27 (dk_at dksX1_eat_1 13 rfl rfl)
theorem dX1_eat_37 : decode cX1_eat 37 = .ok (.iload_n 2, 1) := dk_28 (dk_at dksX1_eat_1 14 rfl rfl)
theorem dX1_eat_38 : decode cX1_eat 38 = .ok (.iload_n 3, 1) := dk_29 (dk_at dksX1_eat_1 15 rfl rfl)
theorem dX1_eat_39 : decode cX1_eat 39 = .ok (.invokevirtual 290, 3) := dk_182 1 34 (dk_at dksX1_eat_1 16 rfl rfl)
theorem dX1_eat_42 : decode cX1_eat 42 = .ok (.istore 4, 2) := dk_54 4 (dk_at dksX1_eat_1 19 rfl rfl)
theorem dX1_eat_44 : decode cX1_eat 44 = .ok (.iload 4, 2) := dk_21 4 (dk_at dksX1_eat_1 21 rfl rfl)
theorem dX1_eat_46 : decode cX1_eat 46 = .ok (.ifCond .eq 6, 3) := dk_153 0 6 (dk_at dksX1_eat_2 0 rfl rfl)
theorem dX1_eat_49 : decode cX1_eat 49 = .ok (.iload 4, 2) := dk_21 4 (dk_at dksX1_eat_2 3 rfl rfl)
theorem dX1_eat_51 : decode cX1_eat 51 = .ok (.ireturn, 1) := dk_172 (dk_at dksX1_eat_2 5 rfl rfl)
theorem dX1_eat_52 : decode cX1_eat 52 = .ok (.aload_n 0, 1) := dk_42 (dk_at dksX1_eat_2 6 rfl rfl)
theorem dX1_eat_53 : decode cX1_eat 53 = .ok (.invokevirtual 294, 3) := dk_182 1 38 (dk_at dksX1_eat_2 7 rfl rfl)
theorem dX1_eat_56 : decode cX1_eat 56 = .ok (.aload_n 0, 1) := dk_42 (dk_at dksX1_eat_2 10 rfl rfl)
theorem dX1_eat_57 : decode cX1_eat 57 = .ok (.getfield 98, 3) := dk_180 0 98 (dk_at dksX1_eat_2 11 rfl rfl)
theorem dX1_eat_60 : decode cX1_eat 60 = .ok (.iload_n 1, 1) := dk_27 (dk_at dksX1_eat_2 14 rfl rfl)
theorem dX1_eat_61 : decode cX1_eat 61 = .ok (.iload_n 2, 1) := dk_28 (dk_at dksX1_eat_2 15 rfl rfl)
theorem dX1_eat_62 : decode cX1_eat 62 = .ok (.iload_n 3, 1) := dk_29 (dk_at dksX1_eat_2 16 rfl rfl)
theorem dX1_eat_63 : decode cX1_eat 63 = .ok (.invokevirtual 297, 3) := dk_182 1 41 (dk_at dksX1_eat_2 17 rfl rfl)
theorem dX1_eat_66 : decode cX1_eat 66 = .ok (.iconst 0, 1) := dk_3 (dk_at dksX1_eat_2 20 rfl rfl)
theorem dX1_eat_67 : decode cX1_eat 67 = .ok (.ireturn, 1) := dk_172 (dk_at dksX1_eat_2 21 rfl rfl)
abbrev cX1_keep : ByteArray := prog_1_method_18_code
def yX1_keep : MethodName := ⟨RX1, "keep", "()V"⟩
def dkwX1_keep_4 : List UInt8 := [180, 0, 125, 42, 180, 0, 200, 43, 83, 42, 89, 180, 0, 200, 4, 96, 181, 0, 200, 177]
abbrev dktX1_keep_4 : List UInt8 := dkwX1_keep_4 ++ []
def dkwX1_keep_3 : List UInt8 := [16, 7, 184, 1, 24, 42, 89, 180, 0, 200, 4, 100, 181, 0, 200, 43, 42, 180, 0, 98, 182, 1, 30, 42]
abbrev dktX1_keep_3 : List UInt8 := dkwX1_keep_3 ++ dktX1_keep_4
def dkwX1_keep_2 : List UInt8 := [180, 0, 200, 50, 76, 42, 180, 0, 200, 16, 8, 160, 0, 28, 42, 180, 0, 125, 4, 42, 180, 0, 125, 3]
abbrev dktX1_keep_2 : List UInt8 := dkwX1_keep_2 ++ dktX1_keep_3
def dkwX1_keep_1 : List UInt8 := [180, 0, 200, 50, 199, 0, 13, 187, 0, 95, 89, 183, 0, 97, 167, 0, 12, 42, 180, 0, 125, 42]
abbrev dktX1_keep_1 : List UInt8 := dkwX1_keep_1 ++ dktX1_keep_2
def dkwX1_keep_0 : List UInt8 := [42, 180, 0, 200, 16, 8, 160, 0, 12, 42, 180, 0, 125, 3, 50, 167, 0, 34, 42, 180, 0, 125, 42]
abbrev dktX1_keep_0 : List UInt8 := dkwX1_keep_0 ++ dktX1_keep_1
theorem dksX1_keep_0 : cX1_keep.data.toList.drop 0 = dktX1_keep_0 := by decide +kernel
theorem dksX1_keep_1 : cX1_keep.data.toList.drop 23 = dktX1_keep_1 := dk_seg dksX1_keep_0 23 rfl rfl
theorem dksX1_keep_2 : cX1_keep.data.toList.drop 45 = dktX1_keep_2 := dk_seg dksX1_keep_1 22 rfl rfl
theorem dksX1_keep_3 : cX1_keep.data.toList.drop 69 = dktX1_keep_3 := dk_seg dksX1_keep_2 24 rfl rfl
theorem dksX1_keep_4 : cX1_keep.data.toList.drop 93 = dktX1_keep_4 := dk_seg dksX1_keep_3 24 rfl rfl
theorem dX1_keep_0 : decode cX1_keep 0 = .ok (.aload_n 0, 1) := dk_42 (dk_at dksX1_keep_0 0 rfl rfl)
theorem dX1_keep_1 : decode cX1_keep 1 = .ok (.getfield 200, 3) := dk_180 0 200 (dk_at dksX1_keep_0 1 rfl rfl)
theorem dX1_keep_4 : decode cX1_keep 4 = .ok (.bipush 8, 2) := dk_16 8 (dk_at dksX1_keep_0 4 rfl rfl)
theorem dX1_keep_6 : decode cX1_keep 6 = .ok (.if_icmp .ne 12, 3) := dk_160 0 12 (dk_at dksX1_keep_0 6 rfl rfl)
theorem dX1_keep_9 : decode cX1_keep 9 = .ok (.aload_n 0, 1) := dk_42 (dk_at dksX1_keep_0 9 rfl rfl)
theorem dX1_keep_10 : decode cX1_keep 10 = .ok (.getfield 125, 3) := dk_180 0 125 (dk_at dksX1_keep_0 10 rfl rfl)
theorem dX1_keep_13 : decode cX1_keep 13 = .ok (.iconst 0, 1) := dk_3 (dk_at dksX1_keep_0 13 rfl rfl)
theorem dX1_keep_14 : decode cX1_keep 14 = .ok (.aaload, 1) := dk_50 (dk_at dksX1_keep_0 14 rfl rfl)
theorem dX1_keep_15 : decode cX1_keep 15 = .ok (.goto 34, 3) := dk_167 0 34 (dk_at dksX1_keep_0 15 rfl rfl)
theorem dX1_keep_18 : decode cX1_keep 18 = .ok (.aload_n 0, 1) := dk_42 (dk_at dksX1_keep_0 18 rfl rfl)
theorem dX1_keep_19 : decode cX1_keep 19 = .ok (.getfield 125, 3) := dk_180 0 125 (dk_at dksX1_keep_0 19 rfl rfl)
theorem dX1_keep_22 : decode cX1_keep 22 = .ok (.aload_n 0, 1) := dk_42 (dk_at dksX1_keep_0 22 rfl rfl)
theorem dX1_keep_23 : decode cX1_keep 23 = .ok (.getfield 200, 3) := dk_180 0 200 (dk_at dksX1_keep_1 0 rfl rfl)
theorem dX1_keep_26 : decode cX1_keep 26 = .ok (.aaload, 1) := dk_50 (dk_at dksX1_keep_1 3 rfl rfl)
theorem dX1_keep_27 : decode cX1_keep 27 = .ok (.ifnonnull 13, 3) := dk_199 0 13 (dk_at dksX1_keep_1 4 rfl rfl)
theorem dX1_keep_30 : decode cX1_keep 30 = .ok (.new 95, 3) := dk_187 0 95 (dk_at dksX1_keep_1 7 rfl rfl)
theorem dX1_keep_33 : decode cX1_keep 33 = .ok (.dup, 1) := dk_89 (dk_at dksX1_keep_1 10 rfl rfl)
theorem dX1_keep_34 : decode cX1_keep 34 = .ok (.invokespecial 97, 3) := dk_183 0 97 (dk_at dksX1_keep_1 11 rfl rfl)
theorem dX1_keep_37 : decode cX1_keep 37 = .ok (.goto 12, 3) := dk_167 0 12 (dk_at dksX1_keep_1 14 rfl rfl)
theorem dX1_keep_40 : decode cX1_keep 40 = .ok (.aload_n 0, 1) := dk_42 (dk_at dksX1_keep_1 17 rfl rfl)
theorem dX1_keep_41 : decode cX1_keep 41 = .ok (.getfield 125, 3) := dk_180 0 125 (dk_at dksX1_keep_1 18 rfl rfl)
theorem dX1_keep_44 : decode cX1_keep 44 = .ok (.aload_n 0, 1) := dk_42 (dk_at dksX1_keep_1 21 rfl rfl)
theorem dX1_keep_45 : decode cX1_keep 45 = .ok (.getfield 200, 3) := dk_180 0 200 (dk_at dksX1_keep_2 0 rfl rfl)
theorem dX1_keep_48 : decode cX1_keep 48 = .ok (.aaload, 1) := dk_50 (dk_at dksX1_keep_2 3 rfl rfl)
theorem dX1_keep_49 : decode cX1_keep 49 = .ok (.astore_n 1, 1) := dk_76 (dk_at dksX1_keep_2 4 rfl rfl)
theorem dX1_keep_50 : decode cX1_keep 50 = .ok (.aload_n 0, 1) := dk_42 (dk_at dksX1_keep_2 5 rfl rfl)
theorem dX1_keep_51 : decode cX1_keep 51 = .ok (.getfield 200, 3) := dk_180 0 200 (dk_at dksX1_keep_2 6 rfl rfl)
theorem dX1_keep_54 : decode cX1_keep 54 = .ok (.bipush 8, 2) := dk_16 8 (dk_at dksX1_keep_2 9 rfl rfl)
theorem dX1_keep_56 : decode cX1_keep 56 = .ok (.if_icmp .ne 28, 3) := dk_160 0 28 (dk_at dksX1_keep_2 11 rfl rfl)
theorem dX1_keep_59 : decode cX1_keep 59 = .ok (.aload_n 0, 1) := dk_42 (dk_at dksX1_keep_2 14 rfl rfl)
theorem dX1_keep_60 : decode cX1_keep 60 = .ok (.getfield 125, 3) := dk_180 0 125 (dk_at dksX1_keep_2 15 rfl rfl)
theorem dX1_keep_63 : decode cX1_keep 63 = .ok (.iconst 1, 1) := dk_4 (dk_at dksX1_keep_2 18 rfl rfl)
theorem dX1_keep_64 : decode cX1_keep 64 = .ok (.aload_n 0, 1) := dk_42 (dk_at dksX1_keep_2 19 rfl rfl)
theorem dX1_keep_65 : decode cX1_keep 65 = .ok (.getfield 125, 3) := dk_180 0 125 (dk_at dksX1_keep_2 20 rfl rfl)
theorem dX1_keep_68 : decode cX1_keep 68 = .ok (.iconst 0, 1) := dk_3 (dk_at dksX1_keep_2 23 rfl rfl)
theorem dX1_keep_69 : decode cX1_keep 69 = .ok (.bipush 7, 2) := dk_16 7 (dk_at dksX1_keep_3 0 rfl rfl)
theorem dX1_keep_71 : decode cX1_keep 71 = .ok (.invokestatic 280, 3) := dk_184 1 24 (dk_at dksX1_keep_3 2 rfl rfl)
theorem dX1_keep_74 : decode cX1_keep 74 = .ok (.aload_n 0, 1) := dk_42 (dk_at dksX1_keep_3 5 rfl rfl)
theorem dX1_keep_75 : decode cX1_keep 75 = .ok (.dup, 1) := dk_89 (dk_at dksX1_keep_3 6 rfl rfl)
theorem dX1_keep_76 : decode cX1_keep 76 = .ok (.getfield 200, 3) := dk_180 0 200 (dk_at dksX1_keep_3 7 rfl rfl)
theorem dX1_keep_79 : decode cX1_keep 79 = .ok (.iconst 1, 1) := dk_4 (dk_at dksX1_keep_3 10 rfl rfl)
theorem dX1_keep_80 : decode cX1_keep 80 = .ok (.isub, 1) := dk_100 (dk_at dksX1_keep_3 11 rfl rfl)
theorem dX1_keep_81 : decode cX1_keep 81 = .ok (.putfield 200, 3) := dk_181 0 200 (dk_at dksX1_keep_3 12 rfl rfl)
theorem dX1_keep_84 : decode cX1_keep 84 = .ok (.aload_n 1, 1) := dk_43 (dk_at dksX1_keep_3 15 rfl rfl)
theorem dX1_keep_85 : decode cX1_keep 85 = .ok (.aload_n 0, 1) := dk_42 (dk_at dksX1_keep_3 16 rfl rfl)
theorem dX1_keep_86 : decode cX1_keep 86 = .ok (.getfield 98, 3) := dk_180 0 98 (dk_at dksX1_keep_3 17 rfl rfl)
theorem dX1_keep_89 : decode cX1_keep 89 = .ok (.invokevirtual 286, 3) := dk_182 1 30 (dk_at dksX1_keep_3 20 rfl rfl)
theorem dX1_keep_92 : decode cX1_keep 92 = .ok (.aload_n 0, 1) := dk_42 (dk_at dksX1_keep_3 23 rfl rfl)
theorem dX1_keep_93 : decode cX1_keep 93 = .ok (.getfield 125, 3) := dk_180 0 125 (dk_at dksX1_keep_4 0 rfl rfl)
theorem dX1_keep_96 : decode cX1_keep 96 = .ok (.aload_n 0, 1) := dk_42 (dk_at dksX1_keep_4 3 rfl rfl)
theorem dX1_keep_97 : decode cX1_keep 97 = .ok (.getfield 200, 3) := dk_180 0 200 (dk_at dksX1_keep_4 4 rfl rfl)
theorem dX1_keep_100 : decode cX1_keep 100 = .ok (.aload_n 1, 1) := dk_43 (dk_at dksX1_keep_4 7 rfl rfl)
theorem dX1_keep_101 : decode cX1_keep 101 = .ok (.aastore, 1) := dk_83 (dk_at dksX1_keep_4 8 rfl rfl)
theorem dX1_keep_102 : decode cX1_keep 102 = .ok (.aload_n 0, 1) := dk_42 (dk_at dksX1_keep_4 9 rfl rfl)
theorem dX1_keep_103 : decode cX1_keep 103 = .ok (.dup, 1) := dk_89 (dk_at dksX1_keep_4 10 rfl rfl)
theorem dX1_keep_104 : decode cX1_keep 104 = .ok (.getfield 200, 3) := dk_180 0 200 (dk_at dksX1_keep_4 11 rfl rfl)
theorem dX1_keep_107 : decode cX1_keep 107 = .ok (.iconst 1, 1) := dk_4 (dk_at dksX1_keep_4 14 rfl rfl)
theorem dX1_keep_108 : decode cX1_keep 108 = .ok (.iadd, 1) := dk_96 (dk_at dksX1_keep_4 15 rfl rfl)
theorem dX1_keep_109 : decode cX1_keep 109 = .ok (.putfield 200, 3) := dk_181 0 200 (dk_at dksX1_keep_4 16 rfl rfl)
theorem dX1_keep_112 : decode cX1_keep 112 = .ok (.return_, 1) := dk_177 (dk_at dksX1_keep_4 19 rfl rfl)
abbrev cX1_serve : ByteArray := prog_1_method_21_code
def yX1_serve : MethodName := ⟨RX1, "serve", "(III)I"⟩
def dkwX1_serve_2 : List UInt8 := [172, 42, 182, 1, 38, 42, 180, 0, 98, 27, 28, 29, 182, 1, 49, 3, 172]
abbrev dktX1_serve_2 : List UInt8 := dkwX1_serve_2 ++ []
def dkwX1_serve_1 : List UInt8 := [154, 0, 5, 2, 172, 42, 180, 0, 98, 27, 28, 29, 182, 1, 45, 54, 4, 21, 4, 153, 0, 6, 21, 4]
abbrev dktX1_serve_1 : List UInt8 := dkwX1_serve_1 ++ dktX1_serve_2
def dkwX1_serve_0 : List UInt8 := [42, 27, 182, 0, 223, 153, 0, 21, 42, 28, 182, 1, 1, 153, 0, 13, 29, 4, 16, 40, 184, 0, 216]
abbrev dktX1_serve_0 : List UInt8 := dkwX1_serve_0 ++ dktX1_serve_1
theorem dksX1_serve_0 : cX1_serve.data.toList.drop 0 = dktX1_serve_0 := by decide +kernel
theorem dksX1_serve_1 : cX1_serve.data.toList.drop 23 = dktX1_serve_1 := dk_seg dksX1_serve_0 23 rfl rfl
theorem dksX1_serve_2 : cX1_serve.data.toList.drop 47 = dktX1_serve_2 := dk_seg dksX1_serve_1 24 rfl rfl
theorem dX1_serve_0 : decode cX1_serve 0 = .ok (.aload_n 0, 1) := dk_42 (dk_at dksX1_serve_0 0 rfl rfl)
theorem dX1_serve_1 : decode cX1_serve 1 = .ok (.iload_n 1, 1) := dk_27 (dk_at dksX1_serve_0 1 rfl rfl)
theorem dX1_serve_2 : decode cX1_serve 2 = .ok (.invokevirtual 223, 3) := dk_182 0 223 (dk_at dksX1_serve_0 2 rfl rfl)
theorem dX1_serve_5 : decode cX1_serve 5 = .ok (.ifCond .eq 21, 3) := dk_153 0 21 (dk_at dksX1_serve_0 5 rfl rfl)
theorem dX1_serve_8 : decode cX1_serve 8 = .ok (.aload_n 0, 1) := dk_42 (dk_at dksX1_serve_0 8 rfl rfl)
theorem dX1_serve_9 : decode cX1_serve 9 = .ok (.iload_n 2, 1) := dk_28 (dk_at dksX1_serve_0 9 rfl rfl)
theorem dX1_serve_10 : decode cX1_serve 10 = .ok (.invokevirtual 257, 3) := dk_182 1 1 (dk_at dksX1_serve_0 10 rfl rfl)
theorem dX1_serve_13 : decode cX1_serve 13 = .ok (.ifCond .eq 13, 3) := dk_153 0 13 (dk_at dksX1_serve_0 13 rfl rfl)
theorem dX1_serve_16 : decode cX1_serve 16 = .ok (.iload_n 3, 1) := dk_29 (dk_at dksX1_serve_0 16 rfl rfl)
theorem dX1_serve_17 : decode cX1_serve 17 = .ok (.iconst 1, 1) := dk_4 (dk_at dksX1_serve_0 17 rfl rfl)
theorem dX1_serve_18 : decode cX1_serve 18 = .ok (.bipush 40, 2) := dk_16 40 (dk_at dksX1_serve_0 18 rfl rfl)
theorem dX1_serve_20 : decode cX1_serve 20 = .ok (.invokestatic 216, 3) := dk_184 0 216 (dk_at dksX1_serve_0 20 rfl rfl)
theorem dX1_serve_23 : decode cX1_serve 23 = .ok (.ifCond .ne 5, 3) := dk_154 0 5 (dk_at dksX1_serve_1 0 rfl rfl)
theorem dX1_serve_26 : decode cX1_serve 26 = .ok (.iconst (-1), 1) := dk_2 (dk_at dksX1_serve_1 3 rfl rfl)
theorem dX1_serve_27 : decode cX1_serve 27 = .ok (.ireturn, 1) := dk_172 (dk_at dksX1_serve_1 4 rfl rfl)
theorem dX1_serve_28 : decode cX1_serve 28 = .ok (.aload_n 0, 1) := dk_42 (dk_at dksX1_serve_1 5 rfl rfl)
theorem dX1_serve_29 : decode cX1_serve 29 = .ok (.getfield 98, 3) := dk_180 0 98 (dk_at dksX1_serve_1 6 rfl rfl)
theorem dX1_serve_32 : decode cX1_serve 32 = .ok (.iload_n 1, 1) := dk_27 (dk_at dksX1_serve_1 9 rfl rfl)
theorem dX1_serve_33 : decode cX1_serve 33 = .ok (.iload_n 2, 1) := dk_28 (dk_at dksX1_serve_1 10 rfl rfl)
theorem dX1_serve_34 : decode cX1_serve 34 = .ok (.iload_n 3, 1) := dk_29 (dk_at dksX1_serve_1 11 rfl rfl)
theorem dX1_serve_35 : decode cX1_serve 35 = .ok (.invokevirtual 301, 3) := dk_182 1 45 (dk_at dksX1_serve_1 12 rfl rfl)
theorem dX1_serve_38 : decode cX1_serve 38 = .ok (.istore 4, 2) := dk_54 4 (dk_at dksX1_serve_1 15 rfl rfl)
theorem dX1_serve_40 : decode cX1_serve 40 = .ok (.iload 4, 2) := dk_21 4 (dk_at dksX1_serve_1 17 rfl rfl)
theorem dX1_serve_42 : decode cX1_serve 42 = .ok (.ifCond .eq 6, 3) := dk_153 0 6 (dk_at dksX1_serve_1 19 rfl rfl)
theorem dX1_serve_45 : decode cX1_serve 45 = .ok (.iload 4, 2) := dk_21 4 (dk_at dksX1_serve_1 22 rfl rfl)
theorem dX1_serve_47 : decode cX1_serve 47 = .ok (.ireturn, 1) := dk_172 (dk_at dksX1_serve_2 0 rfl rfl)
theorem dX1_serve_48 : decode cX1_serve 48 = .ok (.aload_n 0, 1) := dk_42 (dk_at dksX1_serve_2 1 rfl rfl)
theorem dX1_serve_49 : decode cX1_serve 49 = .ok (.invokevirtual 294, 3) := dk_182 1 38 (dk_at dksX1_serve_2 2 rfl rfl)
theorem dX1_serve_52 : decode cX1_serve 52 = .ok (.aload_n 0, 1) := dk_42 (dk_at dksX1_serve_2 5 rfl rfl)
theorem dX1_serve_53 : decode cX1_serve 53 = .ok (.getfield 98, 3) := dk_180 0 98 (dk_at dksX1_serve_2 6 rfl rfl)
theorem dX1_serve_56 : decode cX1_serve 56 = .ok (.iload_n 1, 1) := dk_27 (dk_at dksX1_serve_2 9 rfl rfl)
theorem dX1_serve_57 : decode cX1_serve 57 = .ok (.iload_n 2, 1) := dk_28 (dk_at dksX1_serve_2 10 rfl rfl)
theorem dX1_serve_58 : decode cX1_serve 58 = .ok (.iload_n 3, 1) := dk_29 (dk_at dksX1_serve_2 11 rfl rfl)
theorem dX1_serve_59 : decode cX1_serve 59 = .ok (.invokevirtual 305, 3) := dk_182 1 49 (dk_at dksX1_serve_2 12 rfl rfl)
theorem dX1_serve_62 : decode cX1_serve 62 = .ok (.iconst 0, 1) := dk_3 (dk_at dksX1_serve_2 15 rfl rfl)
theorem dX1_serve_63 : decode cX1_serve 63 = .ok (.ireturn, 1) := dk_172 (dk_at dksX1_serve_2 16 rfl rfl)
abbrev cX1_rise : ByteArray := prog_1_method_22_code
def yX1_rise : MethodName := ⟨RX1, "rise", "(I)I"⟩
def dkwX1_rise_1 : List UInt8 := [172, 42, 182, 1, 38, 42, 180, 0, 98, 42, 180, 0, 91, 27, 182, 1, 55, 3, 172]
abbrev dktX1_rise_1 : List UInt8 := dkwX1_rise_1 ++ []
def dkwX1_rise_0 : List UInt8 := [42, 27, 182, 0, 223, 154, 0, 5, 2, 172, 42, 180, 0, 98, 27, 182, 1, 52, 61, 28, 153, 0, 5, 28]
abbrev dktX1_rise_0 : List UInt8 := dkwX1_rise_0 ++ dktX1_rise_1
theorem dksX1_rise_0 : cX1_rise.data.toList.drop 0 = dktX1_rise_0 := by decide +kernel
theorem dksX1_rise_1 : cX1_rise.data.toList.drop 24 = dktX1_rise_1 := dk_seg dksX1_rise_0 24 rfl rfl
theorem dX1_rise_0 : decode cX1_rise 0 = .ok (.aload_n 0, 1) := dk_42 (dk_at dksX1_rise_0 0 rfl rfl)
theorem dX1_rise_1 : decode cX1_rise 1 = .ok (.iload_n 1, 1) := dk_27 (dk_at dksX1_rise_0 1 rfl rfl)
theorem dX1_rise_2 : decode cX1_rise 2 = .ok (.invokevirtual 223, 3) := dk_182 0 223 (dk_at dksX1_rise_0 2 rfl rfl)
theorem dX1_rise_5 : decode cX1_rise 5 = .ok (.ifCond .ne 5, 3) := dk_154 0 5 (dk_at dksX1_rise_0 5 rfl rfl)
theorem dX1_rise_8 : decode cX1_rise 8 = .ok (.iconst (-1), 1) := dk_2 (dk_at dksX1_rise_0 8 rfl rfl)
theorem dX1_rise_9 : decode cX1_rise 9 = .ok (.ireturn, 1) := dk_172 (dk_at dksX1_rise_0 9 rfl rfl)
theorem dX1_rise_10 : decode cX1_rise 10 = .ok (.aload_n 0, 1) := dk_42 (dk_at dksX1_rise_0 10 rfl rfl)
theorem dX1_rise_11 : decode cX1_rise 11 = .ok (.getfield 98, 3) := dk_180 0 98 (dk_at dksX1_rise_0 11 rfl rfl)
theorem dX1_rise_14 : decode cX1_rise 14 = .ok (.iload_n 1, 1) := dk_27 (dk_at dksX1_rise_0 14 rfl rfl)
theorem dX1_rise_15 : decode cX1_rise 15 = .ok (.invokevirtual 308, 3) := dk_182 1 52 (dk_at dksX1_rise_0 15 rfl rfl)
theorem dX1_rise_18 : decode cX1_rise 18 = .ok (.istore_n 2, 1) := dk_61 (dk_at dksX1_rise_0 18 rfl rfl)
theorem dX1_rise_19 : decode cX1_rise 19 = .ok (.iload_n 2, 1) := dk_28 (dk_at dksX1_rise_0 19 rfl rfl)
theorem dX1_rise_20 : decode cX1_rise 20 = .ok (.ifCond .eq 5, 3) := dk_153 0 5 (dk_at dksX1_rise_0 20 rfl rfl)
theorem dX1_rise_23 : decode cX1_rise 23 = .ok (.iload_n 2, 1) := dk_28 (dk_at dksX1_rise_0 23 rfl rfl)
theorem dX1_rise_24 : decode cX1_rise 24 = .ok (.ireturn, 1) := dk_172 (dk_at dksX1_rise_1 0 rfl rfl)
theorem dX1_rise_25 : decode cX1_rise 25 = .ok (.aload_n 0, 1) := dk_42 (dk_at dksX1_rise_1 1 rfl rfl)
theorem dX1_rise_26 : decode cX1_rise 26 = .ok (.invokevirtual 294, 3) := dk_182 1 38 (dk_at dksX1_rise_1 2 rfl rfl)
theorem dX1_rise_29 : decode cX1_rise 29 = .ok (.aload_n 0, 1) := dk_42 (dk_at dksX1_rise_1 5 rfl rfl)
theorem dX1_rise_30 : decode cX1_rise 30 = .ok (.getfield 98, 3) := dk_180 0 98 (dk_at dksX1_rise_1 6 rfl rfl)
theorem dX1_rise_33 : decode cX1_rise 33 = .ok (.aload_n 0, 1) := dk_42 (dk_at dksX1_rise_1 9 rfl rfl)
theorem dX1_rise_34 : decode cX1_rise 34 = .ok (.getfield 91, 3) := dk_180 0 91 (dk_at dksX1_rise_1 10 rfl rfl)
theorem dX1_rise_37 : decode cX1_rise 37 = .ok (.iload_n 1, 1) := dk_27 (dk_at dksX1_rise_1 13 rfl rfl)
theorem dX1_rise_38 : decode cX1_rise 38 = .ok (.invokevirtual 311, 3) := dk_182 1 55 (dk_at dksX1_rise_1 14 rfl rfl)
theorem dX1_rise_41 : decode cX1_rise 41 = .ok (.iconst 0, 1) := dk_3 (dk_at dksX1_rise_1 17 rfl rfl)
theorem dX1_rise_42 : decode cX1_rise 42 = .ok (.ireturn, 1) := dk_172 (dk_at dksX1_rise_1 18 rfl rfl)
abbrev cX1_refuse : ByteArray := prog_1_method_23_code
def yX1_refuse : MethodName := ⟨RX1, "refuse", "(I)I"⟩
def dkwX1_refuse_1 : List UInt8 := [172, 42, 182, 1, 38, 42, 180, 0, 98, 89, 180, 0, 239, 4, 27, 120, 128, 181, 0, 239, 3, 172]
abbrev dktX1_refuse_1 : List UInt8 := dkwX1_refuse_1 ++ []
def dkwX1_refuse_0 : List UInt8 := [42, 27, 182, 0, 223, 154, 0, 5, 2, 172, 42, 180, 0, 98, 27, 182, 1, 59, 61, 28, 153, 0, 5, 28]
abbrev dktX1_refuse_0 : List UInt8 := dkwX1_refuse_0 ++ dktX1_refuse_1
theorem dksX1_refuse_0 : cX1_refuse.data.toList.drop 0 = dktX1_refuse_0 := by decide +kernel
theorem dksX1_refuse_1 : cX1_refuse.data.toList.drop 24 = dktX1_refuse_1 := dk_seg dksX1_refuse_0 24 rfl rfl
theorem dX1_refuse_0 : decode cX1_refuse 0 = .ok (.aload_n 0, 1) := dk_42 (dk_at dksX1_refuse_0 0 rfl rfl)
theorem dX1_refuse_1 : decode cX1_refuse 1 = .ok (.iload_n 1, 1) := dk_27 (dk_at dksX1_refuse_0 1 rfl rfl)
theorem dX1_refuse_2 : decode cX1_refuse 2 = .ok (.invokevirtual 223, 3) := dk_182 0 223 (dk_at dksX1_refuse_0 2 rfl rfl)
theorem dX1_refuse_5 : decode cX1_refuse 5 = .ok (.ifCond .ne 5, 3) := dk_154 0 5 (dk_at dksX1_refuse_0 5 rfl rfl)
theorem dX1_refuse_8 : decode cX1_refuse 8 = .ok (.iconst (-1), 1) := dk_2 (dk_at dksX1_refuse_0 8 rfl rfl)
theorem dX1_refuse_9 : decode cX1_refuse 9 = .ok (.ireturn, 1) := dk_172 (dk_at dksX1_refuse_0 9 rfl rfl)
theorem dX1_refuse_10 : decode cX1_refuse 10 = .ok (.aload_n 0, 1) := dk_42 (dk_at dksX1_refuse_0 10 rfl rfl)
theorem dX1_refuse_11 : decode cX1_refuse 11 = .ok (.getfield 98, 3) := dk_180 0 98 (dk_at dksX1_refuse_0 11 rfl rfl)
theorem dX1_refuse_14 : decode cX1_refuse 14 = .ok (.iload_n 1, 1) := dk_27 (dk_at dksX1_refuse_0 14 rfl rfl)
theorem dX1_refuse_15 : decode cX1_refuse 15 = .ok (.invokevirtual 315, 3) := dk_182 1 59 (dk_at dksX1_refuse_0 15 rfl rfl)
theorem dX1_refuse_18 : decode cX1_refuse 18 = .ok (.istore_n 2, 1) := dk_61 (dk_at dksX1_refuse_0 18 rfl rfl)
theorem dX1_refuse_19 : decode cX1_refuse 19 = .ok (.iload_n 2, 1) := dk_28 (dk_at dksX1_refuse_0 19 rfl rfl)
theorem dX1_refuse_20 : decode cX1_refuse 20 = .ok (.ifCond .eq 5, 3) := dk_153 0 5 (dk_at dksX1_refuse_0 20 rfl rfl)
theorem dX1_refuse_23 : decode cX1_refuse 23 = .ok (.iload_n 2, 1) := dk_28 (dk_at dksX1_refuse_0 23 rfl rfl)
theorem dX1_refuse_24 : decode cX1_refuse 24 = .ok (.ireturn, 1) := dk_172 (dk_at dksX1_refuse_1 0 rfl rfl)
theorem dX1_refuse_25 : decode cX1_refuse 25 = .ok (.aload_n 0, 1) := dk_42 (dk_at dksX1_refuse_1 1 rfl rfl)
theorem dX1_refuse_26 : decode cX1_refuse 26 = .ok (.invokevirtual 294, 3) := dk_182 1 38 (dk_at dksX1_refuse_1 2 rfl rfl)
theorem dX1_refuse_29 : decode cX1_refuse 29 = .ok (.aload_n 0, 1) := dk_42 (dk_at dksX1_refuse_1 5 rfl rfl)
theorem dX1_refuse_30 : decode cX1_refuse 30 = .ok (.getfield 98, 3) := dk_180 0 98 (dk_at dksX1_refuse_1 6 rfl rfl)
theorem dX1_refuse_33 : decode cX1_refuse 33 = .ok (.dup, 1) := dk_89 (dk_at dksX1_refuse_1 9 rfl rfl)
theorem dX1_refuse_34 : decode cX1_refuse 34 = .ok (.getfield 239, 3) := dk_180 0 239 (dk_at dksX1_refuse_1 10 rfl rfl)
theorem dX1_refuse_37 : decode cX1_refuse 37 = .ok (.iconst 1, 1) := dk_4 (dk_at dksX1_refuse_1 13 rfl rfl)
theorem dX1_refuse_38 : decode cX1_refuse 38 = .ok (.iload_n 1, 1) := dk_27 (dk_at dksX1_refuse_1 14 rfl rfl)
theorem dX1_refuse_39 : decode cX1_refuse 39 = .ok (.ishl, 1) := dk_120 (dk_at dksX1_refuse_1 15 rfl rfl)
theorem dX1_refuse_40 : decode cX1_refuse 40 = .ok (.ior, 1) := dk_128 (dk_at dksX1_refuse_1 16 rfl rfl)
theorem dX1_refuse_41 : decode cX1_refuse 41 = .ok (.putfield 239, 3) := dk_181 0 239 (dk_at dksX1_refuse_1 17 rfl rfl)
theorem dX1_refuse_44 : decode cX1_refuse 44 = .ok (.iconst 0, 1) := dk_3 (dk_at dksX1_refuse_1 20 rfl rfl)
theorem dX1_refuse_45 : decode cX1_refuse 45 = .ok (.ireturn, 1) := dk_172 (dk_at dksX1_refuse_1 21 rfl rfl)
abbrev cX1_accept : ByteArray := prog_1_method_24_code
def yX1_accept : MethodName := ⟨RX1, "accept", "(I)I"⟩
def dkwX1_accept_1 : List UInt8 := [172, 42, 182, 1, 38, 42, 180, 0, 98, 89, 180, 0, 239, 4, 27, 120, 2, 130, 126, 181, 0, 239, 3, 172]
abbrev dktX1_accept_1 : List UInt8 := dkwX1_accept_1 ++ []
def dkwX1_accept_0 : List UInt8 := [42, 27, 182, 0, 223, 154, 0, 5, 2, 172, 42, 180, 0, 98, 27, 182, 1, 62, 61, 28, 153, 0, 5, 28]
abbrev dktX1_accept_0 : List UInt8 := dkwX1_accept_0 ++ dktX1_accept_1
theorem dksX1_accept_0 : cX1_accept.data.toList.drop 0 = dktX1_accept_0 := by decide +kernel
theorem dksX1_accept_1 : cX1_accept.data.toList.drop 24 = dktX1_accept_1 := dk_seg dksX1_accept_0 24 rfl rfl
theorem dX1_accept_0 : decode cX1_accept 0 = .ok (.aload_n 0, 1) := dk_42 (dk_at dksX1_accept_0 0 rfl rfl)
theorem dX1_accept_1 : decode cX1_accept 1 = .ok (.iload_n 1, 1) := dk_27 (dk_at dksX1_accept_0 1 rfl rfl)
theorem dX1_accept_2 : decode cX1_accept 2 = .ok (.invokevirtual 223, 3) := dk_182 0 223 (dk_at dksX1_accept_0 2 rfl rfl)
theorem dX1_accept_5 : decode cX1_accept 5 = .ok (.ifCond .ne 5, 3) := dk_154 0 5 (dk_at dksX1_accept_0 5 rfl rfl)
theorem dX1_accept_8 : decode cX1_accept 8 = .ok (.iconst (-1), 1) := dk_2 (dk_at dksX1_accept_0 8 rfl rfl)
theorem dX1_accept_9 : decode cX1_accept 9 = .ok (.ireturn, 1) := dk_172 (dk_at dksX1_accept_0 9 rfl rfl)
theorem dX1_accept_10 : decode cX1_accept 10 = .ok (.aload_n 0, 1) := dk_42 (dk_at dksX1_accept_0 10 rfl rfl)
theorem dX1_accept_11 : decode cX1_accept 11 = .ok (.getfield 98, 3) := dk_180 0 98 (dk_at dksX1_accept_0 11 rfl rfl)
theorem dX1_accept_14 : decode cX1_accept 14 = .ok (.iload_n 1, 1) := dk_27 (dk_at dksX1_accept_0 14 rfl rfl)
theorem dX1_accept_15 : decode cX1_accept 15 = .ok (.invokevirtual 318, 3) := dk_182 1 62 (dk_at dksX1_accept_0 15 rfl rfl)
theorem dX1_accept_18 : decode cX1_accept 18 = .ok (.istore_n 2, 1) := dk_61 (dk_at dksX1_accept_0 18 rfl rfl)
theorem dX1_accept_19 : decode cX1_accept 19 = .ok (.iload_n 2, 1) := dk_28 (dk_at dksX1_accept_0 19 rfl rfl)
theorem dX1_accept_20 : decode cX1_accept 20 = .ok (.ifCond .eq 5, 3) := dk_153 0 5 (dk_at dksX1_accept_0 20 rfl rfl)
theorem dX1_accept_23 : decode cX1_accept 23 = .ok (.iload_n 2, 1) := dk_28 (dk_at dksX1_accept_0 23 rfl rfl)
theorem dX1_accept_24 : decode cX1_accept 24 = .ok (.ireturn, 1) := dk_172 (dk_at dksX1_accept_1 0 rfl rfl)
theorem dX1_accept_25 : decode cX1_accept 25 = .ok (.aload_n 0, 1) := dk_42 (dk_at dksX1_accept_1 1 rfl rfl)
theorem dX1_accept_26 : decode cX1_accept 26 = .ok (.invokevirtual 294, 3) := dk_182 1 38 (dk_at dksX1_accept_1 2 rfl rfl)
theorem dX1_accept_29 : decode cX1_accept 29 = .ok (.aload_n 0, 1) := dk_42 (dk_at dksX1_accept_1 5 rfl rfl)
theorem dX1_accept_30 : decode cX1_accept 30 = .ok (.getfield 98, 3) := dk_180 0 98 (dk_at dksX1_accept_1 6 rfl rfl)
theorem dX1_accept_33 : decode cX1_accept 33 = .ok (.dup, 1) := dk_89 (dk_at dksX1_accept_1 9 rfl rfl)
theorem dX1_accept_34 : decode cX1_accept 34 = .ok (.getfield 239, 3) := dk_180 0 239 (dk_at dksX1_accept_1 10 rfl rfl)
theorem dX1_accept_37 : decode cX1_accept 37 = .ok (.iconst 1, 1) := dk_4 (dk_at dksX1_accept_1 13 rfl rfl)
theorem dX1_accept_38 : decode cX1_accept 38 = .ok (.iload_n 1, 1) := dk_27 (dk_at dksX1_accept_1 14 rfl rfl)
theorem dX1_accept_39 : decode cX1_accept 39 = .ok (.ishl, 1) := dk_120 (dk_at dksX1_accept_1 15 rfl rfl)
theorem dX1_accept_40 : decode cX1_accept 40 = .ok (.iconst (-1), 1) := dk_2 (dk_at dksX1_accept_1 16 rfl rfl)
theorem dX1_accept_41 : decode cX1_accept 41 = .ok (.ixor, 1) := dk_130 (dk_at dksX1_accept_1 17 rfl rfl)
theorem dX1_accept_42 : decode cX1_accept 42 = .ok (.iand, 1) := dk_126 (dk_at dksX1_accept_1 18 rfl rfl)
theorem dX1_accept_43 : decode cX1_accept 43 = .ok (.putfield 239, 3) := dk_181 0 239 (dk_at dksX1_accept_1 19 rfl rfl)
theorem dX1_accept_46 : decode cX1_accept 46 = .ok (.iconst 0, 1) := dk_3 (dk_at dksX1_accept_1 22 rfl rfl)
theorem dX1_accept_47 : decode cX1_accept 47 = .ok (.ireturn, 1) := dk_172 (dk_at dksX1_accept_1 23 rfl rfl)
abbrev cX1_die : ByteArray := prog_1_method_25_code
def yX1_die : MethodName := ⟨RX1, "die", "(I)I"⟩
def dkwX1_die_1 : List UInt8 := [182, 1, 38, 42, 180, 0, 98, 42, 180, 0, 91, 27, 182, 1, 68, 3, 172]
abbrev dktX1_die_1 : List UInt8 := dkwX1_die_1 ++ []
def dkwX1_die_0 : List UInt8 := [42, 27, 182, 0, 223, 154, 0, 5, 2, 172, 42, 180, 0, 98, 27, 182, 1, 65, 153, 0, 5, 4, 172, 42]
abbrev dktX1_die_0 : List UInt8 := dkwX1_die_0 ++ dktX1_die_1
theorem dksX1_die_0 : cX1_die.data.toList.drop 0 = dktX1_die_0 := by decide +kernel
theorem dksX1_die_1 : cX1_die.data.toList.drop 24 = dktX1_die_1 := dk_seg dksX1_die_0 24 rfl rfl
theorem dX1_die_0 : decode cX1_die 0 = .ok (.aload_n 0, 1) := dk_42 (dk_at dksX1_die_0 0 rfl rfl)
theorem dX1_die_1 : decode cX1_die 1 = .ok (.iload_n 1, 1) := dk_27 (dk_at dksX1_die_0 1 rfl rfl)
theorem dX1_die_2 : decode cX1_die 2 = .ok (.invokevirtual 223, 3) := dk_182 0 223 (dk_at dksX1_die_0 2 rfl rfl)
theorem dX1_die_5 : decode cX1_die 5 = .ok (.ifCond .ne 5, 3) := dk_154 0 5 (dk_at dksX1_die_0 5 rfl rfl)
theorem dX1_die_8 : decode cX1_die 8 = .ok (.iconst (-1), 1) := dk_2 (dk_at dksX1_die_0 8 rfl rfl)
theorem dX1_die_9 : decode cX1_die 9 = .ok (.ireturn, 1) := dk_172 (dk_at dksX1_die_0 9 rfl rfl)
theorem dX1_die_10 : decode cX1_die 10 = .ok (.aload_n 0, 1) := dk_42 (dk_at dksX1_die_0 10 rfl rfl)
theorem dX1_die_11 : decode cX1_die 11 = .ok (.getfield 98, 3) := dk_180 0 98 (dk_at dksX1_die_0 11 rfl rfl)
theorem dX1_die_14 : decode cX1_die 14 = .ok (.iload_n 1, 1) := dk_27 (dk_at dksX1_die_0 14 rfl rfl)
theorem dX1_die_15 : decode cX1_die 15 = .ok (.invokevirtual 321, 3) := dk_182 1 65 (dk_at dksX1_die_0 15 rfl rfl)
theorem dX1_die_18 : decode cX1_die 18 = .ok (.ifCond .eq 5, 3) := dk_153 0 5 (dk_at dksX1_die_0 18 rfl rfl)
theorem dX1_die_21 : decode cX1_die 21 = .ok (.iconst 1, 1) := dk_4 (dk_at dksX1_die_0 21 rfl rfl)
theorem dX1_die_22 : decode cX1_die 22 = .ok (.ireturn, 1) := dk_172 (dk_at dksX1_die_0 22 rfl rfl)
theorem dX1_die_23 : decode cX1_die 23 = .ok (.aload_n 0, 1) := dk_42 (dk_at dksX1_die_0 23 rfl rfl)
theorem dX1_die_24 : decode cX1_die 24 = .ok (.invokevirtual 294, 3) := dk_182 1 38 (dk_at dksX1_die_1 0 rfl rfl)
theorem dX1_die_27 : decode cX1_die 27 = .ok (.aload_n 0, 1) := dk_42 (dk_at dksX1_die_1 3 rfl rfl)
theorem dX1_die_28 : decode cX1_die 28 = .ok (.getfield 98, 3) := dk_180 0 98 (dk_at dksX1_die_1 4 rfl rfl)
theorem dX1_die_31 : decode cX1_die 31 = .ok (.aload_n 0, 1) := dk_42 (dk_at dksX1_die_1 7 rfl rfl)
theorem dX1_die_32 : decode cX1_die 32 = .ok (.getfield 91, 3) := dk_180 0 91 (dk_at dksX1_die_1 8 rfl rfl)
theorem dX1_die_35 : decode cX1_die 35 = .ok (.iload_n 1, 1) := dk_27 (dk_at dksX1_die_1 11 rfl rfl)
theorem dX1_die_36 : decode cX1_die 36 = .ok (.invokevirtual 324, 3) := dk_182 1 68 (dk_at dksX1_die_1 12 rfl rfl)
theorem dX1_die_39 : decode cX1_die 39 = .ok (.iconst 0, 1) := dk_3 (dk_at dksX1_die_1 15 rfl rfl)
theorem dX1_die_40 : decode cX1_die 40 = .ok (.ireturn, 1) := dk_172 (dk_at dksX1_die_1 16 rfl rfl)
abbrev cX1_meals : ByteArray := prog_1_method_26_code
def yX1_meals : MethodName := ⟨RX1, "meals", "(I)I"⟩
def dkwX1_meals_1 : List UInt8 := [160, 0, 5, 3, 172, 42, 182, 1, 38, 42, 180, 0, 98, 42, 180, 0, 91, 27, 182, 1, 71, 172]
abbrev dktX1_meals_1 : List UInt8 := dkwX1_meals_1 ++ []
def dkwX1_meals_0 : List UInt8 := [27, 4, 16, 60, 184, 0, 216, 154, 0, 5, 2, 172, 42, 180, 0, 98, 180, 1, 11, 17, 0, 200]
abbrev dktX1_meals_0 : List UInt8 := dkwX1_meals_0 ++ dktX1_meals_1
theorem dksX1_meals_0 : cX1_meals.data.toList.drop 0 = dktX1_meals_0 := by decide +kernel
theorem dksX1_meals_1 : cX1_meals.data.toList.drop 22 = dktX1_meals_1 := dk_seg dksX1_meals_0 22 rfl rfl
theorem dX1_meals_0 : decode cX1_meals 0 = .ok (.iload_n 1, 1) := dk_27 (dk_at dksX1_meals_0 0 rfl rfl)
theorem dX1_meals_1 : decode cX1_meals 1 = .ok (.iconst 1, 1) := dk_4 (dk_at dksX1_meals_0 1 rfl rfl)
theorem dX1_meals_2 : decode cX1_meals 2 = .ok (.bipush 60, 2) := dk_16 60 (dk_at dksX1_meals_0 2 rfl rfl)
theorem dX1_meals_4 : decode cX1_meals 4 = .ok (.invokestatic 216, 3) := dk_184 0 216 (dk_at dksX1_meals_0 4 rfl rfl)
theorem dX1_meals_7 : decode cX1_meals 7 = .ok (.ifCond .ne 5, 3) := dk_154 0 5 (dk_at dksX1_meals_0 7 rfl rfl)
theorem dX1_meals_10 : decode cX1_meals 10 = .ok (.iconst (-1), 1) := dk_2 (dk_at dksX1_meals_0 10 rfl rfl)
theorem dX1_meals_11 : decode cX1_meals 11 = .ok (.ireturn, 1) := dk_172 (dk_at dksX1_meals_0 11 rfl rfl)
theorem dX1_meals_12 : decode cX1_meals 12 = .ok (.aload_n 0, 1) := dk_42 (dk_at dksX1_meals_0 12 rfl rfl)
theorem dX1_meals_13 : decode cX1_meals 13 = .ok (.getfield 98, 3) := dk_180 0 98 (dk_at dksX1_meals_0 13 rfl rfl)
theorem dX1_meals_16 : decode cX1_meals 16 = .ok (.getfield 267, 3) := dk_180 1 11 (dk_at dksX1_meals_0 16 rfl rfl)
theorem dX1_meals_19 : decode cX1_meals 19 = .ok (.sipush 200, 3) := dk_17 0 200 (dk_at dksX1_meals_0 19 rfl rfl)
theorem dX1_meals_22 : decode cX1_meals 22 = .ok (.if_icmp .ne 5, 3) := dk_160 0 5 (dk_at dksX1_meals_1 0 rfl rfl)
theorem dX1_meals_25 : decode cX1_meals 25 = .ok (.iconst 0, 1) := dk_3 (dk_at dksX1_meals_1 3 rfl rfl)
theorem dX1_meals_26 : decode cX1_meals 26 = .ok (.ireturn, 1) := dk_172 (dk_at dksX1_meals_1 4 rfl rfl)
theorem dX1_meals_27 : decode cX1_meals 27 = .ok (.aload_n 0, 1) := dk_42 (dk_at dksX1_meals_1 5 rfl rfl)
theorem dX1_meals_28 : decode cX1_meals 28 = .ok (.invokevirtual 294, 3) := dk_182 1 38 (dk_at dksX1_meals_1 6 rfl rfl)
theorem dX1_meals_31 : decode cX1_meals 31 = .ok (.aload_n 0, 1) := dk_42 (dk_at dksX1_meals_1 9 rfl rfl)
theorem dX1_meals_32 : decode cX1_meals 32 = .ok (.getfield 98, 3) := dk_180 0 98 (dk_at dksX1_meals_1 10 rfl rfl)
theorem dX1_meals_35 : decode cX1_meals 35 = .ok (.aload_n 0, 1) := dk_42 (dk_at dksX1_meals_1 13 rfl rfl)
theorem dX1_meals_36 : decode cX1_meals 36 = .ok (.getfield 91, 3) := dk_180 0 91 (dk_at dksX1_meals_1 14 rfl rfl)
theorem dX1_meals_39 : decode cX1_meals 39 = .ok (.iload_n 1, 1) := dk_27 (dk_at dksX1_meals_1 17 rfl rfl)
theorem dX1_meals_40 : decode cX1_meals 40 = .ok (.invokevirtual 327, 3) := dk_182 1 71 (dk_at dksX1_meals_1 18 rfl rfl)
theorem dX1_meals_43 : decode cX1_meals 43 = .ok (.ireturn, 1) := dk_172 (dk_at dksX1_meals_1 21 rfl rfl)
abbrev cX1_heir : ByteArray := prog_1_method_27_code
def yX1_heir : MethodName := ⟨RX1, "heir", "(I)I"⟩
def dkwX1_heir_1 : List UInt8 := [172]
abbrev dktX1_heir_1 : List UInt8 := dkwX1_heir_1 ++ []
def dkwX1_heir_0 : List UInt8 := [42, 27, 182, 0, 223, 153, 0, 18, 42, 180, 0, 98, 42, 180, 0, 91, 27, 182, 1, 74, 167, 0, 4, 2]
abbrev dktX1_heir_0 : List UInt8 := dkwX1_heir_0 ++ dktX1_heir_1
theorem dksX1_heir_0 : cX1_heir.data.toList.drop 0 = dktX1_heir_0 := by decide +kernel
theorem dksX1_heir_1 : cX1_heir.data.toList.drop 24 = dktX1_heir_1 := dk_seg dksX1_heir_0 24 rfl rfl
theorem dX1_heir_0 : decode cX1_heir 0 = .ok (.aload_n 0, 1) := dk_42 (dk_at dksX1_heir_0 0 rfl rfl)
theorem dX1_heir_1 : decode cX1_heir 1 = .ok (.iload_n 1, 1) := dk_27 (dk_at dksX1_heir_0 1 rfl rfl)
theorem dX1_heir_2 : decode cX1_heir 2 = .ok (.invokevirtual 223, 3) := dk_182 0 223 (dk_at dksX1_heir_0 2 rfl rfl)
theorem dX1_heir_5 : decode cX1_heir 5 = .ok (.ifCond .eq 18, 3) := dk_153 0 18 (dk_at dksX1_heir_0 5 rfl rfl)
theorem dX1_heir_8 : decode cX1_heir 8 = .ok (.aload_n 0, 1) := dk_42 (dk_at dksX1_heir_0 8 rfl rfl)
theorem dX1_heir_9 : decode cX1_heir 9 = .ok (.getfield 98, 3) := dk_180 0 98 (dk_at dksX1_heir_0 9 rfl rfl)
theorem dX1_heir_12 : decode cX1_heir 12 = .ok (.aload_n 0, 1) := dk_42 (dk_at dksX1_heir_0 12 rfl rfl)
theorem dX1_heir_13 : decode cX1_heir 13 = .ok (.getfield 91, 3) := dk_180 0 91 (dk_at dksX1_heir_0 13 rfl rfl)
theorem dX1_heir_16 : decode cX1_heir 16 = .ok (.iload_n 1, 1) := dk_27 (dk_at dksX1_heir_0 16 rfl rfl)
theorem dX1_heir_17 : decode cX1_heir 17 = .ok (.invokevirtual 330, 3) := dk_182 1 74 (dk_at dksX1_heir_0 17 rfl rfl)
theorem dX1_heir_20 : decode cX1_heir 20 = .ok (.goto 4, 3) := dk_167 0 4 (dk_at dksX1_heir_0 20 rfl rfl)
theorem dX1_heir_23 : decode cX1_heir 23 = .ok (.iconst (-1), 1) := dk_2 (dk_at dksX1_heir_0 23 rfl rfl)
theorem dX1_heir_24 : decode cX1_heir 24 = .ok (.ireturn, 1) := dk_172 (dk_at dksX1_heir_1 0 rfl rfl)
abbrev cX1_line : ByteArray := prog_1_method_28_code
def yX1_line : MethodName := ⟨RX1, "line", "(II)I"⟩
def dkwX1_line_3 : List UInt8 := [180, 0, 98, 42, 180, 0, 91, 27, 29, 182, 1, 77, 54, 4, 132, 5, 1, 167, 255, 219, 21, 4, 172]
abbrev dktX1_line_3 : List UInt8 := dkwX1_line_3 ++ []
def dkwX1_line_2 : List UInt8 := [54, 5, 21, 5, 28, 162, 0, 37, 21, 4, 2, 159, 0, 31, 29, 4, 21, 4, 120, 128, 62, 42]
abbrev dktX1_line_2 : List UInt8 := dkwX1_line_2 ++ dktX1_line_3
def dkwX1_line_1 : List UInt8 := [180, 0, 98, 180, 0, 239, 128, 62, 42, 180, 0, 98, 42, 180, 0, 91, 27, 29, 182, 1, 77, 54, 4, 3]
abbrev dktX1_line_1 : List UInt8 := dkwX1_line_1 ++ dktX1_line_2
def dkwX1_line_0 : List UInt8 := [42, 27, 182, 0, 223, 153, 0, 7, 28, 156, 0, 5, 2, 172, 42, 180, 0, 98, 180, 1, 14, 42]
abbrev dktX1_line_0 : List UInt8 := dkwX1_line_0 ++ dktX1_line_1
theorem dksX1_line_0 : cX1_line.data.toList.drop 0 = dktX1_line_0 := by decide +kernel
theorem dksX1_line_1 : cX1_line.data.toList.drop 22 = dktX1_line_1 := dk_seg dksX1_line_0 22 rfl rfl
theorem dksX1_line_2 : cX1_line.data.toList.drop 46 = dktX1_line_2 := dk_seg dksX1_line_1 24 rfl rfl
theorem dksX1_line_3 : cX1_line.data.toList.drop 68 = dktX1_line_3 := dk_seg dksX1_line_2 22 rfl rfl
theorem dX1_line_0 : decode cX1_line 0 = .ok (.aload_n 0, 1) := dk_42 (dk_at dksX1_line_0 0 rfl rfl)
theorem dX1_line_1 : decode cX1_line 1 = .ok (.iload_n 1, 1) := dk_27 (dk_at dksX1_line_0 1 rfl rfl)
theorem dX1_line_2 : decode cX1_line 2 = .ok (.invokevirtual 223, 3) := dk_182 0 223 (dk_at dksX1_line_0 2 rfl rfl)
theorem dX1_line_5 : decode cX1_line 5 = .ok (.ifCond .eq 7, 3) := dk_153 0 7 (dk_at dksX1_line_0 5 rfl rfl)
theorem dX1_line_8 : decode cX1_line 8 = .ok (.iload_n 2, 1) := dk_28 (dk_at dksX1_line_0 8 rfl rfl)
theorem dX1_line_9 : decode cX1_line 9 = .ok (.ifCond .ge 5, 3) := dk_156 0 5 (dk_at dksX1_line_0 9 rfl rfl)
theorem dX1_line_12 : decode cX1_line 12 = .ok (.iconst (-1), 1) := dk_2 (dk_at dksX1_line_0 12 rfl rfl)
theorem dX1_line_13 : decode cX1_line 13 = .ok (.ireturn, 1) := dk_172 (dk_at dksX1_line_0 13 rfl rfl)
theorem dX1_line_14 : decode cX1_line 14 = .ok (.aload_n 0, 1) := dk_42 (dk_at dksX1_line_0 14 rfl rfl)
theorem dX1_line_15 : decode cX1_line 15 = .ok (.getfield 98, 3) := dk_180 0 98 (dk_at dksX1_line_0 15 rfl rfl)
theorem dX1_line_18 : decode cX1_line 18 = .ok (.getfield 270, 3) := dk_180 1 14 (dk_at dksX1_line_0 18 rfl rfl)
theorem dX1_line_21 : decode cX1_line 21 = .ok (.aload_n 0, 1) := dk_42 (dk_at dksX1_line_0 21 rfl rfl)
theorem dX1_line_22 : decode cX1_line 22 = .ok (.getfield 98, 3) := dk_180 0 98 (dk_at dksX1_line_1 0 rfl rfl)
theorem dX1_line_25 : decode cX1_line 25 = .ok (.getfield 239, 3) := dk_180 0 239 (dk_at dksX1_line_1 3 rfl rfl)
theorem dX1_line_28 : decode cX1_line 28 = .ok (.ior, 1) := dk_128 (dk_at dksX1_line_1 6 rfl rfl)
theorem dX1_line_29 : decode cX1_line 29 = .ok (.istore_n 3, 1) := dk_62 (dk_at dksX1_line_1 7 rfl rfl)
theorem dX1_line_30 : decode cX1_line 30 = .ok (.aload_n 0, 1) := dk_42 (dk_at dksX1_line_1 8 rfl rfl)
theorem dX1_line_31 : decode cX1_line 31 = .ok (.getfield 98, 3) := dk_180 0 98 (dk_at dksX1_line_1 9 rfl rfl)
theorem dX1_line_34 : decode cX1_line 34 = .ok (.aload_n 0, 1) := dk_42 (dk_at dksX1_line_1 12 rfl rfl)
theorem dX1_line_35 : decode cX1_line 35 = .ok (.getfield 91, 3) := dk_180 0 91 (dk_at dksX1_line_1 13 rfl rfl)
theorem dX1_line_38 : decode cX1_line 38 = .ok (.iload_n 1, 1) := dk_27 (dk_at dksX1_line_1 16 rfl rfl)
theorem dX1_line_39 : decode cX1_line 39 = .ok (.iload_n 3, 1) := dk_29 (dk_at dksX1_line_1 17 rfl rfl)
theorem dX1_line_40 : decode cX1_line 40 = .ok (.invokevirtual 333, 3) := dk_182 1 77 (dk_at dksX1_line_1 18 rfl rfl)
theorem dX1_line_43 : decode cX1_line 43 = .ok (.istore 4, 2) := dk_54 4 (dk_at dksX1_line_1 21 rfl rfl)
theorem dX1_line_45 : decode cX1_line 45 = .ok (.iconst 0, 1) := dk_3 (dk_at dksX1_line_1 23 rfl rfl)
theorem dX1_line_46 : decode cX1_line 46 = .ok (.istore 5, 2) := dk_54 5 (dk_at dksX1_line_2 0 rfl rfl)
theorem dX1_line_48 : decode cX1_line 48 = .ok (.iload 5, 2) := dk_21 5 (dk_at dksX1_line_2 2 rfl rfl)
theorem dX1_line_50 : decode cX1_line 50 = .ok (.iload_n 2, 1) := dk_28 (dk_at dksX1_line_2 4 rfl rfl)
theorem dX1_line_51 : decode cX1_line 51 = .ok (.if_icmp .ge 37, 3) := dk_162 0 37 (dk_at dksX1_line_2 5 rfl rfl)
theorem dX1_line_54 : decode cX1_line 54 = .ok (.iload 4, 2) := dk_21 4 (dk_at dksX1_line_2 8 rfl rfl)
theorem dX1_line_56 : decode cX1_line 56 = .ok (.iconst (-1), 1) := dk_2 (dk_at dksX1_line_2 10 rfl rfl)
theorem dX1_line_57 : decode cX1_line 57 = .ok (.if_icmp .eq 31, 3) := dk_159 0 31 (dk_at dksX1_line_2 11 rfl rfl)
theorem dX1_line_60 : decode cX1_line 60 = .ok (.iload_n 3, 1) := dk_29 (dk_at dksX1_line_2 14 rfl rfl)
theorem dX1_line_61 : decode cX1_line 61 = .ok (.iconst 1, 1) := dk_4 (dk_at dksX1_line_2 15 rfl rfl)
theorem dX1_line_62 : decode cX1_line 62 = .ok (.iload 4, 2) := dk_21 4 (dk_at dksX1_line_2 16 rfl rfl)
theorem dX1_line_64 : decode cX1_line 64 = .ok (.ishl, 1) := dk_120 (dk_at dksX1_line_2 18 rfl rfl)
theorem dX1_line_65 : decode cX1_line 65 = .ok (.ior, 1) := dk_128 (dk_at dksX1_line_2 19 rfl rfl)
theorem dX1_line_66 : decode cX1_line 66 = .ok (.istore_n 3, 1) := dk_62 (dk_at dksX1_line_2 20 rfl rfl)
theorem dX1_line_67 : decode cX1_line 67 = .ok (.aload_n 0, 1) := dk_42 (dk_at dksX1_line_2 21 rfl rfl)
theorem dX1_line_68 : decode cX1_line 68 = .ok (.getfield 98, 3) := dk_180 0 98 (dk_at dksX1_line_3 0 rfl rfl)
theorem dX1_line_71 : decode cX1_line 71 = .ok (.aload_n 0, 1) := dk_42 (dk_at dksX1_line_3 3 rfl rfl)
theorem dX1_line_72 : decode cX1_line 72 = .ok (.getfield 91, 3) := dk_180 0 91 (dk_at dksX1_line_3 4 rfl rfl)
theorem dX1_line_75 : decode cX1_line 75 = .ok (.iload_n 1, 1) := dk_27 (dk_at dksX1_line_3 7 rfl rfl)
theorem dX1_line_76 : decode cX1_line 76 = .ok (.iload_n 3, 1) := dk_29 (dk_at dksX1_line_3 8 rfl rfl)
theorem dX1_line_77 : decode cX1_line 77 = .ok (.invokevirtual 333, 3) := dk_182 1 77 (dk_at dksX1_line_3 9 rfl rfl)
theorem dX1_line_80 : decode cX1_line 80 = .ok (.istore 4, 2) := dk_54 4 (dk_at dksX1_line_3 12 rfl rfl)
theorem dX1_line_82 : decode cX1_line 82 = .ok (.iinc 5 1, 3) := dk_132 5 1 (dk_at dksX1_line_3 14 rfl rfl)
theorem dX1_line_85 : decode cX1_line 85 = .ok (.goto (-37), 3) := dk_167 255 219 (dk_at dksX1_line_3 17 rfl rfl)
theorem dX1_line_88 : decode cX1_line 88 = .ok (.iload 4, 2) := dk_21 4 (dk_at dksX1_line_3 20 rfl rfl)
theorem dX1_line_90 : decode cX1_line 90 = .ok (.ireturn, 1) := dk_172 (dk_at dksX1_line_3 22 rfl rfl)
abbrev cX1_order : ByteArray := prog_1_method_31_code
def yX1_order : MethodName := ⟨RX1, "order", "()I"⟩
def dkwX1_order_2 : List UInt8 := [182, 1, 97, 182, 1, 93, 42, 180, 1, 83, 172]
abbrev dktX1_order_2 : List UInt8 := dkwX1_order_2 ++ []
def dkwX1_order_1 : List UInt8 := [180, 0, 129, 3, 50, 42, 180, 0, 98, 182, 1, 30, 42, 19, 1, 96, 181, 1, 83, 42, 3, 42]
abbrev dktX1_order_1 : List UInt8 := dkwX1_order_1 ++ dktX1_order_2
def dkwX1_order_0 : List UInt8 := [42, 180, 0, 129, 3, 50, 199, 0, 16, 42, 180, 0, 129, 3, 187, 0, 95, 89, 183, 0, 97, 83, 42]
abbrev dktX1_order_0 : List UInt8 := dkwX1_order_0 ++ dktX1_order_1
theorem dksX1_order_0 : cX1_order.data.toList.drop 0 = dktX1_order_0 := by decide +kernel
theorem dksX1_order_1 : cX1_order.data.toList.drop 23 = dktX1_order_1 := dk_seg dksX1_order_0 23 rfl rfl
theorem dksX1_order_2 : cX1_order.data.toList.drop 45 = dktX1_order_2 := dk_seg dksX1_order_1 22 rfl rfl
theorem dX1_order_0 : decode cX1_order 0 = .ok (.aload_n 0, 1) := dk_42 (dk_at dksX1_order_0 0 rfl rfl)
theorem dX1_order_1 : decode cX1_order 1 = .ok (.getfield 129, 3) := dk_180 0 129 (dk_at dksX1_order_0 1 rfl rfl)
theorem dX1_order_4 : decode cX1_order 4 = .ok (.iconst 0, 1) := dk_3 (dk_at dksX1_order_0 4 rfl rfl)
theorem dX1_order_5 : decode cX1_order 5 = .ok (.aaload, 1) := dk_50 (dk_at dksX1_order_0 5 rfl rfl)
theorem dX1_order_6 : decode cX1_order 6 = .ok (.ifnonnull 16, 3) := dk_199 0 16 (dk_at dksX1_order_0 6 rfl rfl)
theorem dX1_order_9 : decode cX1_order 9 = .ok (.aload_n 0, 1) := dk_42 (dk_at dksX1_order_0 9 rfl rfl)
theorem dX1_order_10 : decode cX1_order 10 = .ok (.getfield 129, 3) := dk_180 0 129 (dk_at dksX1_order_0 10 rfl rfl)
theorem dX1_order_13 : decode cX1_order 13 = .ok (.iconst 0, 1) := dk_3 (dk_at dksX1_order_0 13 rfl rfl)
theorem dX1_order_14 : decode cX1_order 14 = .ok (.new 95, 3) := dk_187 0 95 (dk_at dksX1_order_0 14 rfl rfl)
theorem dX1_order_17 : decode cX1_order 17 = .ok (.dup, 1) := dk_89 (dk_at dksX1_order_0 17 rfl rfl)
theorem dX1_order_18 : decode cX1_order 18 = .ok (.invokespecial 97, 3) := dk_183 0 97 (dk_at dksX1_order_0 18 rfl rfl)
theorem dX1_order_21 : decode cX1_order 21 = .ok (.aastore, 1) := dk_83 (dk_at dksX1_order_0 21 rfl rfl)
theorem dX1_order_22 : decode cX1_order 22 = .ok (.aload_n 0, 1) := dk_42 (dk_at dksX1_order_0 22 rfl rfl)
theorem dX1_order_23 : decode cX1_order 23 = .ok (.getfield 129, 3) := dk_180 0 129 (dk_at dksX1_order_1 0 rfl rfl)
theorem dX1_order_26 : decode cX1_order 26 = .ok (.iconst 0, 1) := dk_3 (dk_at dksX1_order_1 3 rfl rfl)
theorem dX1_order_27 : decode cX1_order 27 = .ok (.aaload, 1) := dk_50 (dk_at dksX1_order_1 4 rfl rfl)
theorem dX1_order_28 : decode cX1_order 28 = .ok (.aload_n 0, 1) := dk_42 (dk_at dksX1_order_1 5 rfl rfl)
theorem dX1_order_29 : decode cX1_order 29 = .ok (.getfield 98, 3) := dk_180 0 98 (dk_at dksX1_order_1 6 rfl rfl)
theorem dX1_order_32 : decode cX1_order 32 = .ok (.invokevirtual 286, 3) := dk_182 1 30 (dk_at dksX1_order_1 9 rfl rfl)
theorem dX1_order_35 : decode cX1_order 35 = .ok (.aload_n 0, 1) := dk_42 (dk_at dksX1_order_1 12 rfl rfl)
theorem dX1_order_36 : decode cX1_order 36 = .ok (.ldc_w 352, 3) := dk_19 1 96 (dk_at dksX1_order_1 13 rfl rfl)
theorem dX1_order_39 : decode cX1_order 39 = .ok (.putfield 339, 3) := dk_181 1 83 (dk_at dksX1_order_1 16 rfl rfl)
theorem dX1_order_42 : decode cX1_order 42 = .ok (.aload_n 0, 1) := dk_42 (dk_at dksX1_order_1 19 rfl rfl)
theorem dX1_order_43 : decode cX1_order 43 = .ok (.iconst 0, 1) := dk_3 (dk_at dksX1_order_1 20 rfl rfl)
theorem dX1_order_44 : decode cX1_order 44 = .ok (.aload_n 0, 1) := dk_42 (dk_at dksX1_order_1 21 rfl rfl)
theorem dX1_order_45 : decode cX1_order 45 = .ok (.invokevirtual 353, 3) := dk_182 1 97 (dk_at dksX1_order_2 0 rfl rfl)
theorem dX1_order_48 : decode cX1_order 48 = .ok (.invokevirtual 349, 3) := dk_182 1 93 (dk_at dksX1_order_2 3 rfl rfl)
theorem dX1_order_51 : decode cX1_order 51 = .ok (.aload_n 0, 1) := dk_42 (dk_at dksX1_order_2 6 rfl rfl)
theorem dX1_order_52 : decode cX1_order 52 = .ok (.getfield 339, 3) := dk_180 1 83 (dk_at dksX1_order_2 7 rfl rfl)
theorem dX1_order_55 : decode cX1_order 55 = .ok (.ireturn, 1) := dk_172 (dk_at dksX1_order_2 10 rfl rfl)
abbrev cX1_living : ByteArray := prog_1_method_30_code
def yX1_living : MethodName := ⟨RX1, "living", "()I"⟩
def dkwX1_living_0 : List UInt8 := [4, 42, 180, 0, 91, 180, 0, 213, 120, 4, 100, 42, 180, 0, 98, 180, 1, 14, 2, 130, 126, 172]
abbrev dktX1_living_0 : List UInt8 := dkwX1_living_0 ++ []
theorem dksX1_living_0 : cX1_living.data.toList.drop 0 = dktX1_living_0 := by decide +kernel
theorem dX1_living_0 : decode cX1_living 0 = .ok (.iconst 1, 1) := dk_4 (dk_at dksX1_living_0 0 rfl rfl)
theorem dX1_living_1 : decode cX1_living 1 = .ok (.aload_n 0, 1) := dk_42 (dk_at dksX1_living_0 1 rfl rfl)
theorem dX1_living_2 : decode cX1_living 2 = .ok (.getfield 91, 3) := dk_180 0 91 (dk_at dksX1_living_0 2 rfl rfl)
theorem dX1_living_5 : decode cX1_living 5 = .ok (.getfield 213, 3) := dk_180 0 213 (dk_at dksX1_living_0 5 rfl rfl)
theorem dX1_living_8 : decode cX1_living 8 = .ok (.ishl, 1) := dk_120 (dk_at dksX1_living_0 8 rfl rfl)
theorem dX1_living_9 : decode cX1_living 9 = .ok (.iconst 1, 1) := dk_4 (dk_at dksX1_living_0 9 rfl rfl)
theorem dX1_living_10 : decode cX1_living 10 = .ok (.isub, 1) := dk_100 (dk_at dksX1_living_0 10 rfl rfl)
theorem dX1_living_11 : decode cX1_living 11 = .ok (.aload_n 0, 1) := dk_42 (dk_at dksX1_living_0 11 rfl rfl)
theorem dX1_living_12 : decode cX1_living 12 = .ok (.getfield 98, 3) := dk_180 0 98 (dk_at dksX1_living_0 12 rfl rfl)
theorem dX1_living_15 : decode cX1_living 15 = .ok (.getfield 270, 3) := dk_180 1 14 (dk_at dksX1_living_0 15 rfl rfl)
theorem dX1_living_18 : decode cX1_living 18 = .ok (.iconst (-1), 1) := dk_2 (dk_at dksX1_living_0 18 rfl rfl)
theorem dX1_living_19 : decode cX1_living 19 = .ok (.ixor, 1) := dk_130 (dk_at dksX1_living_0 19 rfl rfl)
theorem dX1_living_20 : decode cX1_living 20 = .ok (.iand, 1) := dk_126 (dk_at dksX1_living_0 20 rfl rfl)
theorem dX1_living_21 : decode cX1_living 21 = .ok (.ireturn, 1) := dk_172 (dk_at dksX1_living_0 21 rfl rfl)
abbrev cX1_orders : ByteArray := prog_1_method_29_code
def yX1_orders : MethodName := ⟨RX1, "orders", "(II)V"⟩
def dkwX1_orders_7 : List UInt8 := [29, 29, 4, 100, 126, 62, 167, 255, 166, 177]
abbrev dktX1_orders_7 : List UInt8 := dkwX1_orders_7 ++ []
def dkwX1_orders_6 : List UInt8 := [42, 180, 0, 91, 21, 4, 182, 1, 55, 42, 27, 4, 96, 28, 4, 21, 4, 120, 2, 130, 126, 182, 1, 93]
abbrev dktX1_orders_6 : List UInt8 := dkwX1_orders_6 ++ dktX1_orders_7
def dkwX1_orders_5 : List UInt8 := [180, 0, 129, 27, 4, 96, 50, 42, 180, 0, 91, 21, 4, 182, 1, 91, 42, 180, 0, 129, 27, 4, 96, 50]
abbrev dktX1_orders_5 : List UInt8 := dkwX1_orders_5 ++ dktX1_orders_6
def dkwX1_orders_4 : List UInt8 := [27, 21, 4, 79, 42, 180, 0, 129, 27, 4, 96, 50, 42, 180, 0, 129, 27, 50, 182, 1, 30, 42]
abbrev dktX1_orders_4 : List UInt8 := dkwX1_orders_4 ++ dktX1_orders_5
def dkwX1_orders_3 : List UInt8 := [187, 0, 95, 89, 183, 0, 97, 83, 28, 62, 29, 153, 0, 92, 29, 184, 1, 86, 54, 4, 42, 180, 0, 132]
abbrev dktX1_orders_3 : List UInt8 := dkwX1_orders_3 ++ dktX1_orders_4
def dkwX1_orders_2 : List UInt8 := [16, 7, 184, 1, 24, 177, 42, 180, 0, 129, 27, 4, 96, 50, 199, 0, 18, 42, 180, 0, 129, 27, 4, 96]
abbrev dktX1_orders_2 : List UInt8 := dkwX1_orders_2 ++ dktX1_orders_3
def dkwX1_orders_1 : List UInt8 := [161, 0, 4, 177, 42, 29, 181, 1, 83, 42, 27, 181, 0, 139, 42, 180, 0, 132, 3, 42, 180, 0, 136, 3]
abbrev dktX1_orders_1 : List UInt8 := dkwX1_orders_1 ++ dktX1_orders_2
def dkwX1_orders_0 : List UInt8 := [28, 154, 0, 52, 42, 180, 0, 129, 27, 50, 42, 180, 0, 91, 182, 1, 80, 62, 29, 42, 180, 1, 83]
abbrev dktX1_orders_0 : List UInt8 := dkwX1_orders_0 ++ dktX1_orders_1
theorem dksX1_orders_0 : cX1_orders.data.toList.drop 0 = dktX1_orders_0 := by decide +kernel
theorem dksX1_orders_1 : cX1_orders.data.toList.drop 23 = dktX1_orders_1 := dk_seg dksX1_orders_0 23 rfl rfl
theorem dksX1_orders_2 : cX1_orders.data.toList.drop 47 = dktX1_orders_2 := dk_seg dksX1_orders_1 24 rfl rfl
theorem dksX1_orders_3 : cX1_orders.data.toList.drop 71 = dktX1_orders_3 := dk_seg dksX1_orders_2 24 rfl rfl
theorem dksX1_orders_4 : cX1_orders.data.toList.drop 95 = dktX1_orders_4 := dk_seg dksX1_orders_3 24 rfl rfl
theorem dksX1_orders_5 : cX1_orders.data.toList.drop 117 = dktX1_orders_5 := dk_seg dksX1_orders_4 22 rfl rfl
theorem dksX1_orders_6 : cX1_orders.data.toList.drop 141 = dktX1_orders_6 := dk_seg dksX1_orders_5 24 rfl rfl
theorem dksX1_orders_7 : cX1_orders.data.toList.drop 165 = dktX1_orders_7 := dk_seg dksX1_orders_6 24 rfl rfl
theorem dX1_orders_0 : decode cX1_orders 0 = .ok (.iload_n 2, 1) := dk_28 (dk_at dksX1_orders_0 0 rfl rfl)
theorem dX1_orders_1 : decode cX1_orders 1 = .ok (.ifCond .ne 52, 3) := dk_154 0 52 (dk_at dksX1_orders_0 1 rfl rfl)
theorem dX1_orders_4 : decode cX1_orders 4 = .ok (.aload_n 0, 1) := dk_42 (dk_at dksX1_orders_0 4 rfl rfl)
theorem dX1_orders_5 : decode cX1_orders 5 = .ok (.getfield 129, 3) := dk_180 0 129 (dk_at dksX1_orders_0 5 rfl rfl)
theorem dX1_orders_8 : decode cX1_orders 8 = .ok (.iload_n 1, 1) := dk_27 (dk_at dksX1_orders_0 8 rfl rfl)
theorem dX1_orders_9 : decode cX1_orders 9 = .ok (.aaload, 1) := dk_50 (dk_at dksX1_orders_0 9 rfl rfl)
theorem dX1_orders_10 : decode cX1_orders 10 = .ok (.aload_n 0, 1) := dk_42 (dk_at dksX1_orders_0 10 rfl rfl)
theorem dX1_orders_11 : decode cX1_orders 11 = .ok (.getfield 91, 3) := dk_180 0 91 (dk_at dksX1_orders_0 11 rfl rfl)
theorem dX1_orders_14 : decode cX1_orders 14 = .ok (.invokevirtual 336, 3) := dk_182 1 80 (dk_at dksX1_orders_0 14 rfl rfl)
theorem dX1_orders_17 : decode cX1_orders 17 = .ok (.istore_n 3, 1) := dk_62 (dk_at dksX1_orders_0 17 rfl rfl)
theorem dX1_orders_18 : decode cX1_orders 18 = .ok (.iload_n 3, 1) := dk_29 (dk_at dksX1_orders_0 18 rfl rfl)
theorem dX1_orders_19 : decode cX1_orders 19 = .ok (.aload_n 0, 1) := dk_42 (dk_at dksX1_orders_0 19 rfl rfl)
theorem dX1_orders_20 : decode cX1_orders 20 = .ok (.getfield 339, 3) := dk_180 1 83 (dk_at dksX1_orders_0 20 rfl rfl)
theorem dX1_orders_23 : decode cX1_orders 23 = .ok (.if_icmp .lt 4, 3) := dk_161 0 4 (dk_at dksX1_orders_1 0 rfl rfl)
theorem dX1_orders_26 : decode cX1_orders 26 = .ok (.return_, 1) := dk_177 (dk_at dksX1_orders_1 3 rfl rfl)
theorem dX1_orders_27 : decode cX1_orders 27 = .ok (.aload_n 0, 1) := dk_42 (dk_at dksX1_orders_1 4 rfl rfl)
theorem dX1_orders_28 : decode cX1_orders 28 = .ok (.iload_n 3, 1) := dk_29 (dk_at dksX1_orders_1 5 rfl rfl)
theorem dX1_orders_29 : decode cX1_orders 29 = .ok (.putfield 339, 3) := dk_181 1 83 (dk_at dksX1_orders_1 6 rfl rfl)
theorem dX1_orders_32 : decode cX1_orders 32 = .ok (.aload_n 0, 1) := dk_42 (dk_at dksX1_orders_1 9 rfl rfl)
theorem dX1_orders_33 : decode cX1_orders 33 = .ok (.iload_n 1, 1) := dk_27 (dk_at dksX1_orders_1 10 rfl rfl)
theorem dX1_orders_34 : decode cX1_orders 34 = .ok (.putfield 139, 3) := dk_181 0 139 (dk_at dksX1_orders_1 11 rfl rfl)
theorem dX1_orders_37 : decode cX1_orders 37 = .ok (.aload_n 0, 1) := dk_42 (dk_at dksX1_orders_1 14 rfl rfl)
theorem dX1_orders_38 : decode cX1_orders 38 = .ok (.getfield 132, 3) := dk_180 0 132 (dk_at dksX1_orders_1 15 rfl rfl)
theorem dX1_orders_41 : decode cX1_orders 41 = .ok (.iconst 0, 1) := dk_3 (dk_at dksX1_orders_1 18 rfl rfl)
theorem dX1_orders_42 : decode cX1_orders 42 = .ok (.aload_n 0, 1) := dk_42 (dk_at dksX1_orders_1 19 rfl rfl)
theorem dX1_orders_43 : decode cX1_orders 43 = .ok (.getfield 136, 3) := dk_180 0 136 (dk_at dksX1_orders_1 20 rfl rfl)
theorem dX1_orders_46 : decode cX1_orders 46 = .ok (.iconst 0, 1) := dk_3 (dk_at dksX1_orders_1 23 rfl rfl)
theorem dX1_orders_47 : decode cX1_orders 47 = .ok (.bipush 7, 2) := dk_16 7 (dk_at dksX1_orders_2 0 rfl rfl)
theorem dX1_orders_49 : decode cX1_orders 49 = .ok (.invokestatic 280, 3) := dk_184 1 24 (dk_at dksX1_orders_2 2 rfl rfl)
theorem dX1_orders_52 : decode cX1_orders 52 = .ok (.return_, 1) := dk_177 (dk_at dksX1_orders_2 5 rfl rfl)
theorem dX1_orders_53 : decode cX1_orders 53 = .ok (.aload_n 0, 1) := dk_42 (dk_at dksX1_orders_2 6 rfl rfl)
theorem dX1_orders_54 : decode cX1_orders 54 = .ok (.getfield 129, 3) := dk_180 0 129 (dk_at dksX1_orders_2 7 rfl rfl)
theorem dX1_orders_57 : decode cX1_orders 57 = .ok (.iload_n 1, 1) := dk_27 (dk_at dksX1_orders_2 10 rfl rfl)
theorem dX1_orders_58 : decode cX1_orders 58 = .ok (.iconst 1, 1) := dk_4 (dk_at dksX1_orders_2 11 rfl rfl)
theorem dX1_orders_59 : decode cX1_orders 59 = .ok (.iadd, 1) := dk_96 (dk_at dksX1_orders_2 12 rfl rfl)
theorem dX1_orders_60 : decode cX1_orders 60 = .ok (.aaload, 1) := dk_50 (dk_at dksX1_orders_2 13 rfl rfl)
theorem dX1_orders_61 : decode cX1_orders 61 = .ok (.ifnonnull 18, 3) := dk_199 0 18 (dk_at dksX1_orders_2 14 rfl rfl)
theorem dX1_orders_64 : decode cX1_orders 64 = .ok (.aload_n 0, 1) := dk_42 (dk_at dksX1_orders_2 17 rfl rfl)
theorem dX1_orders_65 : decode cX1_orders 65 = .ok (.getfield 129, 3) := dk_180 0 129 (dk_at dksX1_orders_2 18 rfl rfl)
theorem dX1_orders_68 : decode cX1_orders 68 = .ok (.iload_n 1, 1) := dk_27 (dk_at dksX1_orders_2 21 rfl rfl)
theorem dX1_orders_69 : decode cX1_orders 69 = .ok (.iconst 1, 1) := dk_4 (dk_at dksX1_orders_2 22 rfl rfl)
theorem dX1_orders_70 : decode cX1_orders 70 = .ok (.iadd, 1) := dk_96 (dk_at dksX1_orders_2 23 rfl rfl)
theorem dX1_orders_71 : decode cX1_orders 71 = .ok (.new 95, 3) := dk_187 0 95 (dk_at dksX1_orders_3 0 rfl rfl)
theorem dX1_orders_74 : decode cX1_orders 74 = .ok (.dup, 1) := dk_89 (dk_at dksX1_orders_3 3 rfl rfl)
theorem dX1_orders_75 : decode cX1_orders 75 = .ok (.invokespecial 97, 3) := dk_183 0 97 (dk_at dksX1_orders_3 4 rfl rfl)
theorem dX1_orders_78 : decode cX1_orders 78 = .ok (.aastore, 1) := dk_83 (dk_at dksX1_orders_3 7 rfl rfl)
theorem dX1_orders_79 : decode cX1_orders 79 = .ok (.iload_n 2, 1) := dk_28 (dk_at dksX1_orders_3 8 rfl rfl)
theorem dX1_orders_80 : decode cX1_orders 80 = .ok (.istore_n 3, 1) := dk_62 (dk_at dksX1_orders_3 9 rfl rfl)
theorem dX1_orders_81 : decode cX1_orders 81 = .ok (.iload_n 3, 1) := dk_29 (dk_at dksX1_orders_3 10 rfl rfl)
theorem dX1_orders_82 : decode cX1_orders 82 = .ok (.ifCond .eq 92, 3) := dk_153 0 92 (dk_at dksX1_orders_3 11 rfl rfl)
theorem dX1_orders_85 : decode cX1_orders 85 = .ok (.iload_n 3, 1) := dk_29 (dk_at dksX1_orders_3 14 rfl rfl)
theorem dX1_orders_86 : decode cX1_orders 86 = .ok (.invokestatic 342, 3) := dk_184 1 86 (dk_at dksX1_orders_3 15 rfl rfl)
theorem dX1_orders_89 : decode cX1_orders 89 = .ok (.istore 4, 2) := dk_54 4 (dk_at dksX1_orders_3 18 rfl rfl)
theorem dX1_orders_91 : decode cX1_orders 91 = .ok (.aload_n 0, 1) := dk_42 (dk_at dksX1_orders_3 20 rfl rfl)
theorem dX1_orders_92 : decode cX1_orders 92 = .ok (.getfield 132, 3) := dk_180 0 132 (dk_at dksX1_orders_3 21 rfl rfl)
theorem dX1_orders_95 : decode cX1_orders 95 = .ok (.iload_n 1, 1) := dk_27 (dk_at dksX1_orders_4 0 rfl rfl)
theorem dX1_orders_96 : decode cX1_orders 96 = .ok (.iload 4, 2) := dk_21 4 (dk_at dksX1_orders_4 1 rfl rfl)
theorem dX1_orders_98 : decode cX1_orders 98 = .ok (.iastore, 1) := dk_79 (dk_at dksX1_orders_4 3 rfl rfl)
theorem dX1_orders_99 : decode cX1_orders 99 = .ok (.aload_n 0, 1) := dk_42 (dk_at dksX1_orders_4 4 rfl rfl)
theorem dX1_orders_100 : decode cX1_orders 100 = .ok (.getfield 129, 3) := dk_180 0 129 (dk_at dksX1_orders_4 5 rfl rfl)
theorem dX1_orders_103 : decode cX1_orders 103 = .ok (.iload_n 1, 1) := dk_27 (dk_at dksX1_orders_4 8 rfl rfl)
theorem dX1_orders_104 : decode cX1_orders 104 = .ok (.iconst 1, 1) := dk_4 (dk_at dksX1_orders_4 9 rfl rfl)
theorem dX1_orders_105 : decode cX1_orders 105 = .ok (.iadd, 1) := dk_96 (dk_at dksX1_orders_4 10 rfl rfl)
theorem dX1_orders_106 : decode cX1_orders 106 = .ok (.aaload, 1) := dk_50 (dk_at dksX1_orders_4 11 rfl rfl)
theorem dX1_orders_107 : decode cX1_orders 107 = .ok (.aload_n 0, 1) := dk_42 (dk_at dksX1_orders_4 12 rfl rfl)
theorem dX1_orders_108 : decode cX1_orders 108 = .ok (.getfield 129, 3) := dk_180 0 129 (dk_at dksX1_orders_4 13 rfl rfl)
theorem dX1_orders_111 : decode cX1_orders 111 = .ok (.iload_n 1, 1) := dk_27 (dk_at dksX1_orders_4 16 rfl rfl)
theorem dX1_orders_112 : decode cX1_orders 112 = .ok (.aaload, 1) := dk_50 (dk_at dksX1_orders_4 17 rfl rfl)
theorem dX1_orders_113 : decode cX1_orders 113 = .ok (.invokevirtual 286, 3) := dk_182 1 30 (dk_at dksX1_orders_4 18 rfl rfl)
theorem dX1_orders_116 : decode cX1_orders 116 = .ok (.aload_n 0, 1) := dk_42 (dk_at dksX1_orders_4 21 rfl rfl)
theorem dX1_orders_117 : decode cX1_orders 117 = .ok (.getfield 129, 3) := dk_180 0 129 (dk_at dksX1_orders_5 0 rfl rfl)
theorem dX1_orders_120 : decode cX1_orders 120 = .ok (.iload_n 1, 1) := dk_27 (dk_at dksX1_orders_5 3 rfl rfl)
theorem dX1_orders_121 : decode cX1_orders 121 = .ok (.iconst 1, 1) := dk_4 (dk_at dksX1_orders_5 4 rfl rfl)
theorem dX1_orders_122 : decode cX1_orders 122 = .ok (.iadd, 1) := dk_96 (dk_at dksX1_orders_5 5 rfl rfl)
theorem dX1_orders_123 : decode cX1_orders 123 = .ok (.aaload, 1) := dk_50 (dk_at dksX1_orders_5 6 rfl rfl)
theorem dX1_orders_124 : decode cX1_orders 124 = .ok (.aload_n 0, 1) := dk_42 (dk_at dksX1_orders_5 7 rfl rfl)
theorem dX1_orders_125 : decode cX1_orders 125 = .ok (.getfield 91, 3) := dk_180 0 91 (dk_at dksX1_orders_5 8 rfl rfl)
theorem dX1_orders_128 : decode cX1_orders 128 = .ok (.iload 4, 2) := dk_21 4 (dk_at dksX1_orders_5 11 rfl rfl)
theorem dX1_orders_130 : decode cX1_orders 130 = .ok (.invokevirtual 347, 3) := dk_182 1 91 (dk_at dksX1_orders_5 13 rfl rfl)
theorem dX1_orders_133 : decode cX1_orders 133 = .ok (.aload_n 0, 1) := dk_42 (dk_at dksX1_orders_5 16 rfl rfl)
theorem dX1_orders_134 : decode cX1_orders 134 = .ok (.getfield 129, 3) := dk_180 0 129 (dk_at dksX1_orders_5 17 rfl rfl)
theorem dX1_orders_137 : decode cX1_orders 137 = .ok (.iload_n 1, 1) := dk_27 (dk_at dksX1_orders_5 20 rfl rfl)
theorem dX1_orders_138 : decode cX1_orders 138 = .ok (.iconst 1, 1) := dk_4 (dk_at dksX1_orders_5 21 rfl rfl)
theorem dX1_orders_139 : decode cX1_orders 139 = .ok (.iadd, 1) := dk_96 (dk_at dksX1_orders_5 22 rfl rfl)
theorem dX1_orders_140 : decode cX1_orders 140 = .ok (.aaload, 1) := dk_50 (dk_at dksX1_orders_5 23 rfl rfl)
theorem dX1_orders_141 : decode cX1_orders 141 = .ok (.aload_n 0, 1) := dk_42 (dk_at dksX1_orders_6 0 rfl rfl)
theorem dX1_orders_142 : decode cX1_orders 142 = .ok (.getfield 91, 3) := dk_180 0 91 (dk_at dksX1_orders_6 1 rfl rfl)
theorem dX1_orders_145 : decode cX1_orders 145 = .ok (.iload 4, 2) := dk_21 4 (dk_at dksX1_orders_6 4 rfl rfl)
theorem dX1_orders_147 : decode cX1_orders 147 = .ok (.invokevirtual 311, 3) := dk_182 1 55 (dk_at dksX1_orders_6 6 rfl rfl)
theorem dX1_orders_150 : decode cX1_orders 150 = .ok (.aload_n 0, 1) := dk_42 (dk_at dksX1_orders_6 9 rfl rfl)
theorem dX1_orders_151 : decode cX1_orders 151 = .ok (.iload_n 1, 1) := dk_27 (dk_at dksX1_orders_6 10 rfl rfl)
theorem dX1_orders_152 : decode cX1_orders 152 = .ok (.iconst 1, 1) := dk_4 (dk_at dksX1_orders_6 11 rfl rfl)
theorem dX1_orders_153 : decode cX1_orders 153 = .ok (.iadd, 1) := dk_96 (dk_at dksX1_orders_6 12 rfl rfl)
theorem dX1_orders_154 : decode cX1_orders 154 = .ok (.iload_n 2, 1) := dk_28 (dk_at dksX1_orders_6 13 rfl rfl)
theorem dX1_orders_155 : decode cX1_orders 155 = .ok (.iconst 1, 1) := dk_4 (dk_at dksX1_orders_6 14 rfl rfl)
theorem dX1_orders_156 : decode cX1_orders 156 = .ok (.iload 4, 2) := dk_21 4 (dk_at dksX1_orders_6 15 rfl rfl)
theorem dX1_orders_158 : decode cX1_orders 158 = .ok (.ishl, 1) := dk_120 (dk_at dksX1_orders_6 17 rfl rfl)
theorem dX1_orders_159 : decode cX1_orders 159 = .ok (.iconst (-1), 1) := dk_2 (dk_at dksX1_orders_6 18 rfl rfl)
theorem dX1_orders_160 : decode cX1_orders 160 = .ok (.ixor, 1) := dk_130 (dk_at dksX1_orders_6 19 rfl rfl)
theorem dX1_orders_161 : decode cX1_orders 161 = .ok (.iand, 1) := dk_126 (dk_at dksX1_orders_6 20 rfl rfl)
theorem dX1_orders_162 : decode cX1_orders 162 = .ok (.invokevirtual 349, 3) := dk_182 1 93 (dk_at dksX1_orders_6 21 rfl rfl)
theorem dX1_orders_165 : decode cX1_orders 165 = .ok (.iload_n 3, 1) := dk_29 (dk_at dksX1_orders_7 0 rfl rfl)
theorem dX1_orders_166 : decode cX1_orders 166 = .ok (.iload_n 3, 1) := dk_29 (dk_at dksX1_orders_7 1 rfl rfl)
theorem dX1_orders_167 : decode cX1_orders 167 = .ok (.iconst 1, 1) := dk_4 (dk_at dksX1_orders_7 2 rfl rfl)
theorem dX1_orders_168 : decode cX1_orders 168 = .ok (.isub, 1) := dk_100 (dk_at dksX1_orders_7 3 rfl rfl)
theorem dX1_orders_169 : decode cX1_orders 169 = .ok (.iand, 1) := dk_126 (dk_at dksX1_orders_7 4 rfl rfl)
theorem dX1_orders_170 : decode cX1_orders 170 = .ok (.istore_n 3, 1) := dk_62 (dk_at dksX1_orders_7 5 rfl rfl)
theorem dX1_orders_171 : decode cX1_orders 171 = .ok (.goto (-90), 3) := dk_167 255 166 (dk_at dksX1_orders_7 6 rfl rfl)
theorem dX1_orders_174 : decode cX1_orders 174 = .ok (.return_, 1) := dk_177 (dk_at dksX1_orders_7 9 rfl rfl)
abbrev cX1_orderAt : ByteArray := prog_1_method_32_code
def yX1_orderAt : MethodName := ⟨RX1, "orderAt", "(I)I"⟩
def dkwX1_orderAt_1 : List UInt8 := [172]
abbrev dktX1_orderAt_1 : List UInt8 := dkwX1_orderAt_1 ++ []
def dkwX1_orderAt_0 : List UInt8 := [27, 3, 42, 180, 0, 139, 4, 100, 184, 0, 216, 153, 0, 12, 42, 180, 0, 136, 27, 46, 167, 0, 4, 2]
abbrev dktX1_orderAt_0 : List UInt8 := dkwX1_orderAt_0 ++ dktX1_orderAt_1
theorem dksX1_orderAt_0 : cX1_orderAt.data.toList.drop 0 = dktX1_orderAt_0 := by decide +kernel
theorem dksX1_orderAt_1 : cX1_orderAt.data.toList.drop 24 = dktX1_orderAt_1 := dk_seg dksX1_orderAt_0 24 rfl rfl
theorem dX1_orderAt_0 : decode cX1_orderAt 0 = .ok (.iload_n 1, 1) := dk_27 (dk_at dksX1_orderAt_0 0 rfl rfl)
theorem dX1_orderAt_1 : decode cX1_orderAt 1 = .ok (.iconst 0, 1) := dk_3 (dk_at dksX1_orderAt_0 1 rfl rfl)
theorem dX1_orderAt_2 : decode cX1_orderAt 2 = .ok (.aload_n 0, 1) := dk_42 (dk_at dksX1_orderAt_0 2 rfl rfl)
theorem dX1_orderAt_3 : decode cX1_orderAt 3 = .ok (.getfield 139, 3) := dk_180 0 139 (dk_at dksX1_orderAt_0 3 rfl rfl)
theorem dX1_orderAt_6 : decode cX1_orderAt 6 = .ok (.iconst 1, 1) := dk_4 (dk_at dksX1_orderAt_0 6 rfl rfl)
theorem dX1_orderAt_7 : decode cX1_orderAt 7 = .ok (.isub, 1) := dk_100 (dk_at dksX1_orderAt_0 7 rfl rfl)
theorem dX1_orderAt_8 : decode cX1_orderAt 8 = .ok (.invokestatic 216, 3) := dk_184 0 216 (dk_at dksX1_orderAt_0 8 rfl rfl)
theorem dX1_orderAt_11 : decode cX1_orderAt 11 = .ok (.ifCond .eq 12, 3) := dk_153 0 12 (dk_at dksX1_orderAt_0 11 rfl rfl)
theorem dX1_orderAt_14 : decode cX1_orderAt 14 = .ok (.aload_n 0, 1) := dk_42 (dk_at dksX1_orderAt_0 14 rfl rfl)
theorem dX1_orderAt_15 : decode cX1_orderAt 15 = .ok (.getfield 136, 3) := dk_180 0 136 (dk_at dksX1_orderAt_0 15 rfl rfl)
theorem dX1_orderAt_18 : decode cX1_orderAt 18 = .ok (.iload_n 1, 1) := dk_27 (dk_at dksX1_orderAt_0 18 rfl rfl)
theorem dX1_orderAt_19 : decode cX1_orderAt 19 = .ok (.iaload, 1) := dk_46 (dk_at dksX1_orderAt_0 19 rfl rfl)
theorem dX1_orderAt_20 : decode cX1_orderAt 20 = .ok (.goto 4, 3) := dk_167 0 4 (dk_at dksX1_orderAt_0 20 rfl rfl)
theorem dX1_orderAt_23 : decode cX1_orderAt 23 = .ok (.iconst (-1), 1) := dk_2 (dk_at dksX1_orderAt_0 23 rfl rfl)
theorem dX1_orderAt_24 : decode cX1_orderAt 24 = .ok (.ireturn, 1) := dk_172 (dk_at dksX1_orderAt_1 0 rfl rfl)
abbrev cX1_eaters : ByteArray := prog_1_method_34_code
def yX1_eaters : MethodName := ⟨RX1, "eaters", "()I"⟩
def dkwX1_eaters_9 : List UInt8 := [181, 1, 115, 132, 4, 1, 167, 255, 200, 27, 172]
abbrev dktX1_eaters_9 : List UInt8 := dkwX1_eaters_9 ++ []
def dkwX1_eaters_8 : List UInt8 := [100, 184, 1, 118, 27, 5, 45, 42, 180, 1, 115, 46, 104, 100, 184, 1, 118, 162, 0, 9, 42, 21, 4]
abbrev dktX1_eaters_8 : List UInt8 := dkwX1_eaters_8 ++ dktX1_eaters_9
def dkwX1_eaters_7 : List UInt8 := [180, 0, 91, 180, 0, 213, 162, 0, 50, 42, 180, 1, 115, 2, 159, 0, 30, 27, 5, 45, 21, 4, 46, 104]
abbrev dktX1_eaters_7 : List UInt8 := dkwX1_eaters_7 ++ dktX1_eaters_8
def dkwX1_eaters_6 : List UInt8 := [3, 172, 42, 4, 181, 1, 108, 42, 28, 181, 1, 112, 42, 2, 181, 1, 115, 3, 54, 4, 21, 4, 42]
abbrev dktX1_eaters_6 : List UInt8 := dkwX1_eaters_6 ++ dktX1_eaters_7
def dkwX1_eaters_5 : List UInt8 := [45, 21, 5, 92, 46, 4, 96, 79, 132, 5, 1, 167, 255, 223, 132, 4, 1, 167, 255, 170, 27, 154, 0, 5]
abbrev dktX1_eaters_5 : List UInt8 := dkwX1_eaters_5 ++ dktX1_eaters_6
def dkwX1_eaters_4 : List UInt8 := [54, 5, 21, 5, 42, 180, 0, 91, 180, 0, 213, 162, 0, 27, 21, 4, 21, 5, 184, 0, 241, 153, 0, 11]
abbrev dktX1_eaters_4 : List UInt8 := dkwX1_eaters_4 ++ dktX1_eaters_5
def dkwX1_eaters_3 : List UInt8 := [182, 1, 104, 42, 4, 182, 1, 101, 159, 0, 6, 167, 0, 50, 132, 1, 1, 28, 21, 4, 126, 61, 3]
abbrev dktX1_eaters_3 : List UInt8 := dkwX1_eaters_3 ++ dktX1_eaters_4
def dkwX1_eaters_2 : List UInt8 := [21, 4, 4, 42, 180, 0, 91, 180, 0, 213, 120, 162, 0, 78, 42, 21, 4, 42, 3, 182, 1, 101]
abbrev dktX1_eaters_2 : List UInt8 := dkwX1_eaters_2 ++ dktX1_eaters_3
def dkwX1_eaters_1 : List UInt8 := [2, 172, 3, 60, 4, 42, 180, 0, 91, 180, 0, 213, 120, 4, 100, 61, 16, 7, 188, 10, 78, 3, 54, 4]
abbrev dktX1_eaters_1 : List UInt8 := dkwX1_eaters_1 ++ dktX1_eaters_2
def dkwX1_eaters_0 : List UInt8 := [42, 182, 0, 190, 42, 180, 0, 184, 5, 160, 0, 15, 42, 42, 3, 182, 1, 101, 182, 1, 1, 154, 0, 5]
abbrev dktX1_eaters_0 : List UInt8 := dkwX1_eaters_0 ++ dktX1_eaters_1
theorem dksX1_eaters_0 : cX1_eaters.data.toList.drop 0 = dktX1_eaters_0 := by decide +kernel
theorem dksX1_eaters_1 : cX1_eaters.data.toList.drop 24 = dktX1_eaters_1 := dk_seg dksX1_eaters_0 24 rfl rfl
theorem dksX1_eaters_2 : cX1_eaters.data.toList.drop 48 = dktX1_eaters_2 := dk_seg dksX1_eaters_1 24 rfl rfl
theorem dksX1_eaters_3 : cX1_eaters.data.toList.drop 70 = dktX1_eaters_3 := dk_seg dksX1_eaters_2 22 rfl rfl
theorem dksX1_eaters_4 : cX1_eaters.data.toList.drop 93 = dktX1_eaters_4 := dk_seg dksX1_eaters_3 23 rfl rfl
theorem dksX1_eaters_5 : cX1_eaters.data.toList.drop 117 = dktX1_eaters_5 := dk_seg dksX1_eaters_4 24 rfl rfl
theorem dksX1_eaters_6 : cX1_eaters.data.toList.drop 141 = dktX1_eaters_6 := dk_seg dksX1_eaters_5 24 rfl rfl
theorem dksX1_eaters_7 : cX1_eaters.data.toList.drop 164 = dktX1_eaters_7 := dk_seg dksX1_eaters_6 23 rfl rfl
theorem dksX1_eaters_8 : cX1_eaters.data.toList.drop 188 = dktX1_eaters_8 := dk_seg dksX1_eaters_7 24 rfl rfl
theorem dksX1_eaters_9 : cX1_eaters.data.toList.drop 211 = dktX1_eaters_9 := dk_seg dksX1_eaters_8 23 rfl rfl
theorem dX1_eaters_0 : decode cX1_eaters 0 = .ok (.aload_n 0, 1) := dk_42 (dk_at dksX1_eaters_0 0 rfl rfl)
theorem dX1_eaters_1 : decode cX1_eaters 1 = .ok (.invokevirtual 190, 3) := dk_182 0 190 (dk_at dksX1_eaters_0 1 rfl rfl)
theorem dX1_eaters_4 : decode cX1_eaters 4 = .ok (.aload_n 0, 1) := dk_42 (dk_at dksX1_eaters_0 4 rfl rfl)
theorem dX1_eaters_5 : decode cX1_eaters 5 = .ok (.getfield 184, 3) := dk_180 0 184 (dk_at dksX1_eaters_0 5 rfl rfl)
theorem dX1_eaters_8 : decode cX1_eaters 8 = .ok (.iconst 2, 1) := dk_5 (dk_at dksX1_eaters_0 8 rfl rfl)
theorem dX1_eaters_9 : decode cX1_eaters 9 = .ok (.if_icmp .ne 15, 3) := dk_160 0 15 (dk_at dksX1_eaters_0 9 rfl rfl)
theorem dX1_eaters_12 : decode cX1_eaters 12 = .ok (.aload_n 0, 1) := dk_42 (dk_at dksX1_eaters_0 12 rfl rfl)
theorem dX1_eaters_13 : decode cX1_eaters 13 = .ok (.aload_n 0, 1) := dk_42 (dk_at dksX1_eaters_0 13 rfl rfl)
theorem dX1_eaters_14 : decode cX1_eaters 14 = .ok (.iconst 0, 1) := dk_3 (dk_at dksX1_eaters_0 14 rfl rfl)
theorem dX1_eaters_15 : decode cX1_eaters 15 = .ok (.invokevirtual 357, 3) := dk_182 1 101 (dk_at dksX1_eaters_0 15 rfl rfl)
theorem dX1_eaters_18 : decode cX1_eaters 18 = .ok (.invokevirtual 257, 3) := dk_182 1 1 (dk_at dksX1_eaters_0 18 rfl rfl)
theorem dX1_eaters_21 : decode cX1_eaters 21 = .ok (.ifCond .ne 5, 3) := dk_154 0 5 (dk_at dksX1_eaters_0 21 rfl rfl)
theorem dX1_eaters_24 : decode cX1_eaters 24 = .ok (.iconst (-1), 1) := dk_2 (dk_at dksX1_eaters_1 0 rfl rfl)
theorem dX1_eaters_25 : decode cX1_eaters 25 = .ok (.ireturn, 1) := dk_172 (dk_at dksX1_eaters_1 1 rfl rfl)
theorem dX1_eaters_26 : decode cX1_eaters 26 = .ok (.iconst 0, 1) := dk_3 (dk_at dksX1_eaters_1 2 rfl rfl)
theorem dX1_eaters_27 : decode cX1_eaters 27 = .ok (.istore_n 1, 1) := dk_60 (dk_at dksX1_eaters_1 3 rfl rfl)
theorem dX1_eaters_28 : decode cX1_eaters 28 = .ok (.iconst 1, 1) := dk_4 (dk_at dksX1_eaters_1 4 rfl rfl)
theorem dX1_eaters_29 : decode cX1_eaters 29 = .ok (.aload_n 0, 1) := dk_42 (dk_at dksX1_eaters_1 5 rfl rfl)
theorem dX1_eaters_30 : decode cX1_eaters 30 = .ok (.getfield 91, 3) := dk_180 0 91 (dk_at dksX1_eaters_1 6 rfl rfl)
theorem dX1_eaters_33 : decode cX1_eaters 33 = .ok (.getfield 213, 3) := dk_180 0 213 (dk_at dksX1_eaters_1 9 rfl rfl)
theorem dX1_eaters_36 : decode cX1_eaters 36 = .ok (.ishl, 1) := dk_120 (dk_at dksX1_eaters_1 12 rfl rfl)
theorem dX1_eaters_37 : decode cX1_eaters 37 = .ok (.iconst 1, 1) := dk_4 (dk_at dksX1_eaters_1 13 rfl rfl)
theorem dX1_eaters_38 : decode cX1_eaters 38 = .ok (.isub, 1) := dk_100 (dk_at dksX1_eaters_1 14 rfl rfl)
theorem dX1_eaters_39 : decode cX1_eaters 39 = .ok (.istore_n 2, 1) := dk_61 (dk_at dksX1_eaters_1 15 rfl rfl)
theorem dX1_eaters_40 : decode cX1_eaters 40 = .ok (.bipush 7, 2) := dk_16 7 (dk_at dksX1_eaters_1 16 rfl rfl)
theorem dX1_eaters_42 : decode cX1_eaters 42 = .ok (.newarray .int, 2) := dk_188_10 (dk_at dksX1_eaters_1 18 rfl rfl)
theorem dX1_eaters_44 : decode cX1_eaters 44 = .ok (.astore_n 3, 1) := dk_78 (dk_at dksX1_eaters_1 20 rfl rfl)
theorem dX1_eaters_45 : decode cX1_eaters 45 = .ok (.iconst 0, 1) := dk_3 (dk_at dksX1_eaters_1 21 rfl rfl)
theorem dX1_eaters_46 : decode cX1_eaters 46 = .ok (.istore 4, 2) := dk_54 4 (dk_at dksX1_eaters_1 22 rfl rfl)
theorem dX1_eaters_48 : decode cX1_eaters 48 = .ok (.iload 4, 2) := dk_21 4 (dk_at dksX1_eaters_2 0 rfl rfl)
theorem dX1_eaters_50 : decode cX1_eaters 50 = .ok (.iconst 1, 1) := dk_4 (dk_at dksX1_eaters_2 2 rfl rfl)
theorem dX1_eaters_51 : decode cX1_eaters 51 = .ok (.aload_n 0, 1) := dk_42 (dk_at dksX1_eaters_2 3 rfl rfl)
theorem dX1_eaters_52 : decode cX1_eaters 52 = .ok (.getfield 91, 3) := dk_180 0 91 (dk_at dksX1_eaters_2 4 rfl rfl)
theorem dX1_eaters_55 : decode cX1_eaters 55 = .ok (.getfield 213, 3) := dk_180 0 213 (dk_at dksX1_eaters_2 7 rfl rfl)
theorem dX1_eaters_58 : decode cX1_eaters 58 = .ok (.ishl, 1) := dk_120 (dk_at dksX1_eaters_2 10 rfl rfl)
theorem dX1_eaters_59 : decode cX1_eaters 59 = .ok (.if_icmp .ge 78, 3) := dk_162 0 78 (dk_at dksX1_eaters_2 11 rfl rfl)
theorem dX1_eaters_62 : decode cX1_eaters 62 = .ok (.aload_n 0, 1) := dk_42 (dk_at dksX1_eaters_2 14 rfl rfl)
theorem dX1_eaters_63 : decode cX1_eaters 63 = .ok (.iload 4, 2) := dk_21 4 (dk_at dksX1_eaters_2 15 rfl rfl)
theorem dX1_eaters_65 : decode cX1_eaters 65 = .ok (.aload_n 0, 1) := dk_42 (dk_at dksX1_eaters_2 17 rfl rfl)
theorem dX1_eaters_66 : decode cX1_eaters 66 = .ok (.iconst 0, 1) := dk_3 (dk_at dksX1_eaters_2 18 rfl rfl)
theorem dX1_eaters_67 : decode cX1_eaters 67 = .ok (.invokevirtual 357, 3) := dk_182 1 101 (dk_at dksX1_eaters_2 19 rfl rfl)
theorem dX1_eaters_70 : decode cX1_eaters 70 = .ok (.invokevirtual 360, 3) := dk_182 1 104 (dk_at dksX1_eaters_3 0 rfl rfl)
theorem dX1_eaters_73 : decode cX1_eaters 73 = .ok (.aload_n 0, 1) := dk_42 (dk_at dksX1_eaters_3 3 rfl rfl)
theorem dX1_eaters_74 : decode cX1_eaters 74 = .ok (.iconst 1, 1) := dk_4 (dk_at dksX1_eaters_3 4 rfl rfl)
theorem dX1_eaters_75 : decode cX1_eaters 75 = .ok (.invokevirtual 357, 3) := dk_182 1 101 (dk_at dksX1_eaters_3 5 rfl rfl)
theorem dX1_eaters_78 : decode cX1_eaters 78 = .ok (.if_icmp .eq 6, 3) := dk_159 0 6 (dk_at dksX1_eaters_3 8 rfl rfl)
theorem dX1_eaters_81 : decode cX1_eaters 81 = .ok (.goto 50, 3) := dk_167 0 50 (dk_at dksX1_eaters_3 11 rfl rfl)
theorem dX1_eaters_84 : decode cX1_eaters 84 = .ok (.iinc 1 1, 3) := dk_132 1 1 (dk_at dksX1_eaters_3 14 rfl rfl)
theorem dX1_eaters_87 : decode cX1_eaters 87 = .ok (.iload_n 2, 1) := dk_28 (dk_at dksX1_eaters_3 17 rfl rfl)
theorem dX1_eaters_88 : decode cX1_eaters 88 = .ok (.iload 4, 2) := dk_21 4 (dk_at dksX1_eaters_3 18 rfl rfl)
theorem dX1_eaters_90 : decode cX1_eaters 90 = .ok (.iand, 1) := dk_126 (dk_at dksX1_eaters_3 20 rfl rfl)
theorem dX1_eaters_91 : decode cX1_eaters 91 = .ok (.istore_n 2, 1) := dk_61 (dk_at dksX1_eaters_3 21 rfl rfl)
theorem dX1_eaters_92 : decode cX1_eaters 92 = .ok (.iconst 0, 1) := dk_3 (dk_at dksX1_eaters_3 22 rfl rfl)
theorem dX1_eaters_93 : decode cX1_eaters 93 = .ok (.istore 5, 2) := dk_54 5 (dk_at dksX1_eaters_4 0 rfl rfl)
theorem dX1_eaters_95 : decode cX1_eaters 95 = .ok (.iload 5, 2) := dk_21 5 (dk_at dksX1_eaters_4 2 rfl rfl)
theorem dX1_eaters_97 : decode cX1_eaters 97 = .ok (.aload_n 0, 1) := dk_42 (dk_at dksX1_eaters_4 4 rfl rfl)
theorem dX1_eaters_98 : decode cX1_eaters 98 = .ok (.getfield 91, 3) := dk_180 0 91 (dk_at dksX1_eaters_4 5 rfl rfl)
theorem dX1_eaters_101 : decode cX1_eaters 101 = .ok (.getfield 213, 3) := dk_180 0 213 (dk_at dksX1_eaters_4 8 rfl rfl)
theorem dX1_eaters_104 : decode cX1_eaters 104 = .ok (.if_icmp .ge 27, 3) := dk_162 0 27 (dk_at dksX1_eaters_4 11 rfl rfl)
theorem dX1_eaters_107 : decode cX1_eaters 107 = .ok (.iload 4, 2) := dk_21 4 (dk_at dksX1_eaters_4 14 rfl rfl)
theorem dX1_eaters_109 : decode cX1_eaters 109 = .ok (.iload 5, 2) := dk_21 5 (dk_at dksX1_eaters_4 16 rfl rfl)
theorem dX1_eaters_111 : decode cX1_eaters 111 = .ok (.invokestatic 241, 3) := dk_184 0 241 (dk_at dksX1_eaters_4 18 rfl rfl)
theorem dX1_eaters_114 : decode cX1_eaters 114 = .ok (.ifCond .eq 11, 3) := dk_153 0 11 (dk_at dksX1_eaters_4 21 rfl rfl)
theorem dX1_eaters_117 : decode cX1_eaters 117 = .ok (.aload_n 3, 1) := dk_45 (dk_at dksX1_eaters_5 0 rfl rfl)
theorem dX1_eaters_118 : decode cX1_eaters 118 = .ok (.iload 5, 2) := dk_21 5 (dk_at dksX1_eaters_5 1 rfl rfl)
theorem dX1_eaters_120 : decode cX1_eaters 120 = .ok (.dup2, 1) := dk_92 (dk_at dksX1_eaters_5 3 rfl rfl)
theorem dX1_eaters_121 : decode cX1_eaters 121 = .ok (.iaload, 1) := dk_46 (dk_at dksX1_eaters_5 4 rfl rfl)
theorem dX1_eaters_122 : decode cX1_eaters 122 = .ok (.iconst 1, 1) := dk_4 (dk_at dksX1_eaters_5 5 rfl rfl)
theorem dX1_eaters_123 : decode cX1_eaters 123 = .ok (.iadd, 1) := dk_96 (dk_at dksX1_eaters_5 6 rfl rfl)
theorem dX1_eaters_124 : decode cX1_eaters 124 = .ok (.iastore, 1) := dk_79 (dk_at dksX1_eaters_5 7 rfl rfl)
theorem dX1_eaters_125 : decode cX1_eaters 125 = .ok (.iinc 5 1, 3) := dk_132 5 1 (dk_at dksX1_eaters_5 8 rfl rfl)
theorem dX1_eaters_128 : decode cX1_eaters 128 = .ok (.goto (-33), 3) := dk_167 255 223 (dk_at dksX1_eaters_5 11 rfl rfl)
theorem dX1_eaters_131 : decode cX1_eaters 131 = .ok (.iinc 4 1, 3) := dk_132 4 1 (dk_at dksX1_eaters_5 14 rfl rfl)
theorem dX1_eaters_134 : decode cX1_eaters 134 = .ok (.goto (-86), 3) := dk_167 255 170 (dk_at dksX1_eaters_5 17 rfl rfl)
theorem dX1_eaters_137 : decode cX1_eaters 137 = .ok (.iload_n 1, 1) := dk_27 (dk_at dksX1_eaters_5 20 rfl rfl)
theorem dX1_eaters_138 : decode cX1_eaters 138 = .ok (.ifCond .ne 5, 3) := dk_154 0 5 (dk_at dksX1_eaters_5 21 rfl rfl)
theorem dX1_eaters_141 : decode cX1_eaters 141 = .ok (.iconst 0, 1) := dk_3 (dk_at dksX1_eaters_6 0 rfl rfl)
theorem dX1_eaters_142 : decode cX1_eaters 142 = .ok (.ireturn, 1) := dk_172 (dk_at dksX1_eaters_6 1 rfl rfl)
theorem dX1_eaters_143 : decode cX1_eaters 143 = .ok (.aload_n 0, 1) := dk_42 (dk_at dksX1_eaters_6 2 rfl rfl)
theorem dX1_eaters_144 : decode cX1_eaters 144 = .ok (.iconst 1, 1) := dk_4 (dk_at dksX1_eaters_6 3 rfl rfl)
theorem dX1_eaters_145 : decode cX1_eaters 145 = .ok (.putfield 364, 3) := dk_181 1 108 (dk_at dksX1_eaters_6 4 rfl rfl)
theorem dX1_eaters_148 : decode cX1_eaters 148 = .ok (.aload_n 0, 1) := dk_42 (dk_at dksX1_eaters_6 7 rfl rfl)
theorem dX1_eaters_149 : decode cX1_eaters 149 = .ok (.iload_n 2, 1) := dk_28 (dk_at dksX1_eaters_6 8 rfl rfl)
theorem dX1_eaters_150 : decode cX1_eaters 150 = .ok (.putfield 368, 3) := dk_181 1 112 (dk_at dksX1_eaters_6 9 rfl rfl)
theorem dX1_eaters_153 : decode cX1_eaters 153 = .ok (.aload_n 0, 1) := dk_42 (dk_at dksX1_eaters_6 12 rfl rfl)
theorem dX1_eaters_154 : decode cX1_eaters 154 = .ok (.iconst (-1), 1) := dk_2 (dk_at dksX1_eaters_6 13 rfl rfl)
theorem dX1_eaters_155 : decode cX1_eaters 155 = .ok (.putfield 371, 3) := dk_181 1 115 (dk_at dksX1_eaters_6 14 rfl rfl)
theorem dX1_eaters_158 : decode cX1_eaters 158 = .ok (.iconst 0, 1) := dk_3 (dk_at dksX1_eaters_6 17 rfl rfl)
theorem dX1_eaters_159 : decode cX1_eaters 159 = .ok (.istore 4, 2) := dk_54 4 (dk_at dksX1_eaters_6 18 rfl rfl)
theorem dX1_eaters_161 : decode cX1_eaters 161 = .ok (.iload 4, 2) := dk_21 4 (dk_at dksX1_eaters_6 20 rfl rfl)
theorem dX1_eaters_163 : decode cX1_eaters 163 = .ok (.aload_n 0, 1) := dk_42 (dk_at dksX1_eaters_6 22 rfl rfl)
theorem dX1_eaters_164 : decode cX1_eaters 164 = .ok (.getfield 91, 3) := dk_180 0 91 (dk_at dksX1_eaters_7 0 rfl rfl)
theorem dX1_eaters_167 : decode cX1_eaters 167 = .ok (.getfield 213, 3) := dk_180 0 213 (dk_at dksX1_eaters_7 3 rfl rfl)
theorem dX1_eaters_170 : decode cX1_eaters 170 = .ok (.if_icmp .ge 50, 3) := dk_162 0 50 (dk_at dksX1_eaters_7 6 rfl rfl)
theorem dX1_eaters_173 : decode cX1_eaters 173 = .ok (.aload_n 0, 1) := dk_42 (dk_at dksX1_eaters_7 9 rfl rfl)
theorem dX1_eaters_174 : decode cX1_eaters 174 = .ok (.getfield 371, 3) := dk_180 1 115 (dk_at dksX1_eaters_7 10 rfl rfl)
theorem dX1_eaters_177 : decode cX1_eaters 177 = .ok (.iconst (-1), 1) := dk_2 (dk_at dksX1_eaters_7 13 rfl rfl)
theorem dX1_eaters_178 : decode cX1_eaters 178 = .ok (.if_icmp .eq 30, 3) := dk_159 0 30 (dk_at dksX1_eaters_7 14 rfl rfl)
theorem dX1_eaters_181 : decode cX1_eaters 181 = .ok (.iload_n 1, 1) := dk_27 (dk_at dksX1_eaters_7 17 rfl rfl)
theorem dX1_eaters_182 : decode cX1_eaters 182 = .ok (.iconst 2, 1) := dk_5 (dk_at dksX1_eaters_7 18 rfl rfl)
theorem dX1_eaters_183 : decode cX1_eaters 183 = .ok (.aload_n 3, 1) := dk_45 (dk_at dksX1_eaters_7 19 rfl rfl)
theorem dX1_eaters_184 : decode cX1_eaters 184 = .ok (.iload 4, 2) := dk_21 4 (dk_at dksX1_eaters_7 20 rfl rfl)
theorem dX1_eaters_186 : decode cX1_eaters 186 = .ok (.iaload, 1) := dk_46 (dk_at dksX1_eaters_7 22 rfl rfl)
theorem dX1_eaters_187 : decode cX1_eaters 187 = .ok (.imul, 1) := dk_104 (dk_at dksX1_eaters_7 23 rfl rfl)
theorem dX1_eaters_188 : decode cX1_eaters 188 = .ok (.isub, 1) := dk_100 (dk_at dksX1_eaters_8 0 rfl rfl)
theorem dX1_eaters_189 : decode cX1_eaters 189 = .ok (.invokestatic 374, 3) := dk_184 1 118 (dk_at dksX1_eaters_8 1 rfl rfl)
theorem dX1_eaters_192 : decode cX1_eaters 192 = .ok (.iload_n 1, 1) := dk_27 (dk_at dksX1_eaters_8 4 rfl rfl)
theorem dX1_eaters_193 : decode cX1_eaters 193 = .ok (.iconst 2, 1) := dk_5 (dk_at dksX1_eaters_8 5 rfl rfl)
theorem dX1_eaters_194 : decode cX1_eaters 194 = .ok (.aload_n 3, 1) := dk_45 (dk_at dksX1_eaters_8 6 rfl rfl)
theorem dX1_eaters_195 : decode cX1_eaters 195 = .ok (.aload_n 0, 1) := dk_42 (dk_at dksX1_eaters_8 7 rfl rfl)
theorem dX1_eaters_196 : decode cX1_eaters 196 = .ok (.getfield 371, 3) := dk_180 1 115 (dk_at dksX1_eaters_8 8 rfl rfl)
theorem dX1_eaters_199 : decode cX1_eaters 199 = .ok (.iaload, 1) := dk_46 (dk_at dksX1_eaters_8 11 rfl rfl)
theorem dX1_eaters_200 : decode cX1_eaters 200 = .ok (.imul, 1) := dk_104 (dk_at dksX1_eaters_8 12 rfl rfl)
theorem dX1_eaters_201 : decode cX1_eaters 201 = .ok (.isub, 1) := dk_100 (dk_at dksX1_eaters_8 13 rfl rfl)
theorem dX1_eaters_202 : decode cX1_eaters 202 = .ok (.invokestatic 374, 3) := dk_184 1 118 (dk_at dksX1_eaters_8 14 rfl rfl)
theorem dX1_eaters_205 : decode cX1_eaters 205 = .ok (.if_icmp .ge 9, 3) := dk_162 0 9 (dk_at dksX1_eaters_8 17 rfl rfl)
theorem dX1_eaters_208 : decode cX1_eaters 208 = .ok (.aload_n 0, 1) := dk_42 (dk_at dksX1_eaters_8 20 rfl rfl)
theorem dX1_eaters_209 : decode cX1_eaters 209 = .ok (.iload 4, 2) := dk_21 4 (dk_at dksX1_eaters_8 21 rfl rfl)
theorem dX1_eaters_211 : decode cX1_eaters 211 = .ok (.putfield 371, 3) := dk_181 1 115 (dk_at dksX1_eaters_9 0 rfl rfl)
theorem dX1_eaters_214 : decode cX1_eaters 214 = .ok (.iinc 4 1, 3) := dk_132 4 1 (dk_at dksX1_eaters_9 3 rfl rfl)
theorem dX1_eaters_217 : decode cX1_eaters 217 = .ok (.goto (-56), 3) := dk_167 255 200 (dk_at dksX1_eaters_9 6 rfl rfl)
theorem dX1_eaters_220 : decode cX1_eaters 220 = .ok (.iload_n 1, 1) := dk_27 (dk_at dksX1_eaters_9 9 rfl rfl)
theorem dX1_eaters_221 : decode cX1_eaters 221 = .ok (.ireturn, 1) := dk_172 (dk_at dksX1_eaters_9 10 rfl rfl)
abbrev cX1_one : ByteArray := prog_1_method_6_code
def yX1_one : MethodName := ⟨RX1, "one", "(I)I"⟩
def dkwX1_one_0 : List UInt8 := [42, 180, 0, 9, 27, 51, 17, 0, 255, 126, 172]
abbrev dktX1_one_0 : List UInt8 := dkwX1_one_0 ++ []
theorem dksX1_one_0 : cX1_one.data.toList.drop 0 = dktX1_one_0 := by decide +kernel
theorem dX1_one_0 : decode cX1_one 0 = .ok (.aload_n 0, 1) := dk_42 (dk_at dksX1_one_0 0 rfl rfl)
theorem dX1_one_1 : decode cX1_one 1 = .ok (.getfield 9, 3) := dk_180 0 9 (dk_at dksX1_one_0 1 rfl rfl)
theorem dX1_one_4 : decode cX1_one 4 = .ok (.iload_n 1, 1) := dk_27 (dk_at dksX1_one_0 4 rfl rfl)
theorem dX1_one_5 : decode cX1_one 5 = .ok (.baload, 1) := dk_51 (dk_at dksX1_one_0 5 rfl rfl)
theorem dX1_one_6 : decode cX1_one 6 = .ok (.sipush 255, 3) := dk_17 0 255 (dk_at dksX1_one_0 6 rfl rfl)
theorem dX1_one_9 : decode cX1_one 9 = .ok (.iand, 1) := dk_126 (dk_at dksX1_one_0 9 rfl rfl)
theorem dX1_one_10 : decode cX1_one 10 = .ok (.ireturn, 1) := dk_172 (dk_at dksX1_one_0 10 rfl rfl)
abbrev cX1_onPlates : ByteArray := prog_1_method_33_code
def yX1_onPlates : MethodName := ⟨RX1, "onPlates", "(II)I"⟩
def dkwX1_onPlates_2 : List UInt8 := [167, 255, 214, 29, 172]
abbrev dktX1_onPlates_2 : List UInt8 := dkwX1_onPlates_2 ++ []
def dkwX1_onPlates_1 : List UInt8 := [153, 0, 21, 29, 42, 180, 0, 98, 180, 1, 4, 16, 6, 21, 4, 104, 28, 96, 46, 96, 62, 132, 4, 1]
abbrev dktX1_onPlates_1 : List UInt8 := dkwX1_onPlates_1 ++ dktX1_onPlates_2
def dkwX1_onPlates_0 : List UInt8 := [3, 62, 3, 54, 4, 21, 4, 42, 180, 0, 91, 180, 0, 213, 162, 0, 36, 27, 21, 4, 184, 0, 241]
abbrev dktX1_onPlates_0 : List UInt8 := dkwX1_onPlates_0 ++ dktX1_onPlates_1
theorem dksX1_onPlates_0 : cX1_onPlates.data.toList.drop 0 = dktX1_onPlates_0 := by decide +kernel
theorem dksX1_onPlates_1 : cX1_onPlates.data.toList.drop 23 = dktX1_onPlates_1 := dk_seg dksX1_onPlates_0 23 rfl rfl
theorem dksX1_onPlates_2 : cX1_onPlates.data.toList.drop 47 = dktX1_onPlates_2 := dk_seg dksX1_onPlates_1 24 rfl rfl
theorem dX1_onPlates_0 : decode cX1_onPlates 0 = .ok (.iconst 0, 1) := dk_3 (dk_at dksX1_onPlates_0 0 rfl rfl)
theorem dX1_onPlates_1 : decode cX1_onPlates 1 = .ok (.istore_n 3, 1) := dk_62 (dk_at dksX1_onPlates_0 1 rfl rfl)
theorem dX1_onPlates_2 : decode cX1_onPlates 2 = .ok (.iconst 0, 1) := dk_3 (dk_at dksX1_onPlates_0 2 rfl rfl)
theorem dX1_onPlates_3 : decode cX1_onPlates 3 = .ok (.istore 4, 2) := dk_54 4 (dk_at dksX1_onPlates_0 3 rfl rfl)
theorem dX1_onPlates_5 : decode cX1_onPlates 5 = .ok (.iload 4, 2) := dk_21 4 (dk_at dksX1_onPlates_0 5 rfl rfl)
theorem dX1_onPlates_7 : decode cX1_onPlates 7 = .ok (.aload_n 0, 1) := dk_42 (dk_at dksX1_onPlates_0 7 rfl rfl)
theorem dX1_onPlates_8 : decode cX1_onPlates 8 = .ok (.getfield 91, 3) := dk_180 0 91 (dk_at dksX1_onPlates_0 8 rfl rfl)
theorem dX1_onPlates_11 : decode cX1_onPlates 11 = .ok (.getfield 213, 3) := dk_180 0 213 (dk_at dksX1_onPlates_0 11 rfl rfl)
theorem dX1_onPlates_14 : decode cX1_onPlates 14 = .ok (.if_icmp .ge 36, 3) := dk_162 0 36 (dk_at dksX1_onPlates_0 14 rfl rfl)
theorem dX1_onPlates_17 : decode cX1_onPlates 17 = .ok (.iload_n 1, 1) := dk_27 (dk_at dksX1_onPlates_0 17 rfl rfl)
theorem dX1_onPlates_18 : decode cX1_onPlates 18 = .ok (.iload 4, 2) := dk_21 4 (dk_at dksX1_onPlates_0 18 rfl rfl)
theorem dX1_onPlates_20 : decode cX1_onPlates 20 = .ok (.invokestatic 241, 3) := dk_184 0 241 (dk_at dksX1_onPlates_0 20 rfl rfl)
theorem dX1_onPlates_23 : decode cX1_onPlates 23 = .ok (.ifCond .eq 21, 3) := dk_153 0 21 (dk_at dksX1_onPlates_1 0 rfl rfl)
theorem dX1_onPlates_26 : decode cX1_onPlates 26 = .ok (.iload_n 3, 1) := dk_29 (dk_at dksX1_onPlates_1 3 rfl rfl)
theorem dX1_onPlates_27 : decode cX1_onPlates 27 = .ok (.aload_n 0, 1) := dk_42 (dk_at dksX1_onPlates_1 4 rfl rfl)
theorem dX1_onPlates_28 : decode cX1_onPlates 28 = .ok (.getfield 98, 3) := dk_180 0 98 (dk_at dksX1_onPlates_1 5 rfl rfl)
theorem dX1_onPlates_31 : decode cX1_onPlates 31 = .ok (.getfield 260, 3) := dk_180 1 4 (dk_at dksX1_onPlates_1 8 rfl rfl)
theorem dX1_onPlates_34 : decode cX1_onPlates 34 = .ok (.bipush 6, 2) := dk_16 6 (dk_at dksX1_onPlates_1 11 rfl rfl)
theorem dX1_onPlates_36 : decode cX1_onPlates 36 = .ok (.iload 4, 2) := dk_21 4 (dk_at dksX1_onPlates_1 13 rfl rfl)
theorem dX1_onPlates_38 : decode cX1_onPlates 38 = .ok (.imul, 1) := dk_104 (dk_at dksX1_onPlates_1 15 rfl rfl)
theorem dX1_onPlates_39 : decode cX1_onPlates 39 = .ok (.iload_n 2, 1) := dk_28 (dk_at dksX1_onPlates_1 16 rfl rfl)
theorem dX1_onPlates_40 : decode cX1_onPlates 40 = .ok (.iadd, 1) := dk_96 (dk_at dksX1_onPlates_1 17 rfl rfl)
theorem dX1_onPlates_41 : decode cX1_onPlates 41 = .ok (.iaload, 1) := dk_46 (dk_at dksX1_onPlates_1 18 rfl rfl)
theorem dX1_onPlates_42 : decode cX1_onPlates 42 = .ok (.iadd, 1) := dk_96 (dk_at dksX1_onPlates_1 19 rfl rfl)
theorem dX1_onPlates_43 : decode cX1_onPlates 43 = .ok (.istore_n 3, 1) := dk_62 (dk_at dksX1_onPlates_1 20 rfl rfl)
theorem dX1_onPlates_44 : decode cX1_onPlates 44 = .ok (.iinc 4 1, 3) := dk_132 4 1 (dk_at dksX1_onPlates_1 21 rfl rfl)
theorem dX1_onPlates_47 : decode cX1_onPlates 47 = .ok (.goto (-42), 3) := dk_167 255 214 (dk_at dksX1_onPlates_2 0 rfl rfl)
theorem dX1_onPlates_50 : decode cX1_onPlates 50 = .ok (.iload_n 3, 1) := dk_29 (dk_at dksX1_onPlates_2 3 rfl rfl)
theorem dX1_onPlates_51 : decode cX1_onPlates 51 = .ok (.ireturn, 1) := dk_172 (dk_at dksX1_onPlates_2 4 rfl rfl)
abbrev cX1_surely : ByteArray := prog_1_method_35_code
def yX1_surely : MethodName := ⟨RX1, "surely", "()I"⟩
def dkwX1_surely_0 : List UInt8 := [42, 180, 1, 108, 153, 0, 10, 42, 180, 1, 112, 167, 0, 4, 2, 172]
abbrev dktX1_surely_0 : List UInt8 := dkwX1_surely_0 ++ []
theorem dksX1_surely_0 : cX1_surely.data.toList.drop 0 = dktX1_surely_0 := by decide +kernel
theorem dX1_surely_0 : decode cX1_surely 0 = .ok (.aload_n 0, 1) := dk_42 (dk_at dksX1_surely_0 0 rfl rfl)
theorem dX1_surely_1 : decode cX1_surely 1 = .ok (.getfield 364, 3) := dk_180 1 108 (dk_at dksX1_surely_0 1 rfl rfl)
theorem dX1_surely_4 : decode cX1_surely 4 = .ok (.ifCond .eq 10, 3) := dk_153 0 10 (dk_at dksX1_surely_0 4 rfl rfl)
theorem dX1_surely_7 : decode cX1_surely 7 = .ok (.aload_n 0, 1) := dk_42 (dk_at dksX1_surely_0 7 rfl rfl)
theorem dX1_surely_8 : decode cX1_surely 8 = .ok (.getfield 368, 3) := dk_180 1 112 (dk_at dksX1_surely_0 8 rfl rfl)
theorem dX1_surely_11 : decode cX1_surely 11 = .ok (.goto 4, 3) := dk_167 0 4 (dk_at dksX1_surely_0 11 rfl rfl)
theorem dX1_surely_14 : decode cX1_surely 14 = .ok (.iconst (-1), 1) := dk_2 (dk_at dksX1_surely_0 14 rfl rfl)
theorem dX1_surely_15 : decode cX1_surely 15 = .ok (.ireturn, 1) := dk_172 (dk_at dksX1_surely_0 15 rfl rfl)
abbrev cX1_ask : ByteArray := prog_1_method_36_code
def yX1_ask : MethodName := ⟨RX1, "ask", "()I"⟩
def dkwX1_ask_0 : List UInt8 := [42, 180, 1, 108, 153, 0, 10, 42, 180, 1, 115, 167, 0, 4, 2, 172]
abbrev dktX1_ask_0 : List UInt8 := dkwX1_ask_0 ++ []
theorem dksX1_ask_0 : cX1_ask.data.toList.drop 0 = dktX1_ask_0 := by decide +kernel
theorem dX1_ask_0 : decode cX1_ask 0 = .ok (.aload_n 0, 1) := dk_42 (dk_at dksX1_ask_0 0 rfl rfl)
theorem dX1_ask_1 : decode cX1_ask 1 = .ok (.getfield 364, 3) := dk_180 1 108 (dk_at dksX1_ask_0 1 rfl rfl)
theorem dX1_ask_4 : decode cX1_ask 4 = .ok (.ifCond .eq 10, 3) := dk_153 0 10 (dk_at dksX1_ask_0 4 rfl rfl)
theorem dX1_ask_7 : decode cX1_ask 7 = .ok (.aload_n 0, 1) := dk_42 (dk_at dksX1_ask_0 7 rfl rfl)
theorem dX1_ask_8 : decode cX1_ask 8 = .ok (.getfield 371, 3) := dk_180 1 115 (dk_at dksX1_ask_0 8 rfl rfl)
theorem dX1_ask_11 : decode cX1_ask 11 = .ok (.goto 4, 3) := dk_167 0 4 (dk_at dksX1_ask_0 11 rfl rfl)
theorem dX1_ask_14 : decode cX1_ask 14 = .ok (.iconst (-1), 1) := dk_2 (dk_at dksX1_ask_0 14 rfl rfl)
theorem dX1_ask_15 : decode cX1_ask 15 = .ok (.ireturn, 1) := dk_172 (dk_at dksX1_ask_0 15 rfl rfl)
abbrev cX1_share : ByteArray := prog_1_method_37_code
def yX1_share : MethodName := ⟨RX1, "share", "(III)I"⟩
def dkwX1_share_13 : List UInt8 := [180, 0, 143, 29, 46, 172]
abbrev dktX1_share_13 : List UInt8 := dkwX1_share_13 ++ []
def dkwX1_share_12 : List UInt8 := [21, 6, 92, 46, 4, 96, 79, 42, 180, 0, 146, 21, 6, 2, 79, 132, 5, 255, 167, 255, 184, 42]
abbrev dktX1_share_12 : List UInt8 := dkwX1_share_12 ++ dktX1_share_13
def dkwX1_share_11 : List UInt8 := [42, 180, 0, 146, 21, 6, 46, 164, 0, 7, 21, 7, 54, 6, 132, 7, 1, 167, 255, 220, 42, 180, 0, 143]
abbrev dktX1_share_11 : List UInt8 := dkwX1_share_11 ++ dktX1_share_12
def dkwX1_share_10 : List UInt8 := [54, 6, 4, 54, 7, 21, 7, 42, 180, 0, 91, 180, 0, 213, 162, 0, 30, 42, 180, 0, 146, 21, 7, 46]
abbrev dktX1_share_10 : List UInt8 := dkwX1_share_10 ++ dktX1_share_11
def dkwX1_share_9 : List UInt8 := [21, 5, 42, 180, 0, 143, 21, 6, 46, 100, 54, 5, 132, 6, 1, 167, 255, 143, 21, 5, 158, 0, 73, 3]
abbrev dktX1_share_9 : List UInt8 := dkwX1_share_9 ++ dktX1_share_10
def dkwX1_share_8 : List UInt8 := [180, 1, 6, 27, 46, 42, 180, 0, 91, 180, 0, 231, 21, 6, 46, 104, 21, 4, 112, 167, 0, 4, 2, 79]
abbrev dktX1_share_8 : List UInt8 := dkwX1_share_8 ++ dktX1_share_9
def dkwX1_share_7 : List UInt8 := [167, 0, 4, 3, 79, 42, 180, 0, 146, 21, 6, 28, 21, 6, 184, 0, 241, 153, 0, 29, 42, 180, 0, 98]
abbrev dktX1_share_7 : List UInt8 := dkwX1_share_7 ++ dktX1_share_8
def dkwX1_share_6 : List UInt8 := [42, 180, 0, 98, 180, 1, 6, 27, 46, 42, 180, 0, 91, 180, 0, 231, 21, 6, 46, 104, 21, 4, 108]
abbrev dktX1_share_6 : List UInt8 := dkwX1_share_6 ++ dktX1_share_7
def dkwX1_share_5 : List UInt8 := [180, 0, 91, 180, 0, 213, 162, 0, 107, 42, 180, 0, 143, 21, 6, 28, 21, 6, 184, 0, 241, 153, 0, 29]
abbrev dktX1_share_5 : List UInt8 := dkwX1_share_5 ++ dktX1_share_6
def dkwX1_share_4 : List UInt8 := [154, 0, 5, 3, 172, 42, 180, 0, 98, 180, 1, 6, 27, 46, 54, 5, 3, 54, 6, 21, 6, 42]
abbrev dktX1_share_4 : List UInt8 := dkwX1_share_4 ++ dktX1_share_5
def dkwX1_share_3 : List UInt8 := [21, 4, 42, 180, 0, 91, 180, 0, 231, 21, 5, 46, 96, 54, 4, 132, 5, 1, 167, 255, 217, 21, 4]
abbrev dktX1_share_3 : List UInt8 := dkwX1_share_3 ++ dktX1_share_4
def dkwX1_share_2 : List UInt8 := [3, 54, 5, 21, 5, 42, 180, 0, 91, 180, 0, 213, 162, 0, 33, 28, 21, 5, 184, 0, 241, 153, 0, 18]
abbrev dktX1_share_2 : List UInt8 := dkwX1_share_2 ++ dktX1_share_3
def dkwX1_share_1 : List UInt8 := [153, 0, 19, 42, 29, 182, 0, 223, 153, 0, 11, 28, 29, 184, 0, 241, 154, 0, 5, 2, 172, 3, 54, 4]
abbrev dktX1_share_1 : List UInt8 := dkwX1_share_1 ++ dktX1_share_2
def dkwX1_share_0 : List UInt8 := [42, 27, 182, 1, 1, 153, 0, 38, 28, 3, 4, 42, 180, 0, 91, 180, 0, 213, 120, 4, 100, 184, 0, 216]
abbrev dktX1_share_0 : List UInt8 := dkwX1_share_0 ++ dktX1_share_1
theorem dksX1_share_0 : cX1_share.data.toList.drop 0 = dktX1_share_0 := by decide +kernel
theorem dksX1_share_1 : cX1_share.data.toList.drop 24 = dktX1_share_1 := dk_seg dksX1_share_0 24 rfl rfl
theorem dksX1_share_2 : cX1_share.data.toList.drop 48 = dktX1_share_2 := dk_seg dksX1_share_1 24 rfl rfl
theorem dksX1_share_3 : cX1_share.data.toList.drop 72 = dktX1_share_3 := dk_seg dksX1_share_2 24 rfl rfl
theorem dksX1_share_4 : cX1_share.data.toList.drop 95 = dktX1_share_4 := dk_seg dksX1_share_3 23 rfl rfl
theorem dksX1_share_5 : cX1_share.data.toList.drop 117 = dktX1_share_5 := dk_seg dksX1_share_4 22 rfl rfl
theorem dksX1_share_6 : cX1_share.data.toList.drop 141 = dktX1_share_6 := dk_seg dksX1_share_5 24 rfl rfl
theorem dksX1_share_7 : cX1_share.data.toList.drop 164 = dktX1_share_7 := dk_seg dksX1_share_6 23 rfl rfl
theorem dksX1_share_8 : cX1_share.data.toList.drop 188 = dktX1_share_8 := dk_seg dksX1_share_7 24 rfl rfl
theorem dksX1_share_9 : cX1_share.data.toList.drop 212 = dktX1_share_9 := dk_seg dksX1_share_8 24 rfl rfl
theorem dksX1_share_10 : cX1_share.data.toList.drop 236 = dktX1_share_10 := dk_seg dksX1_share_9 24 rfl rfl
theorem dksX1_share_11 : cX1_share.data.toList.drop 260 = dktX1_share_11 := dk_seg dksX1_share_10 24 rfl rfl
theorem dksX1_share_12 : cX1_share.data.toList.drop 284 = dktX1_share_12 := dk_seg dksX1_share_11 24 rfl rfl
theorem dksX1_share_13 : cX1_share.data.toList.drop 306 = dktX1_share_13 := dk_seg dksX1_share_12 22 rfl rfl
theorem dX1_share_0 : decode cX1_share 0 = .ok (.aload_n 0, 1) := dk_42 (dk_at dksX1_share_0 0 rfl rfl)
theorem dX1_share_1 : decode cX1_share 1 = .ok (.iload_n 1, 1) := dk_27 (dk_at dksX1_share_0 1 rfl rfl)
theorem dX1_share_2 : decode cX1_share 2 = .ok (.invokevirtual 257, 3) := dk_182 1 1 (dk_at dksX1_share_0 2 rfl rfl)
theorem dX1_share_5 : decode cX1_share 5 = .ok (.ifCond .eq 38, 3) := dk_153 0 38 (dk_at dksX1_share_0 5 rfl rfl)
theorem dX1_share_8 : decode cX1_share 8 = .ok (.iload_n 2, 1) := dk_28 (dk_at dksX1_share_0 8 rfl rfl)
theorem dX1_share_9 : decode cX1_share 9 = .ok (.iconst 0, 1) := dk_3 (dk_at dksX1_share_0 9 rfl rfl)
theorem dX1_share_10 : decode cX1_share 10 = .ok (.iconst 1, 1) := dk_4 (dk_at dksX1_share_0 10 rfl rfl)
theorem dX1_share_11 : decode cX1_share 11 = .ok (.aload_n 0, 1) := dk_42 (dk_at dksX1_share_0 11 rfl rfl)
theorem dX1_share_12 : decode cX1_share 12 = .ok (.getfield 91, 3) := dk_180 0 91 (dk_at dksX1_share_0 12 rfl rfl)
theorem dX1_share_15 : decode cX1_share 15 = .ok (.getfield 213, 3) := dk_180 0 213 (dk_at dksX1_share_0 15 rfl rfl)
theorem dX1_share_18 : decode cX1_share 18 = .ok (.ishl, 1) := dk_120 (dk_at dksX1_share_0 18 rfl rfl)
theorem dX1_share_19 : decode cX1_share 19 = .ok (.iconst 1, 1) := dk_4 (dk_at dksX1_share_0 19 rfl rfl)
theorem dX1_share_20 : decode cX1_share 20 = .ok (.isub, 1) := dk_100 (dk_at dksX1_share_0 20 rfl rfl)
theorem dX1_share_21 : decode cX1_share 21 = .ok (.invokestatic 216, 3) := dk_184 0 216 (dk_at dksX1_share_0 21 rfl rfl)
theorem dX1_share_24 : decode cX1_share 24 = .ok (.ifCond .eq 19, 3) := dk_153 0 19 (dk_at dksX1_share_1 0 rfl rfl)
theorem dX1_share_27 : decode cX1_share 27 = .ok (.aload_n 0, 1) := dk_42 (dk_at dksX1_share_1 3 rfl rfl)
theorem dX1_share_28 : decode cX1_share 28 = .ok (.iload_n 3, 1) := dk_29 (dk_at dksX1_share_1 4 rfl rfl)
theorem dX1_share_29 : decode cX1_share 29 = .ok (.invokevirtual 223, 3) := dk_182 0 223 (dk_at dksX1_share_1 5 rfl rfl)
theorem dX1_share_32 : decode cX1_share 32 = .ok (.ifCond .eq 11, 3) := dk_153 0 11 (dk_at dksX1_share_1 8 rfl rfl)
theorem dX1_share_35 : decode cX1_share 35 = .ok (.iload_n 2, 1) := dk_28 (dk_at dksX1_share_1 11 rfl rfl)
theorem dX1_share_36 : decode cX1_share 36 = .ok (.iload_n 3, 1) := dk_29 (dk_at dksX1_share_1 12 rfl rfl)
theorem dX1_share_37 : decode cX1_share 37 = .ok (.invokestatic 241, 3) := dk_184 0 241 (dk_at dksX1_share_1 13 rfl rfl)
theorem dX1_share_40 : decode cX1_share 40 = .ok (.ifCond .ne 5, 3) := dk_154 0 5 (dk_at dksX1_share_1 16 rfl rfl)
theorem dX1_share_43 : decode cX1_share 43 = .ok (.iconst (-1), 1) := dk_2 (dk_at dksX1_share_1 19 rfl rfl)
theorem dX1_share_44 : decode cX1_share 44 = .ok (.ireturn, 1) := dk_172 (dk_at dksX1_share_1 20 rfl rfl)
theorem dX1_share_45 : decode cX1_share 45 = .ok (.iconst 0, 1) := dk_3 (dk_at dksX1_share_1 21 rfl rfl)
theorem dX1_share_46 : decode cX1_share 46 = .ok (.istore 4, 2) := dk_54 4 (dk_at dksX1_share_1 22 rfl rfl)
theorem dX1_share_48 : decode cX1_share 48 = .ok (.iconst 0, 1) := dk_3 (dk_at dksX1_share_2 0 rfl rfl)
theorem dX1_share_49 : decode cX1_share 49 = .ok (.istore 5, 2) := dk_54 5 (dk_at dksX1_share_2 1 rfl rfl)
theorem dX1_share_51 : decode cX1_share 51 = .ok (.iload 5, 2) := dk_21 5 (dk_at dksX1_share_2 3 rfl rfl)
theorem dX1_share_53 : decode cX1_share 53 = .ok (.aload_n 0, 1) := dk_42 (dk_at dksX1_share_2 5 rfl rfl)
theorem dX1_share_54 : decode cX1_share 54 = .ok (.getfield 91, 3) := dk_180 0 91 (dk_at dksX1_share_2 6 rfl rfl)
theorem dX1_share_57 : decode cX1_share 57 = .ok (.getfield 213, 3) := dk_180 0 213 (dk_at dksX1_share_2 9 rfl rfl)
theorem dX1_share_60 : decode cX1_share 60 = .ok (.if_icmp .ge 33, 3) := dk_162 0 33 (dk_at dksX1_share_2 12 rfl rfl)
theorem dX1_share_63 : decode cX1_share 63 = .ok (.iload_n 2, 1) := dk_28 (dk_at dksX1_share_2 15 rfl rfl)
theorem dX1_share_64 : decode cX1_share 64 = .ok (.iload 5, 2) := dk_21 5 (dk_at dksX1_share_2 16 rfl rfl)
theorem dX1_share_66 : decode cX1_share 66 = .ok (.invokestatic 241, 3) := dk_184 0 241 (dk_at dksX1_share_2 18 rfl rfl)
theorem dX1_share_69 : decode cX1_share 69 = .ok (.ifCond .eq 18, 3) := dk_153 0 18 (dk_at dksX1_share_2 21 rfl rfl)
theorem dX1_share_72 : decode cX1_share 72 = .ok (.iload 4, 2) := dk_21 4 (dk_at dksX1_share_3 0 rfl rfl)
theorem dX1_share_74 : decode cX1_share 74 = .ok (.aload_n 0, 1) := dk_42 (dk_at dksX1_share_3 2 rfl rfl)
theorem dX1_share_75 : decode cX1_share 75 = .ok (.getfield 91, 3) := dk_180 0 91 (dk_at dksX1_share_3 3 rfl rfl)
theorem dX1_share_78 : decode cX1_share 78 = .ok (.getfield 231, 3) := dk_180 0 231 (dk_at dksX1_share_3 6 rfl rfl)
theorem dX1_share_81 : decode cX1_share 81 = .ok (.iload 5, 2) := dk_21 5 (dk_at dksX1_share_3 9 rfl rfl)
theorem dX1_share_83 : decode cX1_share 83 = .ok (.iaload, 1) := dk_46 (dk_at dksX1_share_3 11 rfl rfl)
theorem dX1_share_84 : decode cX1_share 84 = .ok (.iadd, 1) := dk_96 (dk_at dksX1_share_3 12 rfl rfl)
theorem dX1_share_85 : decode cX1_share 85 = .ok (.istore 4, 2) := dk_54 4 (dk_at dksX1_share_3 13 rfl rfl)
theorem dX1_share_87 : decode cX1_share 87 = .ok (.iinc 5 1, 3) := dk_132 5 1 (dk_at dksX1_share_3 15 rfl rfl)
theorem dX1_share_90 : decode cX1_share 90 = .ok (.goto (-39), 3) := dk_167 255 217 (dk_at dksX1_share_3 18 rfl rfl)
theorem dX1_share_93 : decode cX1_share 93 = .ok (.iload 4, 2) := dk_21 4 (dk_at dksX1_share_3 21 rfl rfl)
theorem dX1_share_95 : decode cX1_share 95 = .ok (.ifCond .ne 5, 3) := dk_154 0 5 (dk_at dksX1_share_4 0 rfl rfl)
theorem dX1_share_98 : decode cX1_share 98 = .ok (.iconst 0, 1) := dk_3 (dk_at dksX1_share_4 3 rfl rfl)
theorem dX1_share_99 : decode cX1_share 99 = .ok (.ireturn, 1) := dk_172 (dk_at dksX1_share_4 4 rfl rfl)
theorem dX1_share_100 : decode cX1_share 100 = .ok (.aload_n 0, 1) := dk_42 (dk_at dksX1_share_4 5 rfl rfl)
theorem dX1_share_101 : decode cX1_share 101 = .ok (.getfield 98, 3) := dk_180 0 98 (dk_at dksX1_share_4 6 rfl rfl)
theorem dX1_share_104 : decode cX1_share 104 = .ok (.getfield 262, 3) := dk_180 1 6 (dk_at dksX1_share_4 9 rfl rfl)
theorem dX1_share_107 : decode cX1_share 107 = .ok (.iload_n 1, 1) := dk_27 (dk_at dksX1_share_4 12 rfl rfl)
theorem dX1_share_108 : decode cX1_share 108 = .ok (.iaload, 1) := dk_46 (dk_at dksX1_share_4 13 rfl rfl)
theorem dX1_share_109 : decode cX1_share 109 = .ok (.istore 5, 2) := dk_54 5 (dk_at dksX1_share_4 14 rfl rfl)
theorem dX1_share_111 : decode cX1_share 111 = .ok (.iconst 0, 1) := dk_3 (dk_at dksX1_share_4 16 rfl rfl)
theorem dX1_share_112 : decode cX1_share 112 = .ok (.istore 6, 2) := dk_54 6 (dk_at dksX1_share_4 17 rfl rfl)
theorem dX1_share_114 : decode cX1_share 114 = .ok (.iload 6, 2) := dk_21 6 (dk_at dksX1_share_4 19 rfl rfl)
theorem dX1_share_116 : decode cX1_share 116 = .ok (.aload_n 0, 1) := dk_42 (dk_at dksX1_share_4 21 rfl rfl)
theorem dX1_share_117 : decode cX1_share 117 = .ok (.getfield 91, 3) := dk_180 0 91 (dk_at dksX1_share_5 0 rfl rfl)
theorem dX1_share_120 : decode cX1_share 120 = .ok (.getfield 213, 3) := dk_180 0 213 (dk_at dksX1_share_5 3 rfl rfl)
theorem dX1_share_123 : decode cX1_share 123 = .ok (.if_icmp .ge 107, 3) := dk_162 0 107 (dk_at dksX1_share_5 6 rfl rfl)
theorem dX1_share_126 : decode cX1_share 126 = .ok (.aload_n 0, 1) := dk_42 (dk_at dksX1_share_5 9 rfl rfl)
theorem dX1_share_127 : decode cX1_share 127 = .ok (.getfield 143, 3) := dk_180 0 143 (dk_at dksX1_share_5 10 rfl rfl)
theorem dX1_share_130 : decode cX1_share 130 = .ok (.iload 6, 2) := dk_21 6 (dk_at dksX1_share_5 13 rfl rfl)
theorem dX1_share_132 : decode cX1_share 132 = .ok (.iload_n 2, 1) := dk_28 (dk_at dksX1_share_5 15 rfl rfl)
theorem dX1_share_133 : decode cX1_share 133 = .ok (.iload 6, 2) := dk_21 6 (dk_at dksX1_share_5 16 rfl rfl)
theorem dX1_share_135 : decode cX1_share 135 = .ok (.invokestatic 241, 3) := dk_184 0 241 (dk_at dksX1_share_5 18 rfl rfl)
theorem dX1_share_138 : decode cX1_share 138 = .ok (.ifCond .eq 29, 3) := dk_153 0 29 (dk_at dksX1_share_5 21 rfl rfl)
theorem dX1_share_141 : decode cX1_share 141 = .ok (.aload_n 0, 1) := dk_42 (dk_at dksX1_share_6 0 rfl rfl)
theorem dX1_share_142 : decode cX1_share 142 = .ok (.getfield 98, 3) := dk_180 0 98 (dk_at dksX1_share_6 1 rfl rfl)
theorem dX1_share_145 : decode cX1_share 145 = .ok (.getfield 262, 3) := dk_180 1 6 (dk_at dksX1_share_6 4 rfl rfl)
theorem dX1_share_148 : decode cX1_share 148 = .ok (.iload_n 1, 1) := dk_27 (dk_at dksX1_share_6 7 rfl rfl)
theorem dX1_share_149 : decode cX1_share 149 = .ok (.iaload, 1) := dk_46 (dk_at dksX1_share_6 8 rfl rfl)
theorem dX1_share_150 : decode cX1_share 150 = .ok (.aload_n 0, 1) := dk_42 (dk_at dksX1_share_6 9 rfl rfl)
theorem dX1_share_151 : decode cX1_share 151 = .ok (.getfield 91, 3) := dk_180 0 91 (dk_at dksX1_share_6 10 rfl rfl)
theorem dX1_share_154 : decode cX1_share 154 = .ok (.getfield 231, 3) := dk_180 0 231 (dk_at dksX1_share_6 13 rfl rfl)
theorem dX1_share_157 : decode cX1_share 157 = .ok (.iload 6, 2) := dk_21 6 (dk_at dksX1_share_6 16 rfl rfl)
theorem dX1_share_159 : decode cX1_share 159 = .ok (.iaload, 1) := dk_46 (dk_at dksX1_share_6 18 rfl rfl)
theorem dX1_share_160 : decode cX1_share 160 = .ok (.imul, 1) := dk_104 (dk_at dksX1_share_6 19 rfl rfl)
theorem dX1_share_161 : decode cX1_share 161 = .ok (.iload 4, 2) := dk_21 4 (dk_at dksX1_share_6 20 rfl rfl)
theorem dX1_share_163 : decode cX1_share 163 = .ok (.idiv, 1) := dk_108 (dk_at dksX1_share_6 22 rfl rfl)
theorem dX1_share_164 : decode cX1_share 164 = .ok (.goto 4, 3) := dk_167 0 4 (dk_at dksX1_share_7 0 rfl rfl)
theorem dX1_share_167 : decode cX1_share 167 = .ok (.iconst 0, 1) := dk_3 (dk_at dksX1_share_7 3 rfl rfl)
theorem dX1_share_168 : decode cX1_share 168 = .ok (.iastore, 1) := dk_79 (dk_at dksX1_share_7 4 rfl rfl)
theorem dX1_share_169 : decode cX1_share 169 = .ok (.aload_n 0, 1) := dk_42 (dk_at dksX1_share_7 5 rfl rfl)
theorem dX1_share_170 : decode cX1_share 170 = .ok (.getfield 146, 3) := dk_180 0 146 (dk_at dksX1_share_7 6 rfl rfl)
theorem dX1_share_173 : decode cX1_share 173 = .ok (.iload 6, 2) := dk_21 6 (dk_at dksX1_share_7 9 rfl rfl)
theorem dX1_share_175 : decode cX1_share 175 = .ok (.iload_n 2, 1) := dk_28 (dk_at dksX1_share_7 11 rfl rfl)
theorem dX1_share_176 : decode cX1_share 176 = .ok (.iload 6, 2) := dk_21 6 (dk_at dksX1_share_7 12 rfl rfl)
theorem dX1_share_178 : decode cX1_share 178 = .ok (.invokestatic 241, 3) := dk_184 0 241 (dk_at dksX1_share_7 14 rfl rfl)
theorem dX1_share_181 : decode cX1_share 181 = .ok (.ifCond .eq 29, 3) := dk_153 0 29 (dk_at dksX1_share_7 17 rfl rfl)
theorem dX1_share_184 : decode cX1_share 184 = .ok (.aload_n 0, 1) := dk_42 (dk_at dksX1_share_7 20 rfl rfl)
theorem dX1_share_185 : decode cX1_share 185 = .ok (.getfield 98, 3) := dk_180 0 98 (dk_at dksX1_share_7 21 rfl rfl)
theorem dX1_share_188 : decode cX1_share 188 = .ok (.getfield 262, 3) := dk_180 1 6 (dk_at dksX1_share_8 0 rfl rfl)
theorem dX1_share_191 : decode cX1_share 191 = .ok (.iload_n 1, 1) := dk_27 (dk_at dksX1_share_8 3 rfl rfl)
theorem dX1_share_192 : decode cX1_share 192 = .ok (.iaload, 1) := dk_46 (dk_at dksX1_share_8 4 rfl rfl)
theorem dX1_share_193 : decode cX1_share 193 = .ok (.aload_n 0, 1) := dk_42 (dk_at dksX1_share_8 5 rfl rfl)
theorem dX1_share_194 : decode cX1_share 194 = .ok (.getfield 91, 3) := dk_180 0 91 (dk_at dksX1_share_8 6 rfl rfl)
theorem dX1_share_197 : decode cX1_share 197 = .ok (.getfield 231, 3) := dk_180 0 231 (dk_at dksX1_share_8 9 rfl rfl)
theorem dX1_share_200 : decode cX1_share 200 = .ok (.iload 6, 2) := dk_21 6 (dk_at dksX1_share_8 12 rfl rfl)
theorem dX1_share_202 : decode cX1_share 202 = .ok (.iaload, 1) := dk_46 (dk_at dksX1_share_8 14 rfl rfl)
theorem dX1_share_203 : decode cX1_share 203 = .ok (.imul, 1) := dk_104 (dk_at dksX1_share_8 15 rfl rfl)
theorem dX1_share_204 : decode cX1_share 204 = .ok (.iload 4, 2) := dk_21 4 (dk_at dksX1_share_8 16 rfl rfl)
theorem dX1_share_206 : decode cX1_share 206 = .ok (.irem, 1) := dk_112 (dk_at dksX1_share_8 18 rfl rfl)
theorem dX1_share_207 : decode cX1_share 207 = .ok (.goto 4, 3) := dk_167 0 4 (dk_at dksX1_share_8 19 rfl rfl)
theorem dX1_share_210 : decode cX1_share 210 = .ok (.iconst (-1), 1) := dk_2 (dk_at dksX1_share_8 22 rfl rfl)
theorem dX1_share_211 : decode cX1_share 211 = .ok (.iastore, 1) := dk_79 (dk_at dksX1_share_8 23 rfl rfl)
theorem dX1_share_212 : decode cX1_share 212 = .ok (.iload 5, 2) := dk_21 5 (dk_at dksX1_share_9 0 rfl rfl)
theorem dX1_share_214 : decode cX1_share 214 = .ok (.aload_n 0, 1) := dk_42 (dk_at dksX1_share_9 2 rfl rfl)
theorem dX1_share_215 : decode cX1_share 215 = .ok (.getfield 143, 3) := dk_180 0 143 (dk_at dksX1_share_9 3 rfl rfl)
theorem dX1_share_218 : decode cX1_share 218 = .ok (.iload 6, 2) := dk_21 6 (dk_at dksX1_share_9 6 rfl rfl)
theorem dX1_share_220 : decode cX1_share 220 = .ok (.iaload, 1) := dk_46 (dk_at dksX1_share_9 8 rfl rfl)
theorem dX1_share_221 : decode cX1_share 221 = .ok (.isub, 1) := dk_100 (dk_at dksX1_share_9 9 rfl rfl)
theorem dX1_share_222 : decode cX1_share 222 = .ok (.istore 5, 2) := dk_54 5 (dk_at dksX1_share_9 10 rfl rfl)
theorem dX1_share_224 : decode cX1_share 224 = .ok (.iinc 6 1, 3) := dk_132 6 1 (dk_at dksX1_share_9 12 rfl rfl)
theorem dX1_share_227 : decode cX1_share 227 = .ok (.goto (-113), 3) := dk_167 255 143 (dk_at dksX1_share_9 15 rfl rfl)
theorem dX1_share_230 : decode cX1_share 230 = .ok (.iload 5, 2) := dk_21 5 (dk_at dksX1_share_9 18 rfl rfl)
theorem dX1_share_232 : decode cX1_share 232 = .ok (.ifCond .le 73, 3) := dk_158 0 73 (dk_at dksX1_share_9 20 rfl rfl)
theorem dX1_share_235 : decode cX1_share 235 = .ok (.iconst 0, 1) := dk_3 (dk_at dksX1_share_9 23 rfl rfl)
theorem dX1_share_236 : decode cX1_share 236 = .ok (.istore 6, 2) := dk_54 6 (dk_at dksX1_share_10 0 rfl rfl)
theorem dX1_share_238 : decode cX1_share 238 = .ok (.iconst 1, 1) := dk_4 (dk_at dksX1_share_10 2 rfl rfl)
theorem dX1_share_239 : decode cX1_share 239 = .ok (.istore 7, 2) := dk_54 7 (dk_at dksX1_share_10 3 rfl rfl)
theorem dX1_share_241 : decode cX1_share 241 = .ok (.iload 7, 2) := dk_21 7 (dk_at dksX1_share_10 5 rfl rfl)
theorem dX1_share_243 : decode cX1_share 243 = .ok (.aload_n 0, 1) := dk_42 (dk_at dksX1_share_10 7 rfl rfl)
theorem dX1_share_244 : decode cX1_share 244 = .ok (.getfield 91, 3) := dk_180 0 91 (dk_at dksX1_share_10 8 rfl rfl)
theorem dX1_share_247 : decode cX1_share 247 = .ok (.getfield 213, 3) := dk_180 0 213 (dk_at dksX1_share_10 11 rfl rfl)
theorem dX1_share_250 : decode cX1_share 250 = .ok (.if_icmp .ge 30, 3) := dk_162 0 30 (dk_at dksX1_share_10 14 rfl rfl)
theorem dX1_share_253 : decode cX1_share 253 = .ok (.aload_n 0, 1) := dk_42 (dk_at dksX1_share_10 17 rfl rfl)
theorem dX1_share_254 : decode cX1_share 254 = .ok (.getfield 146, 3) := dk_180 0 146 (dk_at dksX1_share_10 18 rfl rfl)
theorem dX1_share_257 : decode cX1_share 257 = .ok (.iload 7, 2) := dk_21 7 (dk_at dksX1_share_10 21 rfl rfl)
theorem dX1_share_259 : decode cX1_share 259 = .ok (.iaload, 1) := dk_46 (dk_at dksX1_share_10 23 rfl rfl)
theorem dX1_share_260 : decode cX1_share 260 = .ok (.aload_n 0, 1) := dk_42 (dk_at dksX1_share_11 0 rfl rfl)
theorem dX1_share_261 : decode cX1_share 261 = .ok (.getfield 146, 3) := dk_180 0 146 (dk_at dksX1_share_11 1 rfl rfl)
theorem dX1_share_264 : decode cX1_share 264 = .ok (.iload 6, 2) := dk_21 6 (dk_at dksX1_share_11 4 rfl rfl)
theorem dX1_share_266 : decode cX1_share 266 = .ok (.iaload, 1) := dk_46 (dk_at dksX1_share_11 6 rfl rfl)
theorem dX1_share_267 : decode cX1_share 267 = .ok (.if_icmp .le 7, 3) := dk_164 0 7 (dk_at dksX1_share_11 7 rfl rfl)
theorem dX1_share_270 : decode cX1_share 270 = .ok (.iload 7, 2) := dk_21 7 (dk_at dksX1_share_11 10 rfl rfl)
theorem dX1_share_272 : decode cX1_share 272 = .ok (.istore 6, 2) := dk_54 6 (dk_at dksX1_share_11 12 rfl rfl)
theorem dX1_share_274 : decode cX1_share 274 = .ok (.iinc 7 1, 3) := dk_132 7 1 (dk_at dksX1_share_11 14 rfl rfl)
theorem dX1_share_277 : decode cX1_share 277 = .ok (.goto (-36), 3) := dk_167 255 220 (dk_at dksX1_share_11 17 rfl rfl)
theorem dX1_share_280 : decode cX1_share 280 = .ok (.aload_n 0, 1) := dk_42 (dk_at dksX1_share_11 20 rfl rfl)
theorem dX1_share_281 : decode cX1_share 281 = .ok (.getfield 143, 3) := dk_180 0 143 (dk_at dksX1_share_11 21 rfl rfl)
theorem dX1_share_284 : decode cX1_share 284 = .ok (.iload 6, 2) := dk_21 6 (dk_at dksX1_share_12 0 rfl rfl)
theorem dX1_share_286 : decode cX1_share 286 = .ok (.dup2, 1) := dk_92 (dk_at dksX1_share_12 2 rfl rfl)
theorem dX1_share_287 : decode cX1_share 287 = .ok (.iaload, 1) := dk_46 (dk_at dksX1_share_12 3 rfl rfl)
theorem dX1_share_288 : decode cX1_share 288 = .ok (.iconst 1, 1) := dk_4 (dk_at dksX1_share_12 4 rfl rfl)
theorem dX1_share_289 : decode cX1_share 289 = .ok (.iadd, 1) := dk_96 (dk_at dksX1_share_12 5 rfl rfl)
theorem dX1_share_290 : decode cX1_share 290 = .ok (.iastore, 1) := dk_79 (dk_at dksX1_share_12 6 rfl rfl)
theorem dX1_share_291 : decode cX1_share 291 = .ok (.aload_n 0, 1) := dk_42 (dk_at dksX1_share_12 7 rfl rfl)
theorem dX1_share_292 : decode cX1_share 292 = .ok (.getfield 146, 3) := dk_180 0 146 (dk_at dksX1_share_12 8 rfl rfl)
theorem dX1_share_295 : decode cX1_share 295 = .ok (.iload 6, 2) := dk_21 6 (dk_at dksX1_share_12 11 rfl rfl)
theorem dX1_share_297 : decode cX1_share 297 = .ok (.iconst (-1), 1) := dk_2 (dk_at dksX1_share_12 13 rfl rfl)
theorem dX1_share_298 : decode cX1_share 298 = .ok (.iastore, 1) := dk_79 (dk_at dksX1_share_12 14 rfl rfl)
theorem dX1_share_299 : decode cX1_share 299 = .ok (.iinc 5 (-1), 3) := dk_132 5 255 (dk_at dksX1_share_12 15 rfl rfl)
theorem dX1_share_302 : decode cX1_share 302 = .ok (.goto (-72), 3) := dk_167 255 184 (dk_at dksX1_share_12 18 rfl rfl)
theorem dX1_share_305 : decode cX1_share 305 = .ok (.aload_n 0, 1) := dk_42 (dk_at dksX1_share_12 21 rfl rfl)
theorem dX1_share_306 : decode cX1_share 306 = .ok (.getfield 143, 3) := dk_180 0 143 (dk_at dksX1_share_13 0 rfl rfl)
theorem dX1_share_309 : decode cX1_share 309 = .ok (.iload_n 3, 1) := dk_29 (dk_at dksX1_share_13 3 rfl rfl)
theorem dX1_share_310 : decode cX1_share 310 = .ok (.iaload, 1) := dk_46 (dk_at dksX1_share_13 4 rfl rfl)
theorem dX1_share_311 : decode cX1_share 311 = .ok (.ireturn, 1) := dk_172 (dk_at dksX1_share_13 5 rfl rfl)
abbrev cX1_last : ByteArray := prog_1_method_38_code
def yX1_last : MethodName := ⟨RX1, "last", "(I)I"⟩
def dkwX1_last_3 : List UInt8 := [167, 255, 225, 132, 4, 1, 167, 255, 210, 45, 28, 46, 172]
abbrev dktX1_last_3 : List UInt8 := dkwX1_last_3 ++ []
def dkwX1_last_2 : List UInt8 := [162, 0, 19, 45, 21, 4, 21, 5, 100, 46, 154, 0, 9, 45, 21, 4, 21, 5, 79, 132, 5, 255]
abbrev dktX1_last_2 : List UInt8 := dkwX1_last_2 ++ dktX1_last_3
def dkwX1_last_1 : List UInt8 := [188, 10, 78, 5, 54, 4, 21, 4, 28, 163, 0, 46, 6, 54, 5, 21, 5, 158, 0, 32, 21, 5, 21, 4]
abbrev dktX1_last_1 : List UInt8 := dkwX1_last_1 ++ dktX1_last_2
def dkwX1_last_0 : List UInt8 := [42, 27, 182, 1, 1, 154, 0, 5, 2, 172, 42, 180, 0, 98, 180, 1, 6, 27, 46, 61, 28, 4, 96]
abbrev dktX1_last_0 : List UInt8 := dkwX1_last_0 ++ dktX1_last_1
theorem dksX1_last_0 : cX1_last.data.toList.drop 0 = dktX1_last_0 := by decide +kernel
theorem dksX1_last_1 : cX1_last.data.toList.drop 23 = dktX1_last_1 := dk_seg dksX1_last_0 23 rfl rfl
theorem dksX1_last_2 : cX1_last.data.toList.drop 47 = dktX1_last_2 := dk_seg dksX1_last_1 24 rfl rfl
theorem dksX1_last_3 : cX1_last.data.toList.drop 69 = dktX1_last_3 := dk_seg dksX1_last_2 22 rfl rfl
theorem dX1_last_0 : decode cX1_last 0 = .ok (.aload_n 0, 1) := dk_42 (dk_at dksX1_last_0 0 rfl rfl)
theorem dX1_last_1 : decode cX1_last 1 = .ok (.iload_n 1, 1) := dk_27 (dk_at dksX1_last_0 1 rfl rfl)
theorem dX1_last_2 : decode cX1_last 2 = .ok (.invokevirtual 257, 3) := dk_182 1 1 (dk_at dksX1_last_0 2 rfl rfl)
theorem dX1_last_5 : decode cX1_last 5 = .ok (.ifCond .ne 5, 3) := dk_154 0 5 (dk_at dksX1_last_0 5 rfl rfl)
theorem dX1_last_8 : decode cX1_last 8 = .ok (.iconst (-1), 1) := dk_2 (dk_at dksX1_last_0 8 rfl rfl)
theorem dX1_last_9 : decode cX1_last 9 = .ok (.ireturn, 1) := dk_172 (dk_at dksX1_last_0 9 rfl rfl)
theorem dX1_last_10 : decode cX1_last 10 = .ok (.aload_n 0, 1) := dk_42 (dk_at dksX1_last_0 10 rfl rfl)
theorem dX1_last_11 : decode cX1_last 11 = .ok (.getfield 98, 3) := dk_180 0 98 (dk_at dksX1_last_0 11 rfl rfl)
theorem dX1_last_14 : decode cX1_last 14 = .ok (.getfield 262, 3) := dk_180 1 6 (dk_at dksX1_last_0 14 rfl rfl)
theorem dX1_last_17 : decode cX1_last 17 = .ok (.iload_n 1, 1) := dk_27 (dk_at dksX1_last_0 17 rfl rfl)
theorem dX1_last_18 : decode cX1_last 18 = .ok (.iaload, 1) := dk_46 (dk_at dksX1_last_0 18 rfl rfl)
theorem dX1_last_19 : decode cX1_last 19 = .ok (.istore_n 2, 1) := dk_61 (dk_at dksX1_last_0 19 rfl rfl)
theorem dX1_last_20 : decode cX1_last 20 = .ok (.iload_n 2, 1) := dk_28 (dk_at dksX1_last_0 20 rfl rfl)
theorem dX1_last_21 : decode cX1_last 21 = .ok (.iconst 1, 1) := dk_4 (dk_at dksX1_last_0 21 rfl rfl)
theorem dX1_last_22 : decode cX1_last 22 = .ok (.iadd, 1) := dk_96 (dk_at dksX1_last_0 22 rfl rfl)
theorem dX1_last_23 : decode cX1_last 23 = .ok (.newarray .int, 2) := dk_188_10 (dk_at dksX1_last_1 0 rfl rfl)
theorem dX1_last_25 : decode cX1_last 25 = .ok (.astore_n 3, 1) := dk_78 (dk_at dksX1_last_1 2 rfl rfl)
theorem dX1_last_26 : decode cX1_last 26 = .ok (.iconst 2, 1) := dk_5 (dk_at dksX1_last_1 3 rfl rfl)
theorem dX1_last_27 : decode cX1_last 27 = .ok (.istore 4, 2) := dk_54 4 (dk_at dksX1_last_1 4 rfl rfl)
theorem dX1_last_29 : decode cX1_last 29 = .ok (.iload 4, 2) := dk_21 4 (dk_at dksX1_last_1 6 rfl rfl)
theorem dX1_last_31 : decode cX1_last 31 = .ok (.iload_n 2, 1) := dk_28 (dk_at dksX1_last_1 8 rfl rfl)
theorem dX1_last_32 : decode cX1_last 32 = .ok (.if_icmp .gt 46, 3) := dk_163 0 46 (dk_at dksX1_last_1 9 rfl rfl)
theorem dX1_last_35 : decode cX1_last 35 = .ok (.iconst 3, 1) := dk_6 (dk_at dksX1_last_1 12 rfl rfl)
theorem dX1_last_36 : decode cX1_last 36 = .ok (.istore 5, 2) := dk_54 5 (dk_at dksX1_last_1 13 rfl rfl)
theorem dX1_last_38 : decode cX1_last 38 = .ok (.iload 5, 2) := dk_21 5 (dk_at dksX1_last_1 15 rfl rfl)
theorem dX1_last_40 : decode cX1_last 40 = .ok (.ifCond .le 32, 3) := dk_158 0 32 (dk_at dksX1_last_1 17 rfl rfl)
theorem dX1_last_43 : decode cX1_last 43 = .ok (.iload 5, 2) := dk_21 5 (dk_at dksX1_last_1 20 rfl rfl)
theorem dX1_last_45 : decode cX1_last 45 = .ok (.iload 4, 2) := dk_21 4 (dk_at dksX1_last_1 22 rfl rfl)
theorem dX1_last_47 : decode cX1_last 47 = .ok (.if_icmp .ge 19, 3) := dk_162 0 19 (dk_at dksX1_last_2 0 rfl rfl)
theorem dX1_last_50 : decode cX1_last 50 = .ok (.aload_n 3, 1) := dk_45 (dk_at dksX1_last_2 3 rfl rfl)
theorem dX1_last_51 : decode cX1_last 51 = .ok (.iload 4, 2) := dk_21 4 (dk_at dksX1_last_2 4 rfl rfl)
theorem dX1_last_53 : decode cX1_last 53 = .ok (.iload 5, 2) := dk_21 5 (dk_at dksX1_last_2 6 rfl rfl)
theorem dX1_last_55 : decode cX1_last 55 = .ok (.isub, 1) := dk_100 (dk_at dksX1_last_2 8 rfl rfl)
theorem dX1_last_56 : decode cX1_last 56 = .ok (.iaload, 1) := dk_46 (dk_at dksX1_last_2 9 rfl rfl)
theorem dX1_last_57 : decode cX1_last 57 = .ok (.ifCond .ne 9, 3) := dk_154 0 9 (dk_at dksX1_last_2 10 rfl rfl)
theorem dX1_last_60 : decode cX1_last 60 = .ok (.aload_n 3, 1) := dk_45 (dk_at dksX1_last_2 13 rfl rfl)
theorem dX1_last_61 : decode cX1_last 61 = .ok (.iload 4, 2) := dk_21 4 (dk_at dksX1_last_2 14 rfl rfl)
theorem dX1_last_63 : decode cX1_last 63 = .ok (.iload 5, 2) := dk_21 5 (dk_at dksX1_last_2 16 rfl rfl)
theorem dX1_last_65 : decode cX1_last 65 = .ok (.iastore, 1) := dk_79 (dk_at dksX1_last_2 18 rfl rfl)
theorem dX1_last_66 : decode cX1_last 66 = .ok (.iinc 5 (-1), 3) := dk_132 5 255 (dk_at dksX1_last_2 19 rfl rfl)
theorem dX1_last_69 : decode cX1_last 69 = .ok (.goto (-31), 3) := dk_167 255 225 (dk_at dksX1_last_3 0 rfl rfl)
theorem dX1_last_72 : decode cX1_last 72 = .ok (.iinc 4 1, 3) := dk_132 4 1 (dk_at dksX1_last_3 3 rfl rfl)
theorem dX1_last_75 : decode cX1_last 75 = .ok (.goto (-46), 3) := dk_167 255 210 (dk_at dksX1_last_3 6 rfl rfl)
theorem dX1_last_78 : decode cX1_last 78 = .ok (.aload_n 3, 1) := dk_45 (dk_at dksX1_last_3 9 rfl rfl)
theorem dX1_last_79 : decode cX1_last 79 = .ok (.iload_n 2, 1) := dk_28 (dk_at dksX1_last_3 10 rfl rfl)
theorem dX1_last_80 : decode cX1_last 80 = .ok (.iaload, 1) := dk_46 (dk_at dksX1_last_3 11 rfl rfl)
theorem dX1_last_81 : decode cX1_last 81 = .ok (.ireturn, 1) := dk_172 (dk_at dksX1_last_3 12 rfl rfl)
abbrev cX1_seats : ByteArray := prog_1_method_40_code
def yX1_seats : MethodName := ⟨RX1, "seats", "()I"⟩
def dkwX1_seats_0 : List UInt8 := [42, 2, 181, 1, 123, 42, 3, 42, 182, 1, 97, 3, 182, 1, 126, 42, 180, 1, 123, 172]
abbrev dktX1_seats_0 : List UInt8 := dkwX1_seats_0 ++ []
theorem dksX1_seats_0 : cX1_seats.data.toList.drop 0 = dktX1_seats_0 := by decide +kernel
theorem dX1_seats_0 : decode cX1_seats 0 = .ok (.aload_n 0, 1) := dk_42 (dk_at dksX1_seats_0 0 rfl rfl)
theorem dX1_seats_1 : decode cX1_seats 1 = .ok (.iconst (-1), 1) := dk_2 (dk_at dksX1_seats_0 1 rfl rfl)
theorem dX1_seats_2 : decode cX1_seats 2 = .ok (.putfield 379, 3) := dk_181 1 123 (dk_at dksX1_seats_0 2 rfl rfl)
theorem dX1_seats_5 : decode cX1_seats 5 = .ok (.aload_n 0, 1) := dk_42 (dk_at dksX1_seats_0 5 rfl rfl)
theorem dX1_seats_6 : decode cX1_seats 6 = .ok (.iconst 0, 1) := dk_3 (dk_at dksX1_seats_0 6 rfl rfl)
theorem dX1_seats_7 : decode cX1_seats 7 = .ok (.aload_n 0, 1) := dk_42 (dk_at dksX1_seats_0 7 rfl rfl)
theorem dX1_seats_8 : decode cX1_seats 8 = .ok (.invokevirtual 353, 3) := dk_182 1 97 (dk_at dksX1_seats_0 8 rfl rfl)
theorem dX1_seats_11 : decode cX1_seats 11 = .ok (.iconst 0, 1) := dk_3 (dk_at dksX1_seats_0 11 rfl rfl)
theorem dX1_seats_12 : decode cX1_seats 12 = .ok (.invokevirtual 382, 3) := dk_182 1 126 (dk_at dksX1_seats_0 12 rfl rfl)
theorem dX1_seats_15 : decode cX1_seats 15 = .ok (.aload_n 0, 1) := dk_42 (dk_at dksX1_seats_0 15 rfl rfl)
theorem dX1_seats_16 : decode cX1_seats 16 = .ok (.getfield 379, 3) := dk_180 1 123 (dk_at dksX1_seats_0 16 rfl rfl)
theorem dX1_seats_19 : decode cX1_seats 19 = .ok (.ireturn, 1) := dk_172 (dk_at dksX1_seats_0 19 rfl rfl)
abbrev cX1_sits : ByteArray := prog_1_method_39_code
def yX1_sits : MethodName := ⟨RX1, "sits", "(III)V"⟩
def dkwX1_sits_5 : List UInt8 := [167, 255, 180, 177]
abbrev dktX1_sits_5 : List UInt8 := dkwX1_sits_5 ++ []
def dkwX1_sits_4 : List UInt8 := [46, 160, 0, 9, 29, 4, 96, 167, 0, 4, 29, 182, 1, 126, 21, 4, 21, 4, 4, 100, 126, 54, 4]
abbrev dktX1_sits_4 : List UInt8 := dkwX1_sits_4 ++ dktX1_sits_5
def dkwX1_sits_3 : List UInt8 := [2, 130, 126, 27, 158, 0, 30, 42, 180, 0, 91, 180, 0, 233, 21, 5, 46, 42, 180, 0, 149, 27, 4, 100]
abbrev dktX1_sits_3 : List UInt8 := dkwX1_sits_3 ++ dktX1_sits_4
def dkwX1_sits_2 : List UInt8 := [21, 4, 184, 1, 86, 54, 5, 42, 180, 0, 149, 27, 21, 5, 79, 42, 27, 4, 96, 28, 4, 21, 5, 120]
abbrev dktX1_sits_2 : List UInt8 := dkwX1_sits_2 ++ dktX1_sits_3
def dkwX1_sits_1 : List UInt8 := [180, 0, 149, 3, 42, 180, 0, 152, 3, 16, 7, 184, 1, 24, 177, 28, 54, 4, 21, 4, 153, 0, 77]
abbrev dktX1_sits_1 : List UInt8 := dkwX1_sits_1 ++ dktX1_sits_2
def dkwX1_sits_0 : List UInt8 := [28, 154, 0, 38, 29, 42, 180, 1, 123, 163, 0, 4, 177, 42, 29, 181, 1, 123, 42, 27, 181, 0, 155, 42]
abbrev dktX1_sits_0 : List UInt8 := dkwX1_sits_0 ++ dktX1_sits_1
theorem dksX1_sits_0 : cX1_sits.data.toList.drop 0 = dktX1_sits_0 := by decide +kernel
theorem dksX1_sits_1 : cX1_sits.data.toList.drop 24 = dktX1_sits_1 := dk_seg dksX1_sits_0 24 rfl rfl
theorem dksX1_sits_2 : cX1_sits.data.toList.drop 47 = dktX1_sits_2 := dk_seg dksX1_sits_1 23 rfl rfl
theorem dksX1_sits_3 : cX1_sits.data.toList.drop 71 = dktX1_sits_3 := dk_seg dksX1_sits_2 24 rfl rfl
theorem dksX1_sits_4 : cX1_sits.data.toList.drop 95 = dktX1_sits_4 := dk_seg dksX1_sits_3 24 rfl rfl
theorem dksX1_sits_5 : cX1_sits.data.toList.drop 118 = dktX1_sits_5 := dk_seg dksX1_sits_4 23 rfl rfl
theorem dX1_sits_0 : decode cX1_sits 0 = .ok (.iload_n 2, 1) := dk_28 (dk_at dksX1_sits_0 0 rfl rfl)
theorem dX1_sits_1 : decode cX1_sits 1 = .ok (.ifCond .ne 38, 3) := dk_154 0 38 (dk_at dksX1_sits_0 1 rfl rfl)
theorem dX1_sits_4 : decode cX1_sits 4 = .ok (.iload_n 3, 1) := dk_29 (dk_at dksX1_sits_0 4 rfl rfl)
theorem dX1_sits_5 : decode cX1_sits 5 = .ok (.aload_n 0, 1) := dk_42 (dk_at dksX1_sits_0 5 rfl rfl)
theorem dX1_sits_6 : decode cX1_sits 6 = .ok (.getfield 379, 3) := dk_180 1 123 (dk_at dksX1_sits_0 6 rfl rfl)
theorem dX1_sits_9 : decode cX1_sits 9 = .ok (.if_icmp .gt 4, 3) := dk_163 0 4 (dk_at dksX1_sits_0 9 rfl rfl)
theorem dX1_sits_12 : decode cX1_sits 12 = .ok (.return_, 1) := dk_177 (dk_at dksX1_sits_0 12 rfl rfl)
theorem dX1_sits_13 : decode cX1_sits 13 = .ok (.aload_n 0, 1) := dk_42 (dk_at dksX1_sits_0 13 rfl rfl)
theorem dX1_sits_14 : decode cX1_sits 14 = .ok (.iload_n 3, 1) := dk_29 (dk_at dksX1_sits_0 14 rfl rfl)
theorem dX1_sits_15 : decode cX1_sits 15 = .ok (.putfield 379, 3) := dk_181 1 123 (dk_at dksX1_sits_0 15 rfl rfl)
theorem dX1_sits_18 : decode cX1_sits 18 = .ok (.aload_n 0, 1) := dk_42 (dk_at dksX1_sits_0 18 rfl rfl)
theorem dX1_sits_19 : decode cX1_sits 19 = .ok (.iload_n 1, 1) := dk_27 (dk_at dksX1_sits_0 19 rfl rfl)
theorem dX1_sits_20 : decode cX1_sits 20 = .ok (.putfield 155, 3) := dk_181 0 155 (dk_at dksX1_sits_0 20 rfl rfl)
theorem dX1_sits_23 : decode cX1_sits 23 = .ok (.aload_n 0, 1) := dk_42 (dk_at dksX1_sits_0 23 rfl rfl)
theorem dX1_sits_24 : decode cX1_sits 24 = .ok (.getfield 149, 3) := dk_180 0 149 (dk_at dksX1_sits_1 0 rfl rfl)
theorem dX1_sits_27 : decode cX1_sits 27 = .ok (.iconst 0, 1) := dk_3 (dk_at dksX1_sits_1 3 rfl rfl)
theorem dX1_sits_28 : decode cX1_sits 28 = .ok (.aload_n 0, 1) := dk_42 (dk_at dksX1_sits_1 4 rfl rfl)
theorem dX1_sits_29 : decode cX1_sits 29 = .ok (.getfield 152, 3) := dk_180 0 152 (dk_at dksX1_sits_1 5 rfl rfl)
theorem dX1_sits_32 : decode cX1_sits 32 = .ok (.iconst 0, 1) := dk_3 (dk_at dksX1_sits_1 8 rfl rfl)
theorem dX1_sits_33 : decode cX1_sits 33 = .ok (.bipush 7, 2) := dk_16 7 (dk_at dksX1_sits_1 9 rfl rfl)
theorem dX1_sits_35 : decode cX1_sits 35 = .ok (.invokestatic 280, 3) := dk_184 1 24 (dk_at dksX1_sits_1 11 rfl rfl)
theorem dX1_sits_38 : decode cX1_sits 38 = .ok (.return_, 1) := dk_177 (dk_at dksX1_sits_1 14 rfl rfl)
theorem dX1_sits_39 : decode cX1_sits 39 = .ok (.iload_n 2, 1) := dk_28 (dk_at dksX1_sits_1 15 rfl rfl)
theorem dX1_sits_40 : decode cX1_sits 40 = .ok (.istore 4, 2) := dk_54 4 (dk_at dksX1_sits_1 16 rfl rfl)
theorem dX1_sits_42 : decode cX1_sits 42 = .ok (.iload 4, 2) := dk_21 4 (dk_at dksX1_sits_1 18 rfl rfl)
theorem dX1_sits_44 : decode cX1_sits 44 = .ok (.ifCond .eq 77, 3) := dk_153 0 77 (dk_at dksX1_sits_1 20 rfl rfl)
theorem dX1_sits_47 : decode cX1_sits 47 = .ok (.iload 4, 2) := dk_21 4 (dk_at dksX1_sits_2 0 rfl rfl)
theorem dX1_sits_49 : decode cX1_sits 49 = .ok (.invokestatic 342, 3) := dk_184 1 86 (dk_at dksX1_sits_2 2 rfl rfl)
theorem dX1_sits_52 : decode cX1_sits 52 = .ok (.istore 5, 2) := dk_54 5 (dk_at dksX1_sits_2 5 rfl rfl)
theorem dX1_sits_54 : decode cX1_sits 54 = .ok (.aload_n 0, 1) := dk_42 (dk_at dksX1_sits_2 7 rfl rfl)
theorem dX1_sits_55 : decode cX1_sits 55 = .ok (.getfield 149, 3) := dk_180 0 149 (dk_at dksX1_sits_2 8 rfl rfl)
theorem dX1_sits_58 : decode cX1_sits 58 = .ok (.iload_n 1, 1) := dk_27 (dk_at dksX1_sits_2 11 rfl rfl)
theorem dX1_sits_59 : decode cX1_sits 59 = .ok (.iload 5, 2) := dk_21 5 (dk_at dksX1_sits_2 12 rfl rfl)
theorem dX1_sits_61 : decode cX1_sits 61 = .ok (.iastore, 1) := dk_79 (dk_at dksX1_sits_2 14 rfl rfl)
theorem dX1_sits_62 : decode cX1_sits 62 = .ok (.aload_n 0, 1) := dk_42 (dk_at dksX1_sits_2 15 rfl rfl)
theorem dX1_sits_63 : decode cX1_sits 63 = .ok (.iload_n 1, 1) := dk_27 (dk_at dksX1_sits_2 16 rfl rfl)
theorem dX1_sits_64 : decode cX1_sits 64 = .ok (.iconst 1, 1) := dk_4 (dk_at dksX1_sits_2 17 rfl rfl)
theorem dX1_sits_65 : decode cX1_sits 65 = .ok (.iadd, 1) := dk_96 (dk_at dksX1_sits_2 18 rfl rfl)
theorem dX1_sits_66 : decode cX1_sits 66 = .ok (.iload_n 2, 1) := dk_28 (dk_at dksX1_sits_2 19 rfl rfl)
theorem dX1_sits_67 : decode cX1_sits 67 = .ok (.iconst 1, 1) := dk_4 (dk_at dksX1_sits_2 20 rfl rfl)
theorem dX1_sits_68 : decode cX1_sits 68 = .ok (.iload 5, 2) := dk_21 5 (dk_at dksX1_sits_2 21 rfl rfl)
theorem dX1_sits_70 : decode cX1_sits 70 = .ok (.ishl, 1) := dk_120 (dk_at dksX1_sits_2 23 rfl rfl)
theorem dX1_sits_71 : decode cX1_sits 71 = .ok (.iconst (-1), 1) := dk_2 (dk_at dksX1_sits_3 0 rfl rfl)
theorem dX1_sits_72 : decode cX1_sits 72 = .ok (.ixor, 1) := dk_130 (dk_at dksX1_sits_3 1 rfl rfl)
theorem dX1_sits_73 : decode cX1_sits 73 = .ok (.iand, 1) := dk_126 (dk_at dksX1_sits_3 2 rfl rfl)
theorem dX1_sits_74 : decode cX1_sits 74 = .ok (.iload_n 1, 1) := dk_27 (dk_at dksX1_sits_3 3 rfl rfl)
theorem dX1_sits_75 : decode cX1_sits 75 = .ok (.ifCond .le 30, 3) := dk_158 0 30 (dk_at dksX1_sits_3 4 rfl rfl)
theorem dX1_sits_78 : decode cX1_sits 78 = .ok (.aload_n 0, 1) := dk_42 (dk_at dksX1_sits_3 7 rfl rfl)
theorem dX1_sits_79 : decode cX1_sits 79 = .ok (.getfield 91, 3) := dk_180 0 91 (dk_at dksX1_sits_3 8 rfl rfl)
theorem dX1_sits_82 : decode cX1_sits 82 = .ok (.getfield 233, 3) := dk_180 0 233 (dk_at dksX1_sits_3 11 rfl rfl)
theorem dX1_sits_85 : decode cX1_sits 85 = .ok (.iload 5, 2) := dk_21 5 (dk_at dksX1_sits_3 14 rfl rfl)
theorem dX1_sits_87 : decode cX1_sits 87 = .ok (.iaload, 1) := dk_46 (dk_at dksX1_sits_3 16 rfl rfl)
theorem dX1_sits_88 : decode cX1_sits 88 = .ok (.aload_n 0, 1) := dk_42 (dk_at dksX1_sits_3 17 rfl rfl)
theorem dX1_sits_89 : decode cX1_sits 89 = .ok (.getfield 149, 3) := dk_180 0 149 (dk_at dksX1_sits_3 18 rfl rfl)
theorem dX1_sits_92 : decode cX1_sits 92 = .ok (.iload_n 1, 1) := dk_27 (dk_at dksX1_sits_3 21 rfl rfl)
theorem dX1_sits_93 : decode cX1_sits 93 = .ok (.iconst 1, 1) := dk_4 (dk_at dksX1_sits_3 22 rfl rfl)
theorem dX1_sits_94 : decode cX1_sits 94 = .ok (.isub, 1) := dk_100 (dk_at dksX1_sits_3 23 rfl rfl)
theorem dX1_sits_95 : decode cX1_sits 95 = .ok (.iaload, 1) := dk_46 (dk_at dksX1_sits_4 0 rfl rfl)
theorem dX1_sits_96 : decode cX1_sits 96 = .ok (.if_icmp .ne 9, 3) := dk_160 0 9 (dk_at dksX1_sits_4 1 rfl rfl)
theorem dX1_sits_99 : decode cX1_sits 99 = .ok (.iload_n 3, 1) := dk_29 (dk_at dksX1_sits_4 4 rfl rfl)
theorem dX1_sits_100 : decode cX1_sits 100 = .ok (.iconst 1, 1) := dk_4 (dk_at dksX1_sits_4 5 rfl rfl)
theorem dX1_sits_101 : decode cX1_sits 101 = .ok (.iadd, 1) := dk_96 (dk_at dksX1_sits_4 6 rfl rfl)
theorem dX1_sits_102 : decode cX1_sits 102 = .ok (.goto 4, 3) := dk_167 0 4 (dk_at dksX1_sits_4 7 rfl rfl)
theorem dX1_sits_105 : decode cX1_sits 105 = .ok (.iload_n 3, 1) := dk_29 (dk_at dksX1_sits_4 10 rfl rfl)
theorem dX1_sits_106 : decode cX1_sits 106 = .ok (.invokevirtual 382, 3) := dk_182 1 126 (dk_at dksX1_sits_4 11 rfl rfl)
theorem dX1_sits_109 : decode cX1_sits 109 = .ok (.iload 4, 2) := dk_21 4 (dk_at dksX1_sits_4 14 rfl rfl)
theorem dX1_sits_111 : decode cX1_sits 111 = .ok (.iload 4, 2) := dk_21 4 (dk_at dksX1_sits_4 16 rfl rfl)
theorem dX1_sits_113 : decode cX1_sits 113 = .ok (.iconst 1, 1) := dk_4 (dk_at dksX1_sits_4 18 rfl rfl)
theorem dX1_sits_114 : decode cX1_sits 114 = .ok (.isub, 1) := dk_100 (dk_at dksX1_sits_4 19 rfl rfl)
theorem dX1_sits_115 : decode cX1_sits 115 = .ok (.iand, 1) := dk_126 (dk_at dksX1_sits_4 20 rfl rfl)
theorem dX1_sits_116 : decode cX1_sits 116 = .ok (.istore 4, 2) := dk_54 4 (dk_at dksX1_sits_4 21 rfl rfl)
theorem dX1_sits_118 : decode cX1_sits 118 = .ok (.goto (-76), 3) := dk_167 255 180 (dk_at dksX1_sits_5 0 rfl rfl)
theorem dX1_sits_121 : decode cX1_sits 121 = .ok (.return_, 1) := dk_177 (dk_at dksX1_sits_5 3 rfl rfl)
abbrev cX1_seatAt : ByteArray := prog_1_method_41_code
def yX1_seatAt : MethodName := ⟨RX1, "seatAt", "(I)I"⟩
def dkwX1_seatAt_1 : List UInt8 := [172]
abbrev dktX1_seatAt_1 : List UInt8 := dkwX1_seatAt_1 ++ []
def dkwX1_seatAt_0 : List UInt8 := [27, 3, 42, 180, 0, 155, 4, 100, 184, 0, 216, 153, 0, 12, 42, 180, 0, 152, 27, 46, 167, 0, 4, 2]
abbrev dktX1_seatAt_0 : List UInt8 := dkwX1_seatAt_0 ++ dktX1_seatAt_1
theorem dksX1_seatAt_0 : cX1_seatAt.data.toList.drop 0 = dktX1_seatAt_0 := by decide +kernel
theorem dksX1_seatAt_1 : cX1_seatAt.data.toList.drop 24 = dktX1_seatAt_1 := dk_seg dksX1_seatAt_0 24 rfl rfl
theorem dX1_seatAt_0 : decode cX1_seatAt 0 = .ok (.iload_n 1, 1) := dk_27 (dk_at dksX1_seatAt_0 0 rfl rfl)
theorem dX1_seatAt_1 : decode cX1_seatAt 1 = .ok (.iconst 0, 1) := dk_3 (dk_at dksX1_seatAt_0 1 rfl rfl)
theorem dX1_seatAt_2 : decode cX1_seatAt 2 = .ok (.aload_n 0, 1) := dk_42 (dk_at dksX1_seatAt_0 2 rfl rfl)
theorem dX1_seatAt_3 : decode cX1_seatAt 3 = .ok (.getfield 155, 3) := dk_180 0 155 (dk_at dksX1_seatAt_0 3 rfl rfl)
theorem dX1_seatAt_6 : decode cX1_seatAt 6 = .ok (.iconst 1, 1) := dk_4 (dk_at dksX1_seatAt_0 6 rfl rfl)
theorem dX1_seatAt_7 : decode cX1_seatAt 7 = .ok (.isub, 1) := dk_100 (dk_at dksX1_seatAt_0 7 rfl rfl)
theorem dX1_seatAt_8 : decode cX1_seatAt 8 = .ok (.invokestatic 216, 3) := dk_184 0 216 (dk_at dksX1_seatAt_0 8 rfl rfl)
theorem dX1_seatAt_11 : decode cX1_seatAt 11 = .ok (.ifCond .eq 12, 3) := dk_153 0 12 (dk_at dksX1_seatAt_0 11 rfl rfl)
theorem dX1_seatAt_14 : decode cX1_seatAt 14 = .ok (.aload_n 0, 1) := dk_42 (dk_at dksX1_seatAt_0 14 rfl rfl)
theorem dX1_seatAt_15 : decode cX1_seatAt 15 = .ok (.getfield 152, 3) := dk_180 0 152 (dk_at dksX1_seatAt_0 15 rfl rfl)
theorem dX1_seatAt_18 : decode cX1_seatAt 18 = .ok (.iload_n 1, 1) := dk_27 (dk_at dksX1_seatAt_0 18 rfl rfl)
theorem dX1_seatAt_19 : decode cX1_seatAt 19 = .ok (.iaload, 1) := dk_46 (dk_at dksX1_seatAt_0 19 rfl rfl)
theorem dX1_seatAt_20 : decode cX1_seatAt 20 = .ok (.goto 4, 3) := dk_167 0 4 (dk_at dksX1_seatAt_0 20 rfl rfl)
theorem dX1_seatAt_23 : decode cX1_seatAt 23 = .ok (.iconst (-1), 1) := dk_2 (dk_at dksX1_seatAt_0 23 rfl rfl)
theorem dX1_seatAt_24 : decode cX1_seatAt 24 = .ok (.ireturn, 1) := dk_172 (dk_at dksX1_seatAt_1 0 rfl rfl)
abbrev cX1_left : ByteArray := prog_1_method_42_code
def yX1_left : MethodName := ⟨RX1, "left", "(I)I"⟩
def dkwX1_left_5 : List UInt8 := [180, 0, 102, 27, 182, 0, 250, 172]
abbrev dktX1_left_5 : List UInt8 := dkwX1_left_5 ++ []
def dkwX1_left_4 : List UInt8 := [180, 0, 102, 42, 180, 0, 91, 42, 28, 182, 1, 101, 182, 1, 68, 132, 2, 1, 167, 255, 214, 42]
abbrev dktX1_left_4 : List UInt8 := dkwX1_left_4 ++ dktX1_left_5
def dkwX1_left_3 : List UInt8 := [28, 42, 180, 0, 184, 162, 0, 40, 42, 180, 0, 102, 42, 28, 182, 1, 101, 182, 0, 236, 154, 0, 19, 42]
abbrev dktX1_left_3 : List UInt8 := dkwX1_left_3 ++ dktX1_left_4
def dkwX1_left_2 : List UInt8 := [154, 0, 5, 2, 172, 132, 2, 1, 167, 255, 231, 42, 180, 0, 102, 42, 180, 0, 98, 182, 1, 30, 3, 61]
abbrev dktX1_left_2 : List UInt8 := dkwX1_left_2 ++ dktX1_left_3
def dkwX1_left_1 : List UInt8 := [154, 0, 5, 2, 172, 3, 61, 28, 42, 180, 0, 184, 162, 0, 23, 42, 42, 28, 182, 1, 101, 182, 0, 223]
abbrev dktX1_left_1 : List UInt8 := dkwX1_left_1 ++ dktX1_left_2
def dkwX1_left_0 : List UInt8 := [42, 182, 0, 190, 42, 27, 182, 0, 223, 153, 0, 16, 42, 180, 0, 184, 4, 16, 7, 184, 0, 216]
abbrev dktX1_left_0 : List UInt8 := dkwX1_left_0 ++ dktX1_left_1
theorem dksX1_left_0 : cX1_left.data.toList.drop 0 = dktX1_left_0 := by decide +kernel
theorem dksX1_left_1 : cX1_left.data.toList.drop 22 = dktX1_left_1 := dk_seg dksX1_left_0 22 rfl rfl
theorem dksX1_left_2 : cX1_left.data.toList.drop 46 = dktX1_left_2 := dk_seg dksX1_left_1 24 rfl rfl
theorem dksX1_left_3 : cX1_left.data.toList.drop 70 = dktX1_left_3 := dk_seg dksX1_left_2 24 rfl rfl
theorem dksX1_left_4 : cX1_left.data.toList.drop 94 = dktX1_left_4 := dk_seg dksX1_left_3 24 rfl rfl
theorem dksX1_left_5 : cX1_left.data.toList.drop 116 = dktX1_left_5 := dk_seg dksX1_left_4 22 rfl rfl
theorem dX1_left_0 : decode cX1_left 0 = .ok (.aload_n 0, 1) := dk_42 (dk_at dksX1_left_0 0 rfl rfl)
theorem dX1_left_1 : decode cX1_left 1 = .ok (.invokevirtual 190, 3) := dk_182 0 190 (dk_at dksX1_left_0 1 rfl rfl)
theorem dX1_left_4 : decode cX1_left 4 = .ok (.aload_n 0, 1) := dk_42 (dk_at dksX1_left_0 4 rfl rfl)
theorem dX1_left_5 : decode cX1_left 5 = .ok (.iload_n 1, 1) := dk_27 (dk_at dksX1_left_0 5 rfl rfl)
theorem dX1_left_6 : decode cX1_left 6 = .ok (.invokevirtual 223, 3) := dk_182 0 223 (dk_at dksX1_left_0 6 rfl rfl)
theorem dX1_left_9 : decode cX1_left 9 = .ok (.ifCond .eq 16, 3) := dk_153 0 16 (dk_at dksX1_left_0 9 rfl rfl)
theorem dX1_left_12 : decode cX1_left 12 = .ok (.aload_n 0, 1) := dk_42 (dk_at dksX1_left_0 12 rfl rfl)
theorem dX1_left_13 : decode cX1_left 13 = .ok (.getfield 184, 3) := dk_180 0 184 (dk_at dksX1_left_0 13 rfl rfl)
theorem dX1_left_16 : decode cX1_left 16 = .ok (.iconst 1, 1) := dk_4 (dk_at dksX1_left_0 16 rfl rfl)
theorem dX1_left_17 : decode cX1_left 17 = .ok (.bipush 7, 2) := dk_16 7 (dk_at dksX1_left_0 17 rfl rfl)
theorem dX1_left_19 : decode cX1_left 19 = .ok (.invokestatic 216, 3) := dk_184 0 216 (dk_at dksX1_left_0 19 rfl rfl)
theorem dX1_left_22 : decode cX1_left 22 = .ok (.ifCond .ne 5, 3) := dk_154 0 5 (dk_at dksX1_left_1 0 rfl rfl)
theorem dX1_left_25 : decode cX1_left 25 = .ok (.iconst (-1), 1) := dk_2 (dk_at dksX1_left_1 3 rfl rfl)
theorem dX1_left_26 : decode cX1_left 26 = .ok (.ireturn, 1) := dk_172 (dk_at dksX1_left_1 4 rfl rfl)
theorem dX1_left_27 : decode cX1_left 27 = .ok (.iconst 0, 1) := dk_3 (dk_at dksX1_left_1 5 rfl rfl)
theorem dX1_left_28 : decode cX1_left 28 = .ok (.istore_n 2, 1) := dk_61 (dk_at dksX1_left_1 6 rfl rfl)
theorem dX1_left_29 : decode cX1_left 29 = .ok (.iload_n 2, 1) := dk_28 (dk_at dksX1_left_1 7 rfl rfl)
theorem dX1_left_30 : decode cX1_left 30 = .ok (.aload_n 0, 1) := dk_42 (dk_at dksX1_left_1 8 rfl rfl)
theorem dX1_left_31 : decode cX1_left 31 = .ok (.getfield 184, 3) := dk_180 0 184 (dk_at dksX1_left_1 9 rfl rfl)
theorem dX1_left_34 : decode cX1_left 34 = .ok (.if_icmp .ge 23, 3) := dk_162 0 23 (dk_at dksX1_left_1 12 rfl rfl)
theorem dX1_left_37 : decode cX1_left 37 = .ok (.aload_n 0, 1) := dk_42 (dk_at dksX1_left_1 15 rfl rfl)
theorem dX1_left_38 : decode cX1_left 38 = .ok (.aload_n 0, 1) := dk_42 (dk_at dksX1_left_1 16 rfl rfl)
theorem dX1_left_39 : decode cX1_left 39 = .ok (.iload_n 2, 1) := dk_28 (dk_at dksX1_left_1 17 rfl rfl)
theorem dX1_left_40 : decode cX1_left 40 = .ok (.invokevirtual 357, 3) := dk_182 1 101 (dk_at dksX1_left_1 18 rfl rfl)
theorem dX1_left_43 : decode cX1_left 43 = .ok (.invokevirtual 223, 3) := dk_182 0 223 (dk_at dksX1_left_1 21 rfl rfl)
theorem dX1_left_46 : decode cX1_left 46 = .ok (.ifCond .ne 5, 3) := dk_154 0 5 (dk_at dksX1_left_2 0 rfl rfl)
theorem dX1_left_49 : decode cX1_left 49 = .ok (.iconst (-1), 1) := dk_2 (dk_at dksX1_left_2 3 rfl rfl)
theorem dX1_left_50 : decode cX1_left 50 = .ok (.ireturn, 1) := dk_172 (dk_at dksX1_left_2 4 rfl rfl)
theorem dX1_left_51 : decode cX1_left 51 = .ok (.iinc 2 1, 3) := dk_132 2 1 (dk_at dksX1_left_2 5 rfl rfl)
theorem dX1_left_54 : decode cX1_left 54 = .ok (.goto (-25), 3) := dk_167 255 231 (dk_at dksX1_left_2 8 rfl rfl)
theorem dX1_left_57 : decode cX1_left 57 = .ok (.aload_n 0, 1) := dk_42 (dk_at dksX1_left_2 11 rfl rfl)
theorem dX1_left_58 : decode cX1_left 58 = .ok (.getfield 102, 3) := dk_180 0 102 (dk_at dksX1_left_2 12 rfl rfl)
theorem dX1_left_61 : decode cX1_left 61 = .ok (.aload_n 0, 1) := dk_42 (dk_at dksX1_left_2 15 rfl rfl)
theorem dX1_left_62 : decode cX1_left 62 = .ok (.getfield 98, 3) := dk_180 0 98 (dk_at dksX1_left_2 16 rfl rfl)
theorem dX1_left_65 : decode cX1_left 65 = .ok (.invokevirtual 286, 3) := dk_182 1 30 (dk_at dksX1_left_2 19 rfl rfl)
theorem dX1_left_68 : decode cX1_left 68 = .ok (.iconst 0, 1) := dk_3 (dk_at dksX1_left_2 22 rfl rfl)
theorem dX1_left_69 : decode cX1_left 69 = .ok (.istore_n 2, 1) := dk_61 (dk_at dksX1_left_2 23 rfl rfl)
theorem dX1_left_70 : decode cX1_left 70 = .ok (.iload_n 2, 1) := dk_28 (dk_at dksX1_left_3 0 rfl rfl)
theorem dX1_left_71 : decode cX1_left 71 = .ok (.aload_n 0, 1) := dk_42 (dk_at dksX1_left_3 1 rfl rfl)
theorem dX1_left_72 : decode cX1_left 72 = .ok (.getfield 184, 3) := dk_180 0 184 (dk_at dksX1_left_3 2 rfl rfl)
theorem dX1_left_75 : decode cX1_left 75 = .ok (.if_icmp .ge 40, 3) := dk_162 0 40 (dk_at dksX1_left_3 5 rfl rfl)
theorem dX1_left_78 : decode cX1_left 78 = .ok (.aload_n 0, 1) := dk_42 (dk_at dksX1_left_3 8 rfl rfl)
theorem dX1_left_79 : decode cX1_left 79 = .ok (.getfield 102, 3) := dk_180 0 102 (dk_at dksX1_left_3 9 rfl rfl)
theorem dX1_left_82 : decode cX1_left 82 = .ok (.aload_n 0, 1) := dk_42 (dk_at dksX1_left_3 12 rfl rfl)
theorem dX1_left_83 : decode cX1_left 83 = .ok (.iload_n 2, 1) := dk_28 (dk_at dksX1_left_3 13 rfl rfl)
theorem dX1_left_84 : decode cX1_left 84 = .ok (.invokevirtual 357, 3) := dk_182 1 101 (dk_at dksX1_left_3 14 rfl rfl)
theorem dX1_left_87 : decode cX1_left 87 = .ok (.invokevirtual 236, 3) := dk_182 0 236 (dk_at dksX1_left_3 17 rfl rfl)
theorem dX1_left_90 : decode cX1_left 90 = .ok (.ifCond .ne 19, 3) := dk_154 0 19 (dk_at dksX1_left_3 20 rfl rfl)
theorem dX1_left_93 : decode cX1_left 93 = .ok (.aload_n 0, 1) := dk_42 (dk_at dksX1_left_3 23 rfl rfl)
theorem dX1_left_94 : decode cX1_left 94 = .ok (.getfield 102, 3) := dk_180 0 102 (dk_at dksX1_left_4 0 rfl rfl)
theorem dX1_left_97 : decode cX1_left 97 = .ok (.aload_n 0, 1) := dk_42 (dk_at dksX1_left_4 3 rfl rfl)
theorem dX1_left_98 : decode cX1_left 98 = .ok (.getfield 91, 3) := dk_180 0 91 (dk_at dksX1_left_4 4 rfl rfl)
theorem dX1_left_101 : decode cX1_left 101 = .ok (.aload_n 0, 1) := dk_42 (dk_at dksX1_left_4 7 rfl rfl)
theorem dX1_left_102 : decode cX1_left 102 = .ok (.iload_n 2, 1) := dk_28 (dk_at dksX1_left_4 8 rfl rfl)
theorem dX1_left_103 : decode cX1_left 103 = .ok (.invokevirtual 357, 3) := dk_182 1 101 (dk_at dksX1_left_4 9 rfl rfl)
theorem dX1_left_106 : decode cX1_left 106 = .ok (.invokevirtual 324, 3) := dk_182 1 68 (dk_at dksX1_left_4 12 rfl rfl)
theorem dX1_left_109 : decode cX1_left 109 = .ok (.iinc 2 1, 3) := dk_132 2 1 (dk_at dksX1_left_4 15 rfl rfl)
theorem dX1_left_112 : decode cX1_left 112 = .ok (.goto (-42), 3) := dk_167 255 214 (dk_at dksX1_left_4 18 rfl rfl)
theorem dX1_left_115 : decode cX1_left 115 = .ok (.aload_n 0, 1) := dk_42 (dk_at dksX1_left_4 21 rfl rfl)
theorem dX1_left_116 : decode cX1_left 116 = .ok (.getfield 102, 3) := dk_180 0 102 (dk_at dksX1_left_5 0 rfl rfl)
theorem dX1_left_119 : decode cX1_left 119 = .ok (.iload_n 1, 1) := dk_27 (dk_at dksX1_left_5 3 rfl rfl)
theorem dX1_left_120 : decode cX1_left 120 = .ok (.invokevirtual 250, 3) := dk_182 0 250 (dk_at dksX1_left_5 4 rfl rfl)
theorem dX1_left_123 : decode cX1_left 123 = .ok (.ireturn, 1) := dk_172 (dk_at dksX1_left_5 7 rfl rfl)
abbrev cX1_kin : ByteArray := prog_1_method_43_code
def yX1_kin : MethodName := ⟨RX1, "kin", "(II)I"⟩
def dkwX1_kin_5 : List UInt8 := [167, 255, 188, 21, 5, 62, 132, 4, 1, 167, 255, 155, 2, 172]
abbrev dktX1_kin_5 : List UInt8 := dkwX1_kin_5 ++ []
def dkwX1_kin_4 : List UInt8 := [182, 1, 129, 153, 0, 12, 21, 5, 4, 21, 7, 120, 128, 54, 5, 132, 7, 1, 167, 255, 209, 132, 6, 1]
abbrev dktX1_kin_4 : List UInt8 := dkwX1_kin_4 ++ dktX1_kin_5
def dkwX1_kin_3 : List UInt8 := [180, 0, 213, 162, 0, 41, 29, 21, 6, 184, 0, 241, 153, 0, 26, 42, 180, 0, 91, 21, 6, 21, 7]
abbrev dktX1_kin_3 : List UInt8 := dkwX1_kin_3 ++ dktX1_kin_4
def dkwX1_kin_2 : List UInt8 := [54, 6, 21, 6, 42, 180, 0, 91, 180, 0, 213, 162, 0, 62, 3, 54, 7, 21, 7, 42, 180, 0, 91]
abbrev dktX1_kin_2 : List UInt8 := dkwX1_kin_2 ++ dktX1_kin_3
def dkwX1_kin_1 : List UInt8 := [54, 4, 21, 4, 16, 7, 162, 0, 100, 29, 28, 184, 0, 241, 153, 0, 6, 21, 4, 172, 29, 54, 5, 3]
abbrev dktX1_kin_1 : List UInt8 := dkwX1_kin_1 ++ dktX1_kin_2
def dkwX1_kin_0 : List UInt8 := [42, 27, 182, 0, 223, 153, 0, 11, 42, 28, 182, 0, 223, 154, 0, 5, 2, 172, 4, 27, 120, 62, 3]
abbrev dktX1_kin_0 : List UInt8 := dkwX1_kin_0 ++ dktX1_kin_1
theorem dksX1_kin_0 : cX1_kin.data.toList.drop 0 = dktX1_kin_0 := by decide +kernel
theorem dksX1_kin_1 : cX1_kin.data.toList.drop 23 = dktX1_kin_1 := dk_seg dksX1_kin_0 23 rfl rfl
theorem dksX1_kin_2 : cX1_kin.data.toList.drop 47 = dktX1_kin_2 := dk_seg dksX1_kin_1 24 rfl rfl
theorem dksX1_kin_3 : cX1_kin.data.toList.drop 70 = dktX1_kin_3 := dk_seg dksX1_kin_2 23 rfl rfl
theorem dksX1_kin_4 : cX1_kin.data.toList.drop 93 = dktX1_kin_4 := dk_seg dksX1_kin_3 23 rfl rfl
theorem dksX1_kin_5 : cX1_kin.data.toList.drop 117 = dktX1_kin_5 := dk_seg dksX1_kin_4 24 rfl rfl
theorem dX1_kin_0 : decode cX1_kin 0 = .ok (.aload_n 0, 1) := dk_42 (dk_at dksX1_kin_0 0 rfl rfl)
theorem dX1_kin_1 : decode cX1_kin 1 = .ok (.iload_n 1, 1) := dk_27 (dk_at dksX1_kin_0 1 rfl rfl)
theorem dX1_kin_2 : decode cX1_kin 2 = .ok (.invokevirtual 223, 3) := dk_182 0 223 (dk_at dksX1_kin_0 2 rfl rfl)
theorem dX1_kin_5 : decode cX1_kin 5 = .ok (.ifCond .eq 11, 3) := dk_153 0 11 (dk_at dksX1_kin_0 5 rfl rfl)
theorem dX1_kin_8 : decode cX1_kin 8 = .ok (.aload_n 0, 1) := dk_42 (dk_at dksX1_kin_0 8 rfl rfl)
theorem dX1_kin_9 : decode cX1_kin 9 = .ok (.iload_n 2, 1) := dk_28 (dk_at dksX1_kin_0 9 rfl rfl)
theorem dX1_kin_10 : decode cX1_kin 10 = .ok (.invokevirtual 223, 3) := dk_182 0 223 (dk_at dksX1_kin_0 10 rfl rfl)
theorem dX1_kin_13 : decode cX1_kin 13 = .ok (.ifCond .ne 5, 3) := dk_154 0 5 (dk_at dksX1_kin_0 13 rfl rfl)
theorem dX1_kin_16 : decode cX1_kin 16 = .ok (.iconst (-1), 1) := dk_2 (dk_at dksX1_kin_0 16 rfl rfl)
theorem dX1_kin_17 : decode cX1_kin 17 = .ok (.ireturn, 1) := dk_172 (dk_at dksX1_kin_0 17 rfl rfl)
theorem dX1_kin_18 : decode cX1_kin 18 = .ok (.iconst 1, 1) := dk_4 (dk_at dksX1_kin_0 18 rfl rfl)
theorem dX1_kin_19 : decode cX1_kin 19 = .ok (.iload_n 1, 1) := dk_27 (dk_at dksX1_kin_0 19 rfl rfl)
theorem dX1_kin_20 : decode cX1_kin 20 = .ok (.ishl, 1) := dk_120 (dk_at dksX1_kin_0 20 rfl rfl)
theorem dX1_kin_21 : decode cX1_kin 21 = .ok (.istore_n 3, 1) := dk_62 (dk_at dksX1_kin_0 21 rfl rfl)
theorem dX1_kin_22 : decode cX1_kin 22 = .ok (.iconst 0, 1) := dk_3 (dk_at dksX1_kin_0 22 rfl rfl)
theorem dX1_kin_23 : decode cX1_kin 23 = .ok (.istore 4, 2) := dk_54 4 (dk_at dksX1_kin_1 0 rfl rfl)
theorem dX1_kin_25 : decode cX1_kin 25 = .ok (.iload 4, 2) := dk_21 4 (dk_at dksX1_kin_1 2 rfl rfl)
theorem dX1_kin_27 : decode cX1_kin 27 = .ok (.bipush 7, 2) := dk_16 7 (dk_at dksX1_kin_1 4 rfl rfl)
theorem dX1_kin_29 : decode cX1_kin 29 = .ok (.if_icmp .ge 100, 3) := dk_162 0 100 (dk_at dksX1_kin_1 6 rfl rfl)
theorem dX1_kin_32 : decode cX1_kin 32 = .ok (.iload_n 3, 1) := dk_29 (dk_at dksX1_kin_1 9 rfl rfl)
theorem dX1_kin_33 : decode cX1_kin 33 = .ok (.iload_n 2, 1) := dk_28 (dk_at dksX1_kin_1 10 rfl rfl)
theorem dX1_kin_34 : decode cX1_kin 34 = .ok (.invokestatic 241, 3) := dk_184 0 241 (dk_at dksX1_kin_1 11 rfl rfl)
theorem dX1_kin_37 : decode cX1_kin 37 = .ok (.ifCond .eq 6, 3) := dk_153 0 6 (dk_at dksX1_kin_1 14 rfl rfl)
theorem dX1_kin_40 : decode cX1_kin 40 = .ok (.iload 4, 2) := dk_21 4 (dk_at dksX1_kin_1 17 rfl rfl)
theorem dX1_kin_42 : decode cX1_kin 42 = .ok (.ireturn, 1) := dk_172 (dk_at dksX1_kin_1 19 rfl rfl)
theorem dX1_kin_43 : decode cX1_kin 43 = .ok (.iload_n 3, 1) := dk_29 (dk_at dksX1_kin_1 20 rfl rfl)
theorem dX1_kin_44 : decode cX1_kin 44 = .ok (.istore 5, 2) := dk_54 5 (dk_at dksX1_kin_1 21 rfl rfl)
theorem dX1_kin_46 : decode cX1_kin 46 = .ok (.iconst 0, 1) := dk_3 (dk_at dksX1_kin_1 23 rfl rfl)
theorem dX1_kin_47 : decode cX1_kin 47 = .ok (.istore 6, 2) := dk_54 6 (dk_at dksX1_kin_2 0 rfl rfl)
theorem dX1_kin_49 : decode cX1_kin 49 = .ok (.iload 6, 2) := dk_21 6 (dk_at dksX1_kin_2 2 rfl rfl)
theorem dX1_kin_51 : decode cX1_kin 51 = .ok (.aload_n 0, 1) := dk_42 (dk_at dksX1_kin_2 4 rfl rfl)
theorem dX1_kin_52 : decode cX1_kin 52 = .ok (.getfield 91, 3) := dk_180 0 91 (dk_at dksX1_kin_2 5 rfl rfl)
theorem dX1_kin_55 : decode cX1_kin 55 = .ok (.getfield 213, 3) := dk_180 0 213 (dk_at dksX1_kin_2 8 rfl rfl)
theorem dX1_kin_58 : decode cX1_kin 58 = .ok (.if_icmp .ge 62, 3) := dk_162 0 62 (dk_at dksX1_kin_2 11 rfl rfl)
theorem dX1_kin_61 : decode cX1_kin 61 = .ok (.iconst 0, 1) := dk_3 (dk_at dksX1_kin_2 14 rfl rfl)
theorem dX1_kin_62 : decode cX1_kin 62 = .ok (.istore 7, 2) := dk_54 7 (dk_at dksX1_kin_2 15 rfl rfl)
theorem dX1_kin_64 : decode cX1_kin 64 = .ok (.iload 7, 2) := dk_21 7 (dk_at dksX1_kin_2 17 rfl rfl)
theorem dX1_kin_66 : decode cX1_kin 66 = .ok (.aload_n 0, 1) := dk_42 (dk_at dksX1_kin_2 19 rfl rfl)
theorem dX1_kin_67 : decode cX1_kin 67 = .ok (.getfield 91, 3) := dk_180 0 91 (dk_at dksX1_kin_2 20 rfl rfl)
theorem dX1_kin_70 : decode cX1_kin 70 = .ok (.getfield 213, 3) := dk_180 0 213 (dk_at dksX1_kin_3 0 rfl rfl)
theorem dX1_kin_73 : decode cX1_kin 73 = .ok (.if_icmp .ge 41, 3) := dk_162 0 41 (dk_at dksX1_kin_3 3 rfl rfl)
theorem dX1_kin_76 : decode cX1_kin 76 = .ok (.iload_n 3, 1) := dk_29 (dk_at dksX1_kin_3 6 rfl rfl)
theorem dX1_kin_77 : decode cX1_kin 77 = .ok (.iload 6, 2) := dk_21 6 (dk_at dksX1_kin_3 7 rfl rfl)
theorem dX1_kin_79 : decode cX1_kin 79 = .ok (.invokestatic 241, 3) := dk_184 0 241 (dk_at dksX1_kin_3 9 rfl rfl)
theorem dX1_kin_82 : decode cX1_kin 82 = .ok (.ifCond .eq 26, 3) := dk_153 0 26 (dk_at dksX1_kin_3 12 rfl rfl)
theorem dX1_kin_85 : decode cX1_kin 85 = .ok (.aload_n 0, 1) := dk_42 (dk_at dksX1_kin_3 15 rfl rfl)
theorem dX1_kin_86 : decode cX1_kin 86 = .ok (.getfield 91, 3) := dk_180 0 91 (dk_at dksX1_kin_3 16 rfl rfl)
theorem dX1_kin_89 : decode cX1_kin 89 = .ok (.iload 6, 2) := dk_21 6 (dk_at dksX1_kin_3 19 rfl rfl)
theorem dX1_kin_91 : decode cX1_kin 91 = .ok (.iload 7, 2) := dk_21 7 (dk_at dksX1_kin_3 21 rfl rfl)
theorem dX1_kin_93 : decode cX1_kin 93 = .ok (.invokevirtual 385, 3) := dk_182 1 129 (dk_at dksX1_kin_4 0 rfl rfl)
theorem dX1_kin_96 : decode cX1_kin 96 = .ok (.ifCond .eq 12, 3) := dk_153 0 12 (dk_at dksX1_kin_4 3 rfl rfl)
theorem dX1_kin_99 : decode cX1_kin 99 = .ok (.iload 5, 2) := dk_21 5 (dk_at dksX1_kin_4 6 rfl rfl)
theorem dX1_kin_101 : decode cX1_kin 101 = .ok (.iconst 1, 1) := dk_4 (dk_at dksX1_kin_4 8 rfl rfl)
theorem dX1_kin_102 : decode cX1_kin 102 = .ok (.iload 7, 2) := dk_21 7 (dk_at dksX1_kin_4 9 rfl rfl)
theorem dX1_kin_104 : decode cX1_kin 104 = .ok (.ishl, 1) := dk_120 (dk_at dksX1_kin_4 11 rfl rfl)
theorem dX1_kin_105 : decode cX1_kin 105 = .ok (.ior, 1) := dk_128 (dk_at dksX1_kin_4 12 rfl rfl)
theorem dX1_kin_106 : decode cX1_kin 106 = .ok (.istore 5, 2) := dk_54 5 (dk_at dksX1_kin_4 13 rfl rfl)
theorem dX1_kin_108 : decode cX1_kin 108 = .ok (.iinc 7 1, 3) := dk_132 7 1 (dk_at dksX1_kin_4 15 rfl rfl)
theorem dX1_kin_111 : decode cX1_kin 111 = .ok (.goto (-47), 3) := dk_167 255 209 (dk_at dksX1_kin_4 18 rfl rfl)
theorem dX1_kin_114 : decode cX1_kin 114 = .ok (.iinc 6 1, 3) := dk_132 6 1 (dk_at dksX1_kin_4 21 rfl rfl)
theorem dX1_kin_117 : decode cX1_kin 117 = .ok (.goto (-68), 3) := dk_167 255 188 (dk_at dksX1_kin_5 0 rfl rfl)
theorem dX1_kin_120 : decode cX1_kin 120 = .ok (.iload 5, 2) := dk_21 5 (dk_at dksX1_kin_5 3 rfl rfl)
theorem dX1_kin_122 : decode cX1_kin 122 = .ok (.istore_n 3, 1) := dk_62 (dk_at dksX1_kin_5 5 rfl rfl)
theorem dX1_kin_123 : decode cX1_kin 123 = .ok (.iinc 4 1, 3) := dk_132 4 1 (dk_at dksX1_kin_5 6 rfl rfl)
theorem dX1_kin_126 : decode cX1_kin 126 = .ok (.goto (-101), 3) := dk_167 255 155 (dk_at dksX1_kin_5 9 rfl rfl)
theorem dX1_kin_129 : decode cX1_kin 129 = .ok (.iconst (-1), 1) := dk_2 (dk_at dksX1_kin_5 12 rfl rfl)
theorem dX1_kin_130 : decode cX1_kin 130 = .ok (.ireturn, 1) := dk_172 (dk_at dksX1_kin_5 13 rfl rfl)
abbrev cX1_hungriest : ByteArray := prog_1_method_44_code
def yX1_hungriest : MethodName := ⟨RX1, "hungriest", "()I"⟩
def dkwX1_hungriest_2 : List UInt8 := [27, 46, 164, 0, 5, 28, 60, 132, 2, 1, 167, 255, 203, 27, 172]
abbrev dktX1_hungriest_2 : List UInt8 := dkwX1_hungriest_2 ++ []
def dkwX1_hungriest_1 : List UInt8 := [154, 0, 31, 27, 2, 159, 0, 24, 42, 180, 0, 98, 180, 0, 248, 28, 46, 42, 180, 0, 98, 180, 0, 248]
abbrev dktX1_hungriest_1 : List UInt8 := dkwX1_hungriest_1 ++ dktX1_hungriest_2
def dkwX1_hungriest_0 : List UInt8 := [2, 60, 3, 61, 28, 42, 180, 0, 91, 180, 0, 213, 162, 0, 48, 42, 180, 0, 98, 28, 182, 0, 236]
abbrev dktX1_hungriest_0 : List UInt8 := dkwX1_hungriest_0 ++ dktX1_hungriest_1
theorem dksX1_hungriest_0 : cX1_hungriest.data.toList.drop 0 = dktX1_hungriest_0 := by decide +kernel
theorem dksX1_hungriest_1 : cX1_hungriest.data.toList.drop 23 = dktX1_hungriest_1 := dk_seg dksX1_hungriest_0 23 rfl rfl
theorem dksX1_hungriest_2 : cX1_hungriest.data.toList.drop 47 = dktX1_hungriest_2 := dk_seg dksX1_hungriest_1 24 rfl rfl
theorem dX1_hungriest_0 : decode cX1_hungriest 0 = .ok (.iconst (-1), 1) := dk_2 (dk_at dksX1_hungriest_0 0 rfl rfl)
theorem dX1_hungriest_1 : decode cX1_hungriest 1 = .ok (.istore_n 1, 1) := dk_60 (dk_at dksX1_hungriest_0 1 rfl rfl)
theorem dX1_hungriest_2 : decode cX1_hungriest 2 = .ok (.iconst 0, 1) := dk_3 (dk_at dksX1_hungriest_0 2 rfl rfl)
theorem dX1_hungriest_3 : decode cX1_hungriest 3 = .ok (.istore_n 2, 1) := dk_61 (dk_at dksX1_hungriest_0 3 rfl rfl)
theorem dX1_hungriest_4 : decode cX1_hungriest 4 = .ok (.iload_n 2, 1) := dk_28 (dk_at dksX1_hungriest_0 4 rfl rfl)
theorem dX1_hungriest_5 : decode cX1_hungriest 5 = .ok (.aload_n 0, 1) := dk_42 (dk_at dksX1_hungriest_0 5 rfl rfl)
theorem dX1_hungriest_6 : decode cX1_hungriest 6 = .ok (.getfield 91, 3) := dk_180 0 91 (dk_at dksX1_hungriest_0 6 rfl rfl)
theorem dX1_hungriest_9 : decode cX1_hungriest 9 = .ok (.getfield 213, 3) := dk_180 0 213 (dk_at dksX1_hungriest_0 9 rfl rfl)
theorem dX1_hungriest_12 : decode cX1_hungriest 12 = .ok (.if_icmp .ge 48, 3) := dk_162 0 48 (dk_at dksX1_hungriest_0 12 rfl rfl)
theorem dX1_hungriest_15 : decode cX1_hungriest 15 = .ok (.aload_n 0, 1) := dk_42 (dk_at dksX1_hungriest_0 15 rfl rfl)
theorem dX1_hungriest_16 : decode cX1_hungriest 16 = .ok (.getfield 98, 3) := dk_180 0 98 (dk_at dksX1_hungriest_0 16 rfl rfl)
theorem dX1_hungriest_19 : decode cX1_hungriest 19 = .ok (.iload_n 2, 1) := dk_28 (dk_at dksX1_hungriest_0 19 rfl rfl)
theorem dX1_hungriest_20 : decode cX1_hungriest 20 = .ok (.invokevirtual 236, 3) := dk_182 0 236 (dk_at dksX1_hungriest_0 20 rfl rfl)
theorem dX1_hungriest_23 : decode cX1_hungriest 23 = .ok (.ifCond .ne 31, 3) := dk_154 0 31 (dk_at dksX1_hungriest_1 0 rfl rfl)
theorem dX1_hungriest_26 : decode cX1_hungriest 26 = .ok (.iload_n 1, 1) := dk_27 (dk_at dksX1_hungriest_1 3 rfl rfl)
theorem dX1_hungriest_27 : decode cX1_hungriest 27 = .ok (.iconst (-1), 1) := dk_2 (dk_at dksX1_hungriest_1 4 rfl rfl)
theorem dX1_hungriest_28 : decode cX1_hungriest 28 = .ok (.if_icmp .eq 24, 3) := dk_159 0 24 (dk_at dksX1_hungriest_1 5 rfl rfl)
theorem dX1_hungriest_31 : decode cX1_hungriest 31 = .ok (.aload_n 0, 1) := dk_42 (dk_at dksX1_hungriest_1 8 rfl rfl)
theorem dX1_hungriest_32 : decode cX1_hungriest 32 = .ok (.getfield 98, 3) := dk_180 0 98 (dk_at dksX1_hungriest_1 9 rfl rfl)
theorem dX1_hungriest_35 : decode cX1_hungriest 35 = .ok (.getfield 248, 3) := dk_180 0 248 (dk_at dksX1_hungriest_1 12 rfl rfl)
theorem dX1_hungriest_38 : decode cX1_hungriest 38 = .ok (.iload_n 2, 1) := dk_28 (dk_at dksX1_hungriest_1 15 rfl rfl)
theorem dX1_hungriest_39 : decode cX1_hungriest 39 = .ok (.iaload, 1) := dk_46 (dk_at dksX1_hungriest_1 16 rfl rfl)
theorem dX1_hungriest_40 : decode cX1_hungriest 40 = .ok (.aload_n 0, 1) := dk_42 (dk_at dksX1_hungriest_1 17 rfl rfl)
theorem dX1_hungriest_41 : decode cX1_hungriest 41 = .ok (.getfield 98, 3) := dk_180 0 98 (dk_at dksX1_hungriest_1 18 rfl rfl)
theorem dX1_hungriest_44 : decode cX1_hungriest 44 = .ok (.getfield 248, 3) := dk_180 0 248 (dk_at dksX1_hungriest_1 21 rfl rfl)
theorem dX1_hungriest_47 : decode cX1_hungriest 47 = .ok (.iload_n 1, 1) := dk_27 (dk_at dksX1_hungriest_2 0 rfl rfl)
theorem dX1_hungriest_48 : decode cX1_hungriest 48 = .ok (.iaload, 1) := dk_46 (dk_at dksX1_hungriest_2 1 rfl rfl)
theorem dX1_hungriest_49 : decode cX1_hungriest 49 = .ok (.if_icmp .le 5, 3) := dk_164 0 5 (dk_at dksX1_hungriest_2 2 rfl rfl)
theorem dX1_hungriest_52 : decode cX1_hungriest 52 = .ok (.iload_n 2, 1) := dk_28 (dk_at dksX1_hungriest_2 5 rfl rfl)
theorem dX1_hungriest_53 : decode cX1_hungriest 53 = .ok (.istore_n 1, 1) := dk_60 (dk_at dksX1_hungriest_2 6 rfl rfl)
theorem dX1_hungriest_54 : decode cX1_hungriest 54 = .ok (.iinc 2 1, 3) := dk_132 2 1 (dk_at dksX1_hungriest_2 7 rfl rfl)
theorem dX1_hungriest_57 : decode cX1_hungriest 57 = .ok (.goto (-53), 3) := dk_167 255 203 (dk_at dksX1_hungriest_2 10 rfl rfl)
theorem dX1_hungriest_60 : decode cX1_hungriest 60 = .ok (.iload_n 1, 1) := dk_27 (dk_at dksX1_hungriest_2 13 rfl rfl)
theorem dX1_hungriest_61 : decode cX1_hungriest 61 = .ok (.ireturn, 1) := dk_172 (dk_at dksX1_hungriest_2 14 rfl rfl)
abbrev cX1_will : ByteArray := prog_1_method_48_code
def yX1_will : MethodName := ⟨RX1, "will", "(I)I"⟩
def dkwX1_will_5 : List UInt8 := [182, 1, 150, 42, 180, 1, 132, 172]
abbrev dktX1_will_5 : List UInt8 := dkwX1_will_5 ++ []
def dkwX1_will_4 : List UInt8 := [2, 160, 0, 13, 42, 19, 1, 166, 182, 1, 155, 167, 0, 16, 42, 42, 180, 0, 91, 180, 1, 146, 28, 47]
abbrev dktX1_will_4 : List UInt8 := dkwX1_will_4 ++ dktX1_will_5
def dkwX1_will_3 : List UInt8 := [182, 1, 155, 42, 19, 1, 164, 182, 1, 155, 42, 180, 0, 98, 42, 180, 0, 91, 27, 182, 1, 74, 61, 28]
abbrev dktX1_will_3 : List UInt8 := dkwX1_will_3 ++ dktX1_will_4
def dkwX1_will_2 : List UInt8 := [19, 1, 158, 182, 1, 155, 42, 180, 1, 132, 172, 42, 42, 180, 0, 98, 27, 182, 0, 250, 184, 1, 160]
abbrev dktX1_will_2 : List UInt8 := dkwX1_will_2 ++ dktX1_will_3
def dkwX1_will_1 : List UInt8 := [47, 182, 1, 150, 42, 19, 1, 153, 182, 1, 155, 42, 180, 0, 98, 27, 182, 0, 250, 154, 0, 15, 42]
abbrev dktX1_will_1 : List UInt8 := dkwX1_will_1 ++ dktX1_will_2
def dkwX1_will_0 : List UInt8 := [42, 27, 182, 0, 223, 154, 0, 5, 2, 172, 42, 3, 181, 1, 132, 42, 42, 180, 0, 91, 180, 1, 146, 27]
abbrev dktX1_will_0 : List UInt8 := dkwX1_will_0 ++ dktX1_will_1
theorem dksX1_will_0 : cX1_will.data.toList.drop 0 = dktX1_will_0 := by decide +kernel
theorem dksX1_will_1 : cX1_will.data.toList.drop 24 = dktX1_will_1 := dk_seg dksX1_will_0 24 rfl rfl
theorem dksX1_will_2 : cX1_will.data.toList.drop 47 = dktX1_will_2 := dk_seg dksX1_will_1 23 rfl rfl
theorem dksX1_will_3 : cX1_will.data.toList.drop 70 = dktX1_will_3 := dk_seg dksX1_will_2 23 rfl rfl
theorem dksX1_will_4 : cX1_will.data.toList.drop 94 = dktX1_will_4 := dk_seg dksX1_will_3 24 rfl rfl
theorem dksX1_will_5 : cX1_will.data.toList.drop 118 = dktX1_will_5 := dk_seg dksX1_will_4 24 rfl rfl
theorem dX1_will_0 : decode cX1_will 0 = .ok (.aload_n 0, 1) := dk_42 (dk_at dksX1_will_0 0 rfl rfl)
theorem dX1_will_1 : decode cX1_will 1 = .ok (.iload_n 1, 1) := dk_27 (dk_at dksX1_will_0 1 rfl rfl)
theorem dX1_will_2 : decode cX1_will 2 = .ok (.invokevirtual 223, 3) := dk_182 0 223 (dk_at dksX1_will_0 2 rfl rfl)
theorem dX1_will_5 : decode cX1_will 5 = .ok (.ifCond .ne 5, 3) := dk_154 0 5 (dk_at dksX1_will_0 5 rfl rfl)
theorem dX1_will_8 : decode cX1_will 8 = .ok (.iconst (-1), 1) := dk_2 (dk_at dksX1_will_0 8 rfl rfl)
theorem dX1_will_9 : decode cX1_will 9 = .ok (.ireturn, 1) := dk_172 (dk_at dksX1_will_0 9 rfl rfl)
theorem dX1_will_10 : decode cX1_will 10 = .ok (.aload_n 0, 1) := dk_42 (dk_at dksX1_will_0 10 rfl rfl)
theorem dX1_will_11 : decode cX1_will 11 = .ok (.iconst 0, 1) := dk_3 (dk_at dksX1_will_0 11 rfl rfl)
theorem dX1_will_12 : decode cX1_will 12 = .ok (.putfield 388, 3) := dk_181 1 132 (dk_at dksX1_will_0 12 rfl rfl)
theorem dX1_will_15 : decode cX1_will 15 = .ok (.aload_n 0, 1) := dk_42 (dk_at dksX1_will_0 15 rfl rfl)
theorem dX1_will_16 : decode cX1_will 16 = .ok (.aload_n 0, 1) := dk_42 (dk_at dksX1_will_0 16 rfl rfl)
theorem dX1_will_17 : decode cX1_will 17 = .ok (.getfield 91, 3) := dk_180 0 91 (dk_at dksX1_will_0 17 rfl rfl)
theorem dX1_will_20 : decode cX1_will 20 = .ok (.getfield 402, 3) := dk_180 1 146 (dk_at dksX1_will_0 20 rfl rfl)
theorem dX1_will_23 : decode cX1_will 23 = .ok (.iload_n 1, 1) := dk_27 (dk_at dksX1_will_0 23 rfl rfl)
theorem dX1_will_24 : decode cX1_will 24 = .ok (.laload, 1) := dk_47 (dk_at dksX1_will_1 0 rfl rfl)
theorem dX1_will_25 : decode cX1_will 25 = .ok (.invokevirtual 406, 3) := dk_182 1 150 (dk_at dksX1_will_1 1 rfl rfl)
theorem dX1_will_28 : decode cX1_will 28 = .ok (.aload_n 0, 1) := dk_42 (dk_at dksX1_will_1 4 rfl rfl)
theorem dX1_will_29 : decode cX1_will 29 = .ok (.ldc_w 409, 3) := dk_19 1 153 (dk_at dksX1_will_1 5 rfl rfl)
theorem dX1_will_32 : decode cX1_will 32 = .ok (.invokevirtual 411, 3) := dk_182 1 155 (dk_at dksX1_will_1 8 rfl rfl)
theorem dX1_will_35 : decode cX1_will 35 = .ok (.aload_n 0, 1) := dk_42 (dk_at dksX1_will_1 11 rfl rfl)
theorem dX1_will_36 : decode cX1_will 36 = .ok (.getfield 98, 3) := dk_180 0 98 (dk_at dksX1_will_1 12 rfl rfl)
theorem dX1_will_39 : decode cX1_will 39 = .ok (.iload_n 1, 1) := dk_27 (dk_at dksX1_will_1 15 rfl rfl)
theorem dX1_will_40 : decode cX1_will 40 = .ok (.invokevirtual 250, 3) := dk_182 0 250 (dk_at dksX1_will_1 16 rfl rfl)
theorem dX1_will_43 : decode cX1_will 43 = .ok (.ifCond .ne 15, 3) := dk_154 0 15 (dk_at dksX1_will_1 19 rfl rfl)
theorem dX1_will_46 : decode cX1_will 46 = .ok (.aload_n 0, 1) := dk_42 (dk_at dksX1_will_1 22 rfl rfl)
theorem dX1_will_47 : decode cX1_will 47 = .ok (.ldc_w 414, 3) := dk_19 1 158 (dk_at dksX1_will_2 0 rfl rfl)
theorem dX1_will_50 : decode cX1_will 50 = .ok (.invokevirtual 411, 3) := dk_182 1 155 (dk_at dksX1_will_2 3 rfl rfl)
theorem dX1_will_53 : decode cX1_will 53 = .ok (.aload_n 0, 1) := dk_42 (dk_at dksX1_will_2 6 rfl rfl)
theorem dX1_will_54 : decode cX1_will 54 = .ok (.getfield 388, 3) := dk_180 1 132 (dk_at dksX1_will_2 7 rfl rfl)
theorem dX1_will_57 : decode cX1_will 57 = .ok (.ireturn, 1) := dk_172 (dk_at dksX1_will_2 10 rfl rfl)
theorem dX1_will_58 : decode cX1_will 58 = .ok (.aload_n 0, 1) := dk_42 (dk_at dksX1_will_2 11 rfl rfl)
theorem dX1_will_59 : decode cX1_will 59 = .ok (.aload_n 0, 1) := dk_42 (dk_at dksX1_will_2 12 rfl rfl)
theorem dX1_will_60 : decode cX1_will 60 = .ok (.getfield 98, 3) := dk_180 0 98 (dk_at dksX1_will_2 13 rfl rfl)
theorem dX1_will_63 : decode cX1_will 63 = .ok (.iload_n 1, 1) := dk_27 (dk_at dksX1_will_2 16 rfl rfl)
theorem dX1_will_64 : decode cX1_will 64 = .ok (.invokevirtual 250, 3) := dk_182 0 250 (dk_at dksX1_will_2 17 rfl rfl)
theorem dX1_will_67 : decode cX1_will 67 = .ok (.invokestatic 416, 3) := dk_184 1 160 (dk_at dksX1_will_2 20 rfl rfl)
theorem dX1_will_70 : decode cX1_will 70 = .ok (.invokevirtual 411, 3) := dk_182 1 155 (dk_at dksX1_will_3 0 rfl rfl)
theorem dX1_will_73 : decode cX1_will 73 = .ok (.aload_n 0, 1) := dk_42 (dk_at dksX1_will_3 3 rfl rfl)
theorem dX1_will_74 : decode cX1_will 74 = .ok (.ldc_w 420, 3) := dk_19 1 164 (dk_at dksX1_will_3 4 rfl rfl)
theorem dX1_will_77 : decode cX1_will 77 = .ok (.invokevirtual 411, 3) := dk_182 1 155 (dk_at dksX1_will_3 7 rfl rfl)
theorem dX1_will_80 : decode cX1_will 80 = .ok (.aload_n 0, 1) := dk_42 (dk_at dksX1_will_3 10 rfl rfl)
theorem dX1_will_81 : decode cX1_will 81 = .ok (.getfield 98, 3) := dk_180 0 98 (dk_at dksX1_will_3 11 rfl rfl)
theorem dX1_will_84 : decode cX1_will 84 = .ok (.aload_n 0, 1) := dk_42 (dk_at dksX1_will_3 14 rfl rfl)
theorem dX1_will_85 : decode cX1_will 85 = .ok (.getfield 91, 3) := dk_180 0 91 (dk_at dksX1_will_3 15 rfl rfl)
theorem dX1_will_88 : decode cX1_will 88 = .ok (.iload_n 1, 1) := dk_27 (dk_at dksX1_will_3 18 rfl rfl)
theorem dX1_will_89 : decode cX1_will 89 = .ok (.invokevirtual 330, 3) := dk_182 1 74 (dk_at dksX1_will_3 19 rfl rfl)
theorem dX1_will_92 : decode cX1_will 92 = .ok (.istore_n 2, 1) := dk_61 (dk_at dksX1_will_3 22 rfl rfl)
theorem dX1_will_93 : decode cX1_will 93 = .ok (.iload_n 2, 1) := dk_28 (dk_at dksX1_will_3 23 rfl rfl)
theorem dX1_will_94 : decode cX1_will 94 = .ok (.iconst (-1), 1) := dk_2 (dk_at dksX1_will_4 0 rfl rfl)
theorem dX1_will_95 : decode cX1_will 95 = .ok (.if_icmp .ne 13, 3) := dk_160 0 13 (dk_at dksX1_will_4 1 rfl rfl)
theorem dX1_will_98 : decode cX1_will 98 = .ok (.aload_n 0, 1) := dk_42 (dk_at dksX1_will_4 4 rfl rfl)
theorem dX1_will_99 : decode cX1_will 99 = .ok (.ldc_w 422, 3) := dk_19 1 166 (dk_at dksX1_will_4 5 rfl rfl)
theorem dX1_will_102 : decode cX1_will 102 = .ok (.invokevirtual 411, 3) := dk_182 1 155 (dk_at dksX1_will_4 8 rfl rfl)
theorem dX1_will_105 : decode cX1_will 105 = .ok (.goto 16, 3) := dk_167 0 16 (dk_at dksX1_will_4 11 rfl rfl)
theorem dX1_will_108 : decode cX1_will 108 = .ok (.aload_n 0, 1) := dk_42 (dk_at dksX1_will_4 14 rfl rfl)
theorem dX1_will_109 : decode cX1_will 109 = .ok (.aload_n 0, 1) := dk_42 (dk_at dksX1_will_4 15 rfl rfl)
theorem dX1_will_110 : decode cX1_will 110 = .ok (.getfield 91, 3) := dk_180 0 91 (dk_at dksX1_will_4 16 rfl rfl)
theorem dX1_will_113 : decode cX1_will 113 = .ok (.getfield 402, 3) := dk_180 1 146 (dk_at dksX1_will_4 19 rfl rfl)
theorem dX1_will_116 : decode cX1_will 116 = .ok (.iload_n 2, 1) := dk_28 (dk_at dksX1_will_4 22 rfl rfl)
theorem dX1_will_117 : decode cX1_will 117 = .ok (.laload, 1) := dk_47 (dk_at dksX1_will_4 23 rfl rfl)
theorem dX1_will_118 : decode cX1_will 118 = .ok (.invokevirtual 406, 3) := dk_182 1 150 (dk_at dksX1_will_5 0 rfl rfl)
theorem dX1_will_121 : decode cX1_will 121 = .ok (.aload_n 0, 1) := dk_42 (dk_at dksX1_will_5 3 rfl rfl)
theorem dX1_will_122 : decode cX1_will 122 = .ok (.getfield 388, 3) := dk_180 1 132 (dk_at dksX1_will_5 4 rfl rfl)
theorem dX1_will_125 : decode cX1_will 125 = .ok (.ireturn, 1) := dk_172 (dk_at dksX1_will_5 7 rfl rfl)
abbrev cX1_put : ByteArray := prog_1_method_47_code
def yX1_put : MethodName := ⟨RX1, "put", "(J)V"⟩
def dkwX1_put_1 : List UInt8 := [20, 1, 144, 127, 136, 182, 1, 141, 132, 3, 248, 167, 255, 225, 177]
abbrev dktX1_put_1 : List UInt8 := dkwX1_put_1 ++ []
def dkwX1_put_0 : List UInt8 := [16, 56, 62, 29, 155, 0, 33, 31, 29, 123, 20, 1, 144, 127, 9, 148, 153, 0, 15, 42, 31, 29, 123]
abbrev dktX1_put_0 : List UInt8 := dkwX1_put_0 ++ dktX1_put_1
theorem dksX1_put_0 : cX1_put.data.toList.drop 0 = dktX1_put_0 := by decide +kernel
theorem dksX1_put_1 : cX1_put.data.toList.drop 23 = dktX1_put_1 := dk_seg dksX1_put_0 23 rfl rfl
theorem dX1_put_0 : decode cX1_put 0 = .ok (.bipush 56, 2) := dk_16 56 (dk_at dksX1_put_0 0 rfl rfl)
theorem dX1_put_2 : decode cX1_put 2 = .ok (.istore_n 3, 1) := dk_62 (dk_at dksX1_put_0 2 rfl rfl)
theorem dX1_put_3 : decode cX1_put 3 = .ok (.iload_n 3, 1) := dk_29 (dk_at dksX1_put_0 3 rfl rfl)
theorem dX1_put_4 : decode cX1_put 4 = .ok (.ifCond .lt 33, 3) := dk_155 0 33 (dk_at dksX1_put_0 4 rfl rfl)
theorem dX1_put_7 : decode cX1_put 7 = .ok (.lload_n 1, 1) := dk_31 (dk_at dksX1_put_0 7 rfl rfl)
theorem dX1_put_8 : decode cX1_put 8 = .ok (.iload_n 3, 1) := dk_29 (dk_at dksX1_put_0 8 rfl rfl)
theorem dX1_put_9 : decode cX1_put 9 = .ok (.lshr, 1) := dk_123 (dk_at dksX1_put_0 9 rfl rfl)
theorem dX1_put_10 : decode cX1_put 10 = .ok (.ldc2_w 400, 3) := dk_20 1 144 (dk_at dksX1_put_0 10 rfl rfl)
theorem dX1_put_13 : decode cX1_put 13 = .ok (.land, 1) := dk_127 (dk_at dksX1_put_0 13 rfl rfl)
theorem dX1_put_14 : decode cX1_put 14 = .ok (.lconst 0, 1) := dk_9 (dk_at dksX1_put_0 14 rfl rfl)
theorem dX1_put_15 : decode cX1_put 15 = .ok (.lcmp, 1) := dk_148 (dk_at dksX1_put_0 15 rfl rfl)
theorem dX1_put_16 : decode cX1_put 16 = .ok (.ifCond .eq 15, 3) := dk_153 0 15 (dk_at dksX1_put_0 16 rfl rfl)
theorem dX1_put_19 : decode cX1_put 19 = .ok (.aload_n 0, 1) := dk_42 (dk_at dksX1_put_0 19 rfl rfl)
theorem dX1_put_20 : decode cX1_put 20 = .ok (.lload_n 1, 1) := dk_31 (dk_at dksX1_put_0 20 rfl rfl)
theorem dX1_put_21 : decode cX1_put 21 = .ok (.iload_n 3, 1) := dk_29 (dk_at dksX1_put_0 21 rfl rfl)
theorem dX1_put_22 : decode cX1_put 22 = .ok (.lshr, 1) := dk_123 (dk_at dksX1_put_0 22 rfl rfl)
theorem dX1_put_23 : decode cX1_put 23 = .ok (.ldc2_w 400, 3) := dk_20 1 144 (dk_at dksX1_put_1 0 rfl rfl)
theorem dX1_put_26 : decode cX1_put 26 = .ok (.land, 1) := dk_127 (dk_at dksX1_put_1 3 rfl rfl)
theorem dX1_put_27 : decode cX1_put 27 = .ok (.l2i, 1) := dk_136 (dk_at dksX1_put_1 4 rfl rfl)
theorem dX1_put_28 : decode cX1_put 28 = .ok (.invokevirtual 397, 3) := dk_182 1 141 (dk_at dksX1_put_1 5 rfl rfl)
theorem dX1_put_31 : decode cX1_put 31 = .ok (.iinc 3 (-8), 3) := dk_132 3 248 (dk_at dksX1_put_1 8 rfl rfl)
theorem dX1_put_34 : decode cX1_put 34 = .ok (.goto (-31), 3) := dk_167 255 225 (dk_at dksX1_put_1 11 rfl rfl)
theorem dX1_put_37 : decode cX1_put 37 = .ok (.return_, 1) := dk_177 (dk_at dksX1_put_1 14 rfl rfl)
abbrev cX1_put_2 : ByteArray := prog_1_method_45_code
def yX1_put_2 : MethodName := ⟨RX1, "put", "(I)V"⟩
def dkwX1_put_2_0 : List UInt8 := [42, 180, 0, 158, 42, 180, 1, 132, 27, 145, 84, 42, 89, 180, 1, 132, 4, 96, 181, 1, 132, 177]
abbrev dktX1_put_2_0 : List UInt8 := dkwX1_put_2_0 ++ []
theorem dksX1_put_2_0 : cX1_put_2.data.toList.drop 0 = dktX1_put_2_0 := by decide +kernel
theorem dX1_put_2_0 : decode cX1_put_2 0 = .ok (.aload_n 0, 1) := dk_42 (dk_at dksX1_put_2_0 0 rfl rfl)
theorem dX1_put_2_1 : decode cX1_put_2 1 = .ok (.getfield 158, 3) := dk_180 0 158 (dk_at dksX1_put_2_0 1 rfl rfl)
theorem dX1_put_2_4 : decode cX1_put_2 4 = .ok (.aload_n 0, 1) := dk_42 (dk_at dksX1_put_2_0 4 rfl rfl)
theorem dX1_put_2_5 : decode cX1_put_2 5 = .ok (.getfield 388, 3) := dk_180 1 132 (dk_at dksX1_put_2_0 5 rfl rfl)
theorem dX1_put_2_8 : decode cX1_put_2 8 = .ok (.iload_n 1, 1) := dk_27 (dk_at dksX1_put_2_0 8 rfl rfl)
theorem dX1_put_2_9 : decode cX1_put_2 9 = .ok (.i2b, 1) := dk_145 (dk_at dksX1_put_2_0 9 rfl rfl)
theorem dX1_put_2_10 : decode cX1_put_2 10 = .ok (.bastore, 1) := dk_84 (dk_at dksX1_put_2_0 10 rfl rfl)
theorem dX1_put_2_11 : decode cX1_put_2 11 = .ok (.aload_n 0, 1) := dk_42 (dk_at dksX1_put_2_0 11 rfl rfl)
theorem dX1_put_2_12 : decode cX1_put_2 12 = .ok (.dup, 1) := dk_89 (dk_at dksX1_put_2_0 12 rfl rfl)
theorem dX1_put_2_13 : decode cX1_put_2 13 = .ok (.getfield 388, 3) := dk_180 1 132 (dk_at dksX1_put_2_0 13 rfl rfl)
theorem dX1_put_2_16 : decode cX1_put_2 16 = .ok (.iconst 1, 1) := dk_4 (dk_at dksX1_put_2_0 16 rfl rfl)
theorem dX1_put_2_17 : decode cX1_put_2 17 = .ok (.iadd, 1) := dk_96 (dk_at dksX1_put_2_0 17 rfl rfl)
theorem dX1_put_2_18 : decode cX1_put_2 18 = .ok (.putfield 388, 3) := dk_181 1 132 (dk_at dksX1_put_2_0 18 rfl rfl)
theorem dX1_put_2_21 : decode cX1_put_2 21 = .ok (.return_, 1) := dk_177 (dk_at dksX1_put_2_0 21 rfl rfl)
abbrev cX1_put_3 : ByteArray := prog_1_method_46_code
def yX1_put_3 : MethodName := ⟨RX1, "put", "(Ljava/lang/String;)V"⟩
def dkwX1_put_3_1 : List UInt8 := [167, 255, 236, 177]
abbrev dktX1_put_3_1 : List UInt8 := dkwX1_put_3_1 ++ []
def dkwX1_put_3_0 : List UInt8 := [3, 61, 28, 43, 182, 1, 135, 162, 0, 18, 42, 43, 28, 182, 1, 137, 182, 1, 141, 132, 2, 1]
abbrev dktX1_put_3_0 : List UInt8 := dkwX1_put_3_0 ++ dktX1_put_3_1
theorem dksX1_put_3_0 : cX1_put_3.data.toList.drop 0 = dktX1_put_3_0 := by decide +kernel
theorem dksX1_put_3_1 : cX1_put_3.data.toList.drop 22 = dktX1_put_3_1 := dk_seg dksX1_put_3_0 22 rfl rfl
theorem dX1_put_3_0 : decode cX1_put_3 0 = .ok (.iconst 0, 1) := dk_3 (dk_at dksX1_put_3_0 0 rfl rfl)
theorem dX1_put_3_1 : decode cX1_put_3 1 = .ok (.istore_n 2, 1) := dk_61 (dk_at dksX1_put_3_0 1 rfl rfl)
theorem dX1_put_3_2 : decode cX1_put_3 2 = .ok (.iload_n 2, 1) := dk_28 (dk_at dksX1_put_3_0 2 rfl rfl)
theorem dX1_put_3_3 : decode cX1_put_3 3 = .ok (.aload_n 1, 1) := dk_43 (dk_at dksX1_put_3_0 3 rfl rfl)
theorem dX1_put_3_4 : decode cX1_put_3 4 = .ok (.invokevirtual 391, 3) := dk_182 1 135 (dk_at dksX1_put_3_0 4 rfl rfl)
theorem dX1_put_3_7 : decode cX1_put_3 7 = .ok (.if_icmp .ge 18, 3) := dk_162 0 18 (dk_at dksX1_put_3_0 7 rfl rfl)
theorem dX1_put_3_10 : decode cX1_put_3 10 = .ok (.aload_n 0, 1) := dk_42 (dk_at dksX1_put_3_0 10 rfl rfl)
theorem dX1_put_3_11 : decode cX1_put_3 11 = .ok (.aload_n 1, 1) := dk_43 (dk_at dksX1_put_3_0 11 rfl rfl)
theorem dX1_put_3_12 : decode cX1_put_3 12 = .ok (.iload_n 2, 1) := dk_28 (dk_at dksX1_put_3_0 12 rfl rfl)
theorem dX1_put_3_13 : decode cX1_put_3 13 = .ok (.invokevirtual 393, 3) := dk_182 1 137 (dk_at dksX1_put_3_0 13 rfl rfl)
theorem dX1_put_3_16 : decode cX1_put_3 16 = .ok (.invokevirtual 397, 3) := dk_182 1 141 (dk_at dksX1_put_3_0 16 rfl rfl)
theorem dX1_put_3_19 : decode cX1_put_3 19 = .ok (.iinc 2 1, 3) := dk_132 2 1 (dk_at dksX1_put_3_0 19 rfl rfl)
theorem dX1_put_3_22 : decode cX1_put_3 22 = .ok (.goto (-20), 3) := dk_167 255 236 (dk_at dksX1_put_3_1 0 rfl rfl)
theorem dX1_put_3_25 : decode cX1_put_3 25 = .ok (.return_, 1) := dk_177 (dk_at dksX1_put_3_1 3 rfl rfl)
abbrev cX1_byteAt : ByteArray := prog_1_method_49_code
def yX1_byteAt : MethodName := ⟨RX1, "byteAt", "(I)I"⟩
def dkwX1_byteAt_1 : List UInt8 := [172]
abbrev dktX1_byteAt_1 : List UInt8 := dkwX1_byteAt_1 ++ []
def dkwX1_byteAt_0 : List UInt8 := [27, 3, 42, 180, 1, 132, 4, 100, 184, 0, 216, 153, 0, 12, 42, 180, 0, 158, 27, 51, 167, 0, 4, 2]
abbrev dktX1_byteAt_0 : List UInt8 := dkwX1_byteAt_0 ++ dktX1_byteAt_1
theorem dksX1_byteAt_0 : cX1_byteAt.data.toList.drop 0 = dktX1_byteAt_0 := by decide +kernel
theorem dksX1_byteAt_1 : cX1_byteAt.data.toList.drop 24 = dktX1_byteAt_1 := dk_seg dksX1_byteAt_0 24 rfl rfl
theorem dX1_byteAt_0 : decode cX1_byteAt 0 = .ok (.iload_n 1, 1) := dk_27 (dk_at dksX1_byteAt_0 0 rfl rfl)
theorem dX1_byteAt_1 : decode cX1_byteAt 1 = .ok (.iconst 0, 1) := dk_3 (dk_at dksX1_byteAt_0 1 rfl rfl)
theorem dX1_byteAt_2 : decode cX1_byteAt 2 = .ok (.aload_n 0, 1) := dk_42 (dk_at dksX1_byteAt_0 2 rfl rfl)
theorem dX1_byteAt_3 : decode cX1_byteAt 3 = .ok (.getfield 388, 3) := dk_180 1 132 (dk_at dksX1_byteAt_0 3 rfl rfl)
theorem dX1_byteAt_6 : decode cX1_byteAt 6 = .ok (.iconst 1, 1) := dk_4 (dk_at dksX1_byteAt_0 6 rfl rfl)
theorem dX1_byteAt_7 : decode cX1_byteAt 7 = .ok (.isub, 1) := dk_100 (dk_at dksX1_byteAt_0 7 rfl rfl)
theorem dX1_byteAt_8 : decode cX1_byteAt 8 = .ok (.invokestatic 216, 3) := dk_184 0 216 (dk_at dksX1_byteAt_0 8 rfl rfl)
theorem dX1_byteAt_11 : decode cX1_byteAt 11 = .ok (.ifCond .eq 12, 3) := dk_153 0 12 (dk_at dksX1_byteAt_0 11 rfl rfl)
theorem dX1_byteAt_14 : decode cX1_byteAt 14 = .ok (.aload_n 0, 1) := dk_42 (dk_at dksX1_byteAt_0 14 rfl rfl)
theorem dX1_byteAt_15 : decode cX1_byteAt 15 = .ok (.getfield 158, 3) := dk_180 0 158 (dk_at dksX1_byteAt_0 15 rfl rfl)
theorem dX1_byteAt_18 : decode cX1_byteAt 18 = .ok (.iload_n 1, 1) := dk_27 (dk_at dksX1_byteAt_0 18 rfl rfl)
theorem dX1_byteAt_19 : decode cX1_byteAt 19 = .ok (.baload, 1) := dk_51 (dk_at dksX1_byteAt_0 19 rfl rfl)
theorem dX1_byteAt_20 : decode cX1_byteAt 20 = .ok (.goto 4, 3) := dk_167 0 4 (dk_at dksX1_byteAt_0 20 rfl rfl)
theorem dX1_byteAt_23 : decode cX1_byteAt 23 = .ok (.iconst (-1), 1) := dk_2 (dk_at dksX1_byteAt_0 23 rfl rfl)
theorem dX1_byteAt_24 : decode cX1_byteAt 24 = .ok (.ireturn, 1) := dk_172 (dk_at dksX1_byteAt_1 0 rfl rfl)
abbrev cX1_drawn : ByteArray := prog_1_method_50_code
def yX1_drawn : MethodName := ⟨RX1, "drawn", "(II)I"⟩
def dkwX1_drawn_2 : List UInt8 := [27, 28, 182, 1, 168, 172]
abbrev dktX1_drawn_2 : List UInt8 := dkwX1_drawn_2 ++ []
def dkwX1_drawn_1 : List UInt8 := [180, 0, 98, 180, 1, 11, 17, 0, 200, 162, 0, 7, 42, 182, 1, 38, 42, 180, 0, 98, 42, 180, 0, 91]
abbrev dktX1_drawn_1 : List UInt8 := dkwX1_drawn_1 ++ dktX1_drawn_2
def dkwX1_drawn_0 : List UInt8 := [27, 4, 16, 60, 184, 0, 216, 153, 0, 13, 42, 180, 0, 91, 180, 0, 213, 154, 0, 5, 2, 172, 42]
abbrev dktX1_drawn_0 : List UInt8 := dkwX1_drawn_0 ++ dktX1_drawn_1
theorem dksX1_drawn_0 : cX1_drawn.data.toList.drop 0 = dktX1_drawn_0 := by decide +kernel
theorem dksX1_drawn_1 : cX1_drawn.data.toList.drop 23 = dktX1_drawn_1 := dk_seg dksX1_drawn_0 23 rfl rfl
theorem dksX1_drawn_2 : cX1_drawn.data.toList.drop 47 = dktX1_drawn_2 := dk_seg dksX1_drawn_1 24 rfl rfl
theorem dX1_drawn_0 : decode cX1_drawn 0 = .ok (.iload_n 1, 1) := dk_27 (dk_at dksX1_drawn_0 0 rfl rfl)
theorem dX1_drawn_1 : decode cX1_drawn 1 = .ok (.iconst 1, 1) := dk_4 (dk_at dksX1_drawn_0 1 rfl rfl)
theorem dX1_drawn_2 : decode cX1_drawn 2 = .ok (.bipush 60, 2) := dk_16 60 (dk_at dksX1_drawn_0 2 rfl rfl)
theorem dX1_drawn_4 : decode cX1_drawn 4 = .ok (.invokestatic 216, 3) := dk_184 0 216 (dk_at dksX1_drawn_0 4 rfl rfl)
theorem dX1_drawn_7 : decode cX1_drawn 7 = .ok (.ifCond .eq 13, 3) := dk_153 0 13 (dk_at dksX1_drawn_0 7 rfl rfl)
theorem dX1_drawn_10 : decode cX1_drawn 10 = .ok (.aload_n 0, 1) := dk_42 (dk_at dksX1_drawn_0 10 rfl rfl)
theorem dX1_drawn_11 : decode cX1_drawn 11 = .ok (.getfield 91, 3) := dk_180 0 91 (dk_at dksX1_drawn_0 11 rfl rfl)
theorem dX1_drawn_14 : decode cX1_drawn 14 = .ok (.getfield 213, 3) := dk_180 0 213 (dk_at dksX1_drawn_0 14 rfl rfl)
theorem dX1_drawn_17 : decode cX1_drawn 17 = .ok (.ifCond .ne 5, 3) := dk_154 0 5 (dk_at dksX1_drawn_0 17 rfl rfl)
theorem dX1_drawn_20 : decode cX1_drawn 20 = .ok (.iconst (-1), 1) := dk_2 (dk_at dksX1_drawn_0 20 rfl rfl)
theorem dX1_drawn_21 : decode cX1_drawn 21 = .ok (.ireturn, 1) := dk_172 (dk_at dksX1_drawn_0 21 rfl rfl)
theorem dX1_drawn_22 : decode cX1_drawn 22 = .ok (.aload_n 0, 1) := dk_42 (dk_at dksX1_drawn_0 22 rfl rfl)
theorem dX1_drawn_23 : decode cX1_drawn 23 = .ok (.getfield 98, 3) := dk_180 0 98 (dk_at dksX1_drawn_1 0 rfl rfl)
theorem dX1_drawn_26 : decode cX1_drawn 26 = .ok (.getfield 267, 3) := dk_180 1 11 (dk_at dksX1_drawn_1 3 rfl rfl)
theorem dX1_drawn_29 : decode cX1_drawn 29 = .ok (.sipush 200, 3) := dk_17 0 200 (dk_at dksX1_drawn_1 6 rfl rfl)
theorem dX1_drawn_32 : decode cX1_drawn 32 = .ok (.if_icmp .ge 7, 3) := dk_162 0 7 (dk_at dksX1_drawn_1 9 rfl rfl)
theorem dX1_drawn_35 : decode cX1_drawn 35 = .ok (.aload_n 0, 1) := dk_42 (dk_at dksX1_drawn_1 12 rfl rfl)
theorem dX1_drawn_36 : decode cX1_drawn 36 = .ok (.invokevirtual 294, 3) := dk_182 1 38 (dk_at dksX1_drawn_1 13 rfl rfl)
theorem dX1_drawn_39 : decode cX1_drawn 39 = .ok (.aload_n 0, 1) := dk_42 (dk_at dksX1_drawn_1 16 rfl rfl)
theorem dX1_drawn_40 : decode cX1_drawn 40 = .ok (.getfield 98, 3) := dk_180 0 98 (dk_at dksX1_drawn_1 17 rfl rfl)
theorem dX1_drawn_43 : decode cX1_drawn 43 = .ok (.aload_n 0, 1) := dk_42 (dk_at dksX1_drawn_1 20 rfl rfl)
theorem dX1_drawn_44 : decode cX1_drawn 44 = .ok (.getfield 91, 3) := dk_180 0 91 (dk_at dksX1_drawn_1 21 rfl rfl)
theorem dX1_drawn_47 : decode cX1_drawn 47 = .ok (.iload_n 1, 1) := dk_27 (dk_at dksX1_drawn_2 0 rfl rfl)
theorem dX1_drawn_48 : decode cX1_drawn 48 = .ok (.iload_n 2, 1) := dk_28 (dk_at dksX1_drawn_2 1 rfl rfl)
theorem dX1_drawn_49 : decode cX1_drawn 49 = .ok (.invokevirtual 424, 3) := dk_182 1 168 (dk_at dksX1_drawn_2 2 rfl rfl)
theorem dX1_drawn_52 : decode cX1_drawn 52 = .ok (.ireturn, 1) := dk_172 (dk_at dksX1_drawn_2 5 rfl rfl)
abbrev cX1_odds : ByteArray := prog_1_method_51_code
def yX1_odds : MethodName := ⟨RX1, "odds", "(III)I"⟩
def dkwX1_odds_3 : List UInt8 := [132, 4, 1, 132, 5, 1, 167, 255, 204, 21, 4, 172]
abbrev dktX1_odds_3 : List UInt8 := dkwX1_odds_3 ++ []
def dkwX1_odds_2 : List UInt8 := [180, 0, 91, 16, 10, 29, 21, 5, 96, 182, 1, 168, 87, 42, 180, 0, 102, 27, 182, 0, 236, 154, 0, 6]
abbrev dktX1_odds_2 : List UInt8 := dkwX1_odds_2 ++ dktX1_odds_3
def dkwX1_odds_1 : List UInt8 := [54, 5, 21, 5, 28, 162, 0, 52, 42, 180, 0, 102, 42, 180, 0, 98, 182, 1, 30, 42, 180, 0, 102, 42]
abbrev dktX1_odds_1 : List UInt8 := dkwX1_odds_1 ++ dktX1_odds_2
def dkwX1_odds_0 : List UInt8 := [42, 27, 182, 0, 223, 153, 0, 13, 28, 4, 16, 30, 184, 0, 216, 154, 0, 5, 2, 172, 3, 54, 4, 3]
abbrev dktX1_odds_0 : List UInt8 := dkwX1_odds_0 ++ dktX1_odds_1
theorem dksX1_odds_0 : cX1_odds.data.toList.drop 0 = dktX1_odds_0 := by decide +kernel
theorem dksX1_odds_1 : cX1_odds.data.toList.drop 24 = dktX1_odds_1 := dk_seg dksX1_odds_0 24 rfl rfl
theorem dksX1_odds_2 : cX1_odds.data.toList.drop 48 = dktX1_odds_2 := dk_seg dksX1_odds_1 24 rfl rfl
theorem dksX1_odds_3 : cX1_odds.data.toList.drop 72 = dktX1_odds_3 := dk_seg dksX1_odds_2 24 rfl rfl
theorem dX1_odds_0 : decode cX1_odds 0 = .ok (.aload_n 0, 1) := dk_42 (dk_at dksX1_odds_0 0 rfl rfl)
theorem dX1_odds_1 : decode cX1_odds 1 = .ok (.iload_n 1, 1) := dk_27 (dk_at dksX1_odds_0 1 rfl rfl)
theorem dX1_odds_2 : decode cX1_odds 2 = .ok (.invokevirtual 223, 3) := dk_182 0 223 (dk_at dksX1_odds_0 2 rfl rfl)
theorem dX1_odds_5 : decode cX1_odds 5 = .ok (.ifCond .eq 13, 3) := dk_153 0 13 (dk_at dksX1_odds_0 5 rfl rfl)
theorem dX1_odds_8 : decode cX1_odds 8 = .ok (.iload_n 2, 1) := dk_28 (dk_at dksX1_odds_0 8 rfl rfl)
theorem dX1_odds_9 : decode cX1_odds 9 = .ok (.iconst 1, 1) := dk_4 (dk_at dksX1_odds_0 9 rfl rfl)
theorem dX1_odds_10 : decode cX1_odds 10 = .ok (.bipush 30, 2) := dk_16 30 (dk_at dksX1_odds_0 10 rfl rfl)
theorem dX1_odds_12 : decode cX1_odds 12 = .ok (.invokestatic 216, 3) := dk_184 0 216 (dk_at dksX1_odds_0 12 rfl rfl)
theorem dX1_odds_15 : decode cX1_odds 15 = .ok (.ifCond .ne 5, 3) := dk_154 0 5 (dk_at dksX1_odds_0 15 rfl rfl)
theorem dX1_odds_18 : decode cX1_odds 18 = .ok (.iconst (-1), 1) := dk_2 (dk_at dksX1_odds_0 18 rfl rfl)
theorem dX1_odds_19 : decode cX1_odds 19 = .ok (.ireturn, 1) := dk_172 (dk_at dksX1_odds_0 19 rfl rfl)
theorem dX1_odds_20 : decode cX1_odds 20 = .ok (.iconst 0, 1) := dk_3 (dk_at dksX1_odds_0 20 rfl rfl)
theorem dX1_odds_21 : decode cX1_odds 21 = .ok (.istore 4, 2) := dk_54 4 (dk_at dksX1_odds_0 21 rfl rfl)
theorem dX1_odds_23 : decode cX1_odds 23 = .ok (.iconst 0, 1) := dk_3 (dk_at dksX1_odds_0 23 rfl rfl)
theorem dX1_odds_24 : decode cX1_odds 24 = .ok (.istore 5, 2) := dk_54 5 (dk_at dksX1_odds_1 0 rfl rfl)
theorem dX1_odds_26 : decode cX1_odds 26 = .ok (.iload 5, 2) := dk_21 5 (dk_at dksX1_odds_1 2 rfl rfl)
theorem dX1_odds_28 : decode cX1_odds 28 = .ok (.iload_n 2, 1) := dk_28 (dk_at dksX1_odds_1 4 rfl rfl)
theorem dX1_odds_29 : decode cX1_odds 29 = .ok (.if_icmp .ge 52, 3) := dk_162 0 52 (dk_at dksX1_odds_1 5 rfl rfl)
theorem dX1_odds_32 : decode cX1_odds 32 = .ok (.aload_n 0, 1) := dk_42 (dk_at dksX1_odds_1 8 rfl rfl)
theorem dX1_odds_33 : decode cX1_odds 33 = .ok (.getfield 102, 3) := dk_180 0 102 (dk_at dksX1_odds_1 9 rfl rfl)
theorem dX1_odds_36 : decode cX1_odds 36 = .ok (.aload_n 0, 1) := dk_42 (dk_at dksX1_odds_1 12 rfl rfl)
theorem dX1_odds_37 : decode cX1_odds 37 = .ok (.getfield 98, 3) := dk_180 0 98 (dk_at dksX1_odds_1 13 rfl rfl)
theorem dX1_odds_40 : decode cX1_odds 40 = .ok (.invokevirtual 286, 3) := dk_182 1 30 (dk_at dksX1_odds_1 16 rfl rfl)
theorem dX1_odds_43 : decode cX1_odds 43 = .ok (.aload_n 0, 1) := dk_42 (dk_at dksX1_odds_1 19 rfl rfl)
theorem dX1_odds_44 : decode cX1_odds 44 = .ok (.getfield 102, 3) := dk_180 0 102 (dk_at dksX1_odds_1 20 rfl rfl)
theorem dX1_odds_47 : decode cX1_odds 47 = .ok (.aload_n 0, 1) := dk_42 (dk_at dksX1_odds_1 23 rfl rfl)
theorem dX1_odds_48 : decode cX1_odds 48 = .ok (.getfield 91, 3) := dk_180 0 91 (dk_at dksX1_odds_2 0 rfl rfl)
theorem dX1_odds_51 : decode cX1_odds 51 = .ok (.bipush 10, 2) := dk_16 10 (dk_at dksX1_odds_2 3 rfl rfl)
theorem dX1_odds_53 : decode cX1_odds 53 = .ok (.iload_n 3, 1) := dk_29 (dk_at dksX1_odds_2 5 rfl rfl)
theorem dX1_odds_54 : decode cX1_odds 54 = .ok (.iload 5, 2) := dk_21 5 (dk_at dksX1_odds_2 6 rfl rfl)
theorem dX1_odds_56 : decode cX1_odds 56 = .ok (.iadd, 1) := dk_96 (dk_at dksX1_odds_2 8 rfl rfl)
theorem dX1_odds_57 : decode cX1_odds 57 = .ok (.invokevirtual 424, 3) := dk_182 1 168 (dk_at dksX1_odds_2 9 rfl rfl)
theorem dX1_odds_60 : decode cX1_odds 60 = .ok (.pop, 1) := dk_87 (dk_at dksX1_odds_2 12 rfl rfl)
theorem dX1_odds_61 : decode cX1_odds 61 = .ok (.aload_n 0, 1) := dk_42 (dk_at dksX1_odds_2 13 rfl rfl)
theorem dX1_odds_62 : decode cX1_odds 62 = .ok (.getfield 102, 3) := dk_180 0 102 (dk_at dksX1_odds_2 14 rfl rfl)
theorem dX1_odds_65 : decode cX1_odds 65 = .ok (.iload_n 1, 1) := dk_27 (dk_at dksX1_odds_2 17 rfl rfl)
theorem dX1_odds_66 : decode cX1_odds 66 = .ok (.invokevirtual 236, 3) := dk_182 0 236 (dk_at dksX1_odds_2 18 rfl rfl)
theorem dX1_odds_69 : decode cX1_odds 69 = .ok (.ifCond .ne 6, 3) := dk_154 0 6 (dk_at dksX1_odds_2 21 rfl rfl)
theorem dX1_odds_72 : decode cX1_odds 72 = .ok (.iinc 4 1, 3) := dk_132 4 1 (dk_at dksX1_odds_3 0 rfl rfl)
theorem dX1_odds_75 : decode cX1_odds 75 = .ok (.iinc 5 1, 3) := dk_132 5 1 (dk_at dksX1_odds_3 3 rfl rfl)
theorem dX1_odds_78 : decode cX1_odds 78 = .ok (.goto (-52), 3) := dk_167 255 204 (dk_at dksX1_odds_3 6 rfl rfl)
theorem dX1_odds_81 : decode cX1_odds 81 = .ok (.iload 4, 2) := dk_21 4 (dk_at dksX1_odds_3 9 rfl rfl)
theorem dX1_odds_83 : decode cX1_odds 83 = .ok (.ireturn, 1) := dk_172 (dk_at dksX1_odds_3 11 rfl rfl)
abbrev cX1_book : ByteArray := prog_1_method_52_code
def yX1_book : MethodName := ⟨RX1, "book", "(I)I"⟩
def dkwX1_book_9 : List UInt8 := [42, 180, 0, 102, 182, 1, 30, 28, 172]
abbrev dktX1_book_9 : List UInt8 := dkwX1_book_9 ++ []
def dkwX1_book_8 : List UInt8 := [79, 42, 4, 181, 1, 190, 27, 4, 160, 0, 23, 21, 4, 158, 0, 18, 42, 182, 1, 38, 42, 180, 0, 98]
abbrev dktX1_book_8 : List UInt8 := dkwX1_book_8 ++ dktX1_book_9
def dkwX1_book_7 : List UInt8 := [180, 0, 161, 5, 42, 180, 0, 102, 180, 1, 11, 79, 42, 180, 0, 161, 6, 42, 180, 0, 102, 180, 1, 14]
abbrev dktX1_book_7 : List UInt8 := dkwX1_book_7 ++ dktX1_book_8
def dkwX1_book_6 : List UInt8 := [132, 5, 1, 167, 255, 184, 42, 180, 0, 161, 3, 29, 79, 42, 180, 0, 161, 4, 21, 4, 79, 42]
abbrev dktX1_book_6 : List UInt8 := dkwX1_book_6 ++ dktX1_book_7
def dkwX1_book_5 : List UInt8 := [21, 5, 61, 167, 0, 19, 25, 6, 42, 180, 0, 91, 42, 180, 0, 102, 182, 1, 186, 132, 4, 1]
abbrev dktX1_book_5 : List UInt8 := dkwX1_book_5 ++ dktX1_book_6
def dkwX1_book_4 : List UInt8 := [21, 5, 50, 58, 6, 25, 6, 42, 180, 0, 91, 42, 180, 0, 102, 182, 1, 180, 62, 29, 153, 0, 9]
abbrev dktX1_book_4 : List UInt8 := dkwX1_book_4 ++ dktX1_book_5
def dkwX1_book_3 : List UInt8 := [21, 5, 42, 180, 0, 117, 180, 1, 173, 162, 0, 66, 28, 2, 160, 0, 61, 42, 180, 0, 117, 180, 1, 176]
abbrev dktX1_book_3 : List UInt8 := dkwX1_book_3 ++ dktX1_book_4
def dkwX1_book_2 : List UInt8 := [100, 172, 42, 180, 0, 102, 42, 180, 0, 98, 182, 1, 30, 2, 61, 3, 62, 3, 54, 4, 3, 54, 5]
abbrev dktX1_book_2 : List UInt8 := dkwX1_book_2 ++ dktX1_book_3
def dkwX1_book_1 : List UInt8 := [180, 0, 117, 182, 1, 171, 167, 0, 20, 77, 42, 44, 180, 0, 207, 181, 0, 193, 16, 254, 44, 180, 0, 210]
abbrev dktX1_book_1 : List UInt8 := dkwX1_book_1 ++ dktX1_book_2
def dkwX1_book_0 : List UInt8 := [27, 3, 4, 184, 0, 216, 154, 0, 7, 17, 252, 24, 172, 42, 182, 0, 190, 42, 3, 181, 0, 193, 42]
abbrev dktX1_book_0 : List UInt8 := dkwX1_book_0 ++ dktX1_book_1
theorem dksX1_book_0 : cX1_book.data.toList.drop 0 = dktX1_book_0 := by decide +kernel
theorem dksX1_book_1 : cX1_book.data.toList.drop 23 = dktX1_book_1 := dk_seg dksX1_book_0 23 rfl rfl
theorem dksX1_book_2 : cX1_book.data.toList.drop 47 = dktX1_book_2 := dk_seg dksX1_book_1 24 rfl rfl
theorem dksX1_book_3 : cX1_book.data.toList.drop 70 = dktX1_book_3 := dk_seg dksX1_book_2 23 rfl rfl
theorem dksX1_book_4 : cX1_book.data.toList.drop 94 = dktX1_book_4 := dk_seg dksX1_book_3 24 rfl rfl
theorem dksX1_book_5 : cX1_book.data.toList.drop 117 = dktX1_book_5 := dk_seg dksX1_book_4 23 rfl rfl
theorem dksX1_book_6 : cX1_book.data.toList.drop 139 = dktX1_book_6 := dk_seg dksX1_book_5 22 rfl rfl
theorem dksX1_book_7 : cX1_book.data.toList.drop 161 = dktX1_book_7 := dk_seg dksX1_book_6 22 rfl rfl
theorem dksX1_book_8 : cX1_book.data.toList.drop 185 = dktX1_book_8 := dk_seg dksX1_book_7 24 rfl rfl
theorem dksX1_book_9 : cX1_book.data.toList.drop 209 = dktX1_book_9 := dk_seg dksX1_book_8 24 rfl rfl
theorem dX1_book_0 : decode cX1_book 0 = .ok (.iload_n 1, 1) := dk_27 (dk_at dksX1_book_0 0 rfl rfl)
theorem dX1_book_1 : decode cX1_book 1 = .ok (.iconst 0, 1) := dk_3 (dk_at dksX1_book_0 1 rfl rfl)
theorem dX1_book_2 : decode cX1_book 2 = .ok (.iconst 1, 1) := dk_4 (dk_at dksX1_book_0 2 rfl rfl)
theorem dX1_book_3 : decode cX1_book 3 = .ok (.invokestatic 216, 3) := dk_184 0 216 (dk_at dksX1_book_0 3 rfl rfl)
theorem dX1_book_6 : decode cX1_book 6 = .ok (.ifCond .ne 7, 3) := dk_154 0 7 (dk_at dksX1_book_0 6 rfl rfl)
theorem dX1_book_9 : decode cX1_book 9 = .ok (.sipush (-1000), 3) := dk_17 252 24 (dk_at dksX1_book_0 9 rfl rfl)
theorem dX1_book_12 : decode cX1_book 12 = .ok (.ireturn, 1) := dk_172 (dk_at dksX1_book_0 12 rfl rfl)
theorem dX1_book_13 : decode cX1_book 13 = .ok (.aload_n 0, 1) := dk_42 (dk_at dksX1_book_0 13 rfl rfl)
theorem dX1_book_14 : decode cX1_book 14 = .ok (.invokevirtual 190, 3) := dk_182 0 190 (dk_at dksX1_book_0 14 rfl rfl)
theorem dX1_book_17 : decode cX1_book 17 = .ok (.aload_n 0, 1) := dk_42 (dk_at dksX1_book_0 17 rfl rfl)
theorem dX1_book_18 : decode cX1_book 18 = .ok (.iconst 0, 1) := dk_3 (dk_at dksX1_book_0 18 rfl rfl)
theorem dX1_book_19 : decode cX1_book 19 = .ok (.putfield 193, 3) := dk_181 0 193 (dk_at dksX1_book_0 19 rfl rfl)
theorem dX1_book_22 : decode cX1_book 22 = .ok (.aload_n 0, 1) := dk_42 (dk_at dksX1_book_0 22 rfl rfl)
theorem dX1_book_23 : decode cX1_book 23 = .ok (.getfield 117, 3) := dk_180 0 117 (dk_at dksX1_book_1 0 rfl rfl)
theorem dX1_book_26 : decode cX1_book 26 = .ok (.invokevirtual 427, 3) := dk_182 1 171 (dk_at dksX1_book_1 3 rfl rfl)
theorem dX1_book_29 : decode cX1_book 29 = .ok (.goto 20, 3) := dk_167 0 20 (dk_at dksX1_book_1 6 rfl rfl)
theorem dX1_book_32 : decode cX1_book 32 = .ok (.astore_n 2, 1) := dk_77 (dk_at dksX1_book_1 9 rfl rfl)
theorem dX1_book_33 : decode cX1_book 33 = .ok (.aload_n 0, 1) := dk_42 (dk_at dksX1_book_1 10 rfl rfl)
theorem dX1_book_34 : decode cX1_book 34 = .ok (.aload_n 2, 1) := dk_44 (dk_at dksX1_book_1 11 rfl rfl)
theorem dX1_book_35 : decode cX1_book 35 = .ok (.getfield 207, 3) := dk_180 0 207 (dk_at dksX1_book_1 12 rfl rfl)
theorem dX1_book_38 : decode cX1_book 38 = .ok (.putfield 193, 3) := dk_181 0 193 (dk_at dksX1_book_1 15 rfl rfl)
theorem dX1_book_41 : decode cX1_book 41 = .ok (.bipush (-2), 2) := dk_16 254 (dk_at dksX1_book_1 18 rfl rfl)
theorem dX1_book_43 : decode cX1_book 43 = .ok (.aload_n 2, 1) := dk_44 (dk_at dksX1_book_1 20 rfl rfl)
theorem dX1_book_44 : decode cX1_book 44 = .ok (.getfield 210, 3) := dk_180 0 210 (dk_at dksX1_book_1 21 rfl rfl)
theorem dX1_book_47 : decode cX1_book 47 = .ok (.isub, 1) := dk_100 (dk_at dksX1_book_2 0 rfl rfl)
theorem dX1_book_48 : decode cX1_book 48 = .ok (.ireturn, 1) := dk_172 (dk_at dksX1_book_2 1 rfl rfl)
theorem dX1_book_49 : decode cX1_book 49 = .ok (.aload_n 0, 1) := dk_42 (dk_at dksX1_book_2 2 rfl rfl)
theorem dX1_book_50 : decode cX1_book 50 = .ok (.getfield 102, 3) := dk_180 0 102 (dk_at dksX1_book_2 3 rfl rfl)
theorem dX1_book_53 : decode cX1_book 53 = .ok (.aload_n 0, 1) := dk_42 (dk_at dksX1_book_2 6 rfl rfl)
theorem dX1_book_54 : decode cX1_book 54 = .ok (.getfield 98, 3) := dk_180 0 98 (dk_at dksX1_book_2 7 rfl rfl)
theorem dX1_book_57 : decode cX1_book 57 = .ok (.invokevirtual 286, 3) := dk_182 1 30 (dk_at dksX1_book_2 10 rfl rfl)
theorem dX1_book_60 : decode cX1_book 60 = .ok (.iconst (-1), 1) := dk_2 (dk_at dksX1_book_2 13 rfl rfl)
theorem dX1_book_61 : decode cX1_book 61 = .ok (.istore_n 2, 1) := dk_61 (dk_at dksX1_book_2 14 rfl rfl)
theorem dX1_book_62 : decode cX1_book 62 = .ok (.iconst 0, 1) := dk_3 (dk_at dksX1_book_2 15 rfl rfl)
theorem dX1_book_63 : decode cX1_book 63 = .ok (.istore_n 3, 1) := dk_62 (dk_at dksX1_book_2 16 rfl rfl)
theorem dX1_book_64 : decode cX1_book 64 = .ok (.iconst 0, 1) := dk_3 (dk_at dksX1_book_2 17 rfl rfl)
theorem dX1_book_65 : decode cX1_book 65 = .ok (.istore 4, 2) := dk_54 4 (dk_at dksX1_book_2 18 rfl rfl)
theorem dX1_book_67 : decode cX1_book 67 = .ok (.iconst 0, 1) := dk_3 (dk_at dksX1_book_2 20 rfl rfl)
theorem dX1_book_68 : decode cX1_book 68 = .ok (.istore 5, 2) := dk_54 5 (dk_at dksX1_book_2 21 rfl rfl)
theorem dX1_book_70 : decode cX1_book 70 = .ok (.iload 5, 2) := dk_21 5 (dk_at dksX1_book_3 0 rfl rfl)
theorem dX1_book_72 : decode cX1_book 72 = .ok (.aload_n 0, 1) := dk_42 (dk_at dksX1_book_3 2 rfl rfl)
theorem dX1_book_73 : decode cX1_book 73 = .ok (.getfield 117, 3) := dk_180 0 117 (dk_at dksX1_book_3 3 rfl rfl)
theorem dX1_book_76 : decode cX1_book 76 = .ok (.getfield 429, 3) := dk_180 1 173 (dk_at dksX1_book_3 6 rfl rfl)
theorem dX1_book_79 : decode cX1_book 79 = .ok (.if_icmp .ge 66, 3) := dk_162 0 66 (dk_at dksX1_book_3 9 rfl rfl)
theorem dX1_book_82 : decode cX1_book 82 = .ok (.iload_n 2, 1) := dk_28 (dk_at dksX1_book_3 12 rfl rfl)
theorem dX1_book_83 : decode cX1_book 83 = .ok (.iconst (-1), 1) := dk_2 (dk_at dksX1_book_3 13 rfl rfl)
theorem dX1_book_84 : decode cX1_book 84 = .ok (.if_icmp .ne 61, 3) := dk_160 0 61 (dk_at dksX1_book_3 14 rfl rfl)
theorem dX1_book_87 : decode cX1_book 87 = .ok (.aload_n 0, 1) := dk_42 (dk_at dksX1_book_3 17 rfl rfl)
theorem dX1_book_88 : decode cX1_book 88 = .ok (.getfield 117, 3) := dk_180 0 117 (dk_at dksX1_book_3 18 rfl rfl)
theorem dX1_book_91 : decode cX1_book 91 = .ok (.getfield 432, 3) := dk_180 1 176 (dk_at dksX1_book_3 21 rfl rfl)
theorem dX1_book_94 : decode cX1_book 94 = .ok (.iload 5, 2) := dk_21 5 (dk_at dksX1_book_4 0 rfl rfl)
theorem dX1_book_96 : decode cX1_book 96 = .ok (.aaload, 1) := dk_50 (dk_at dksX1_book_4 2 rfl rfl)
theorem dX1_book_97 : decode cX1_book 97 = .ok (.astore 6, 2) := dk_58 6 (dk_at dksX1_book_4 3 rfl rfl)
theorem dX1_book_99 : decode cX1_book 99 = .ok (.aload 6, 2) := dk_25 6 (dk_at dksX1_book_4 5 rfl rfl)
theorem dX1_book_101 : decode cX1_book 101 = .ok (.aload_n 0, 1) := dk_42 (dk_at dksX1_book_4 7 rfl rfl)
theorem dX1_book_102 : decode cX1_book 102 = .ok (.getfield 91, 3) := dk_180 0 91 (dk_at dksX1_book_4 8 rfl rfl)
theorem dX1_book_105 : decode cX1_book 105 = .ok (.aload_n 0, 1) := dk_42 (dk_at dksX1_book_4 11 rfl rfl)
theorem dX1_book_106 : decode cX1_book 106 = .ok (.getfield 102, 3) := dk_180 0 102 (dk_at dksX1_book_4 12 rfl rfl)
theorem dX1_book_109 : decode cX1_book 109 = .ok (.invokevirtual 436, 3) := dk_182 1 180 (dk_at dksX1_book_4 15 rfl rfl)
theorem dX1_book_112 : decode cX1_book 112 = .ok (.istore_n 3, 1) := dk_62 (dk_at dksX1_book_4 18 rfl rfl)
theorem dX1_book_113 : decode cX1_book 113 = .ok (.iload_n 3, 1) := dk_29 (dk_at dksX1_book_4 19 rfl rfl)
theorem dX1_book_114 : decode cX1_book 114 = .ok (.ifCond .eq 9, 3) := dk_153 0 9 (dk_at dksX1_book_4 20 rfl rfl)
theorem dX1_book_117 : decode cX1_book 117 = .ok (.iload 5, 2) := dk_21 5 (dk_at dksX1_book_5 0 rfl rfl)
theorem dX1_book_119 : decode cX1_book 119 = .ok (.istore_n 2, 1) := dk_61 (dk_at dksX1_book_5 2 rfl rfl)
theorem dX1_book_120 : decode cX1_book 120 = .ok (.goto 19, 3) := dk_167 0 19 (dk_at dksX1_book_5 3 rfl rfl)
theorem dX1_book_123 : decode cX1_book 123 = .ok (.aload 6, 2) := dk_25 6 (dk_at dksX1_book_5 6 rfl rfl)
theorem dX1_book_125 : decode cX1_book 125 = .ok (.aload_n 0, 1) := dk_42 (dk_at dksX1_book_5 8 rfl rfl)
theorem dX1_book_126 : decode cX1_book 126 = .ok (.getfield 91, 3) := dk_180 0 91 (dk_at dksX1_book_5 9 rfl rfl)
theorem dX1_book_129 : decode cX1_book 129 = .ok (.aload_n 0, 1) := dk_42 (dk_at dksX1_book_5 12 rfl rfl)
theorem dX1_book_130 : decode cX1_book 130 = .ok (.getfield 102, 3) := dk_180 0 102 (dk_at dksX1_book_5 13 rfl rfl)
theorem dX1_book_133 : decode cX1_book 133 = .ok (.invokevirtual 442, 3) := dk_182 1 186 (dk_at dksX1_book_5 16 rfl rfl)
theorem dX1_book_136 : decode cX1_book 136 = .ok (.iinc 4 1, 3) := dk_132 4 1 (dk_at dksX1_book_5 19 rfl rfl)
theorem dX1_book_139 : decode cX1_book 139 = .ok (.iinc 5 1, 3) := dk_132 5 1 (dk_at dksX1_book_6 0 rfl rfl)
theorem dX1_book_142 : decode cX1_book 142 = .ok (.goto (-72), 3) := dk_167 255 184 (dk_at dksX1_book_6 3 rfl rfl)
theorem dX1_book_145 : decode cX1_book 145 = .ok (.aload_n 0, 1) := dk_42 (dk_at dksX1_book_6 6 rfl rfl)
theorem dX1_book_146 : decode cX1_book 146 = .ok (.getfield 161, 3) := dk_180 0 161 (dk_at dksX1_book_6 7 rfl rfl)
theorem dX1_book_149 : decode cX1_book 149 = .ok (.iconst 0, 1) := dk_3 (dk_at dksX1_book_6 10 rfl rfl)
theorem dX1_book_150 : decode cX1_book 150 = .ok (.iload_n 3, 1) := dk_29 (dk_at dksX1_book_6 11 rfl rfl)
theorem dX1_book_151 : decode cX1_book 151 = .ok (.iastore, 1) := dk_79 (dk_at dksX1_book_6 12 rfl rfl)
theorem dX1_book_152 : decode cX1_book 152 = .ok (.aload_n 0, 1) := dk_42 (dk_at dksX1_book_6 13 rfl rfl)
theorem dX1_book_153 : decode cX1_book 153 = .ok (.getfield 161, 3) := dk_180 0 161 (dk_at dksX1_book_6 14 rfl rfl)
theorem dX1_book_156 : decode cX1_book 156 = .ok (.iconst 1, 1) := dk_4 (dk_at dksX1_book_6 17 rfl rfl)
theorem dX1_book_157 : decode cX1_book 157 = .ok (.iload 4, 2) := dk_21 4 (dk_at dksX1_book_6 18 rfl rfl)
theorem dX1_book_159 : decode cX1_book 159 = .ok (.iastore, 1) := dk_79 (dk_at dksX1_book_6 20 rfl rfl)
theorem dX1_book_160 : decode cX1_book 160 = .ok (.aload_n 0, 1) := dk_42 (dk_at dksX1_book_6 21 rfl rfl)
theorem dX1_book_161 : decode cX1_book 161 = .ok (.getfield 161, 3) := dk_180 0 161 (dk_at dksX1_book_7 0 rfl rfl)
theorem dX1_book_164 : decode cX1_book 164 = .ok (.iconst 2, 1) := dk_5 (dk_at dksX1_book_7 3 rfl rfl)
theorem dX1_book_165 : decode cX1_book 165 = .ok (.aload_n 0, 1) := dk_42 (dk_at dksX1_book_7 4 rfl rfl)
theorem dX1_book_166 : decode cX1_book 166 = .ok (.getfield 102, 3) := dk_180 0 102 (dk_at dksX1_book_7 5 rfl rfl)
theorem dX1_book_169 : decode cX1_book 169 = .ok (.getfield 267, 3) := dk_180 1 11 (dk_at dksX1_book_7 8 rfl rfl)
theorem dX1_book_172 : decode cX1_book 172 = .ok (.iastore, 1) := dk_79 (dk_at dksX1_book_7 11 rfl rfl)
theorem dX1_book_173 : decode cX1_book 173 = .ok (.aload_n 0, 1) := dk_42 (dk_at dksX1_book_7 12 rfl rfl)
theorem dX1_book_174 : decode cX1_book 174 = .ok (.getfield 161, 3) := dk_180 0 161 (dk_at dksX1_book_7 13 rfl rfl)
theorem dX1_book_177 : decode cX1_book 177 = .ok (.iconst 3, 1) := dk_6 (dk_at dksX1_book_7 16 rfl rfl)
theorem dX1_book_178 : decode cX1_book 178 = .ok (.aload_n 0, 1) := dk_42 (dk_at dksX1_book_7 17 rfl rfl)
theorem dX1_book_179 : decode cX1_book 179 = .ok (.getfield 102, 3) := dk_180 0 102 (dk_at dksX1_book_7 18 rfl rfl)
theorem dX1_book_182 : decode cX1_book 182 = .ok (.getfield 270, 3) := dk_180 1 14 (dk_at dksX1_book_7 21 rfl rfl)
theorem dX1_book_185 : decode cX1_book 185 = .ok (.iastore, 1) := dk_79 (dk_at dksX1_book_8 0 rfl rfl)
theorem dX1_book_186 : decode cX1_book 186 = .ok (.aload_n 0, 1) := dk_42 (dk_at dksX1_book_8 1 rfl rfl)
theorem dX1_book_187 : decode cX1_book 187 = .ok (.iconst 1, 1) := dk_4 (dk_at dksX1_book_8 2 rfl rfl)
theorem dX1_book_188 : decode cX1_book 188 = .ok (.putfield 446, 3) := dk_181 1 190 (dk_at dksX1_book_8 3 rfl rfl)
theorem dX1_book_191 : decode cX1_book 191 = .ok (.iload_n 1, 1) := dk_27 (dk_at dksX1_book_8 6 rfl rfl)
theorem dX1_book_192 : decode cX1_book 192 = .ok (.iconst 1, 1) := dk_4 (dk_at dksX1_book_8 7 rfl rfl)
theorem dX1_book_193 : decode cX1_book 193 = .ok (.if_icmp .ne 23, 3) := dk_160 0 23 (dk_at dksX1_book_8 8 rfl rfl)
theorem dX1_book_196 : decode cX1_book 196 = .ok (.iload 4, 2) := dk_21 4 (dk_at dksX1_book_8 11 rfl rfl)
theorem dX1_book_198 : decode cX1_book 198 = .ok (.ifCond .le 18, 3) := dk_158 0 18 (dk_at dksX1_book_8 13 rfl rfl)
theorem dX1_book_201 : decode cX1_book 201 = .ok (.aload_n 0, 1) := dk_42 (dk_at dksX1_book_8 16 rfl rfl)
theorem dX1_book_202 : decode cX1_book 202 = .ok (.invokevirtual 294, 3) := dk_182 1 38 (dk_at dksX1_book_8 17 rfl rfl)
theorem dX1_book_205 : decode cX1_book 205 = .ok (.aload_n 0, 1) := dk_42 (dk_at dksX1_book_8 20 rfl rfl)
theorem dX1_book_206 : decode cX1_book 206 = .ok (.getfield 98, 3) := dk_180 0 98 (dk_at dksX1_book_8 21 rfl rfl)
theorem dX1_book_209 : decode cX1_book 209 = .ok (.aload_n 0, 1) := dk_42 (dk_at dksX1_book_9 0 rfl rfl)
theorem dX1_book_210 : decode cX1_book 210 = .ok (.getfield 102, 3) := dk_180 0 102 (dk_at dksX1_book_9 1 rfl rfl)
theorem dX1_book_213 : decode cX1_book 213 = .ok (.invokevirtual 286, 3) := dk_182 1 30 (dk_at dksX1_book_9 4 rfl rfl)
theorem dX1_book_216 : decode cX1_book 216 = .ok (.iload_n 2, 1) := dk_28 (dk_at dksX1_book_9 7 rfl rfl)
theorem dX1_book_217 : decode cX1_book 217 = .ok (.ireturn, 1) := dk_172 (dk_at dksX1_book_9 8 rfl rfl)
abbrev cX1_told : ByteArray := prog_1_method_53_code
def yX1_told : MethodName := ⟨RX1, "told", "(I)I"⟩
def dkwX1_told_1 : List UInt8 := [167, 0, 4, 2, 172]
abbrev dktX1_told_1 : List UInt8 := dkwX1_told_1 ++ []
def dkwX1_told_0 : List UInt8 := [42, 180, 1, 190, 153, 0, 21, 27, 3, 6, 184, 0, 216, 153, 0, 12, 42, 180, 0, 161, 27, 46]
abbrev dktX1_told_0 : List UInt8 := dkwX1_told_0 ++ dktX1_told_1
theorem dksX1_told_0 : cX1_told.data.toList.drop 0 = dktX1_told_0 := by decide +kernel
theorem dksX1_told_1 : cX1_told.data.toList.drop 22 = dktX1_told_1 := dk_seg dksX1_told_0 22 rfl rfl
theorem dX1_told_0 : decode cX1_told 0 = .ok (.aload_n 0, 1) := dk_42 (dk_at dksX1_told_0 0 rfl rfl)
theorem dX1_told_1 : decode cX1_told 1 = .ok (.getfield 446, 3) := dk_180 1 190 (dk_at dksX1_told_0 1 rfl rfl)
theorem dX1_told_4 : decode cX1_told 4 = .ok (.ifCond .eq 21, 3) := dk_153 0 21 (dk_at dksX1_told_0 4 rfl rfl)
theorem dX1_told_7 : decode cX1_told 7 = .ok (.iload_n 1, 1) := dk_27 (dk_at dksX1_told_0 7 rfl rfl)
theorem dX1_told_8 : decode cX1_told 8 = .ok (.iconst 0, 1) := dk_3 (dk_at dksX1_told_0 8 rfl rfl)
theorem dX1_told_9 : decode cX1_told 9 = .ok (.iconst 3, 1) := dk_6 (dk_at dksX1_told_0 9 rfl rfl)
theorem dX1_told_10 : decode cX1_told 10 = .ok (.invokestatic 216, 3) := dk_184 0 216 (dk_at dksX1_told_0 10 rfl rfl)
theorem dX1_told_13 : decode cX1_told 13 = .ok (.ifCond .eq 12, 3) := dk_153 0 12 (dk_at dksX1_told_0 13 rfl rfl)
theorem dX1_told_16 : decode cX1_told 16 = .ok (.aload_n 0, 1) := dk_42 (dk_at dksX1_told_0 16 rfl rfl)
theorem dX1_told_17 : decode cX1_told 17 = .ok (.getfield 161, 3) := dk_180 0 161 (dk_at dksX1_told_0 17 rfl rfl)
theorem dX1_told_20 : decode cX1_told 20 = .ok (.iload_n 1, 1) := dk_27 (dk_at dksX1_told_0 20 rfl rfl)
theorem dX1_told_21 : decode cX1_told 21 = .ok (.iaload, 1) := dk_46 (dk_at dksX1_told_0 21 rfl rfl)
theorem dX1_told_22 : decode cX1_told 22 = .ok (.goto 4, 3) := dk_167 0 4 (dk_at dksX1_told_1 0 rfl rfl)
theorem dX1_told_25 : decode cX1_told 25 = .ok (.iconst (-1), 1) := dk_2 (dk_at dksX1_told_1 3 rfl rfl)
theorem dX1_told_26 : decode cX1_told 26 = .ok (.ireturn, 1) := dk_172 (dk_at dksX1_told_1 4 rfl rfl)
abbrev cX1_sentence : ByteArray := prog_1_method_54_code
def yX1_sentence : MethodName := ⟨RX1, "sentence", "()I"⟩
def dkwX1_sentence_1 : List UInt8 := [180, 1, 196, 172, 76, 42, 43, 180, 0, 207, 181, 0, 193, 2, 43, 180, 0, 210, 100, 172]
abbrev dktX1_sentence_1 : List UInt8 := dkwX1_sentence_1 ++ []
def dkwX1_sentence_0 : List UInt8 := [42, 182, 0, 190, 42, 3, 181, 0, 193, 42, 42, 180, 0, 167, 182, 1, 193, 181, 0, 203, 42, 180, 0, 167]
abbrev dktX1_sentence_0 : List UInt8 := dkwX1_sentence_0 ++ dktX1_sentence_1
theorem dksX1_sentence_0 : cX1_sentence.data.toList.drop 0 = dktX1_sentence_0 := by decide +kernel
theorem dksX1_sentence_1 : cX1_sentence.data.toList.drop 24 = dktX1_sentence_1 := dk_seg dksX1_sentence_0 24 rfl rfl
theorem dX1_sentence_0 : decode cX1_sentence 0 = .ok (.aload_n 0, 1) := dk_42 (dk_at dksX1_sentence_0 0 rfl rfl)
theorem dX1_sentence_1 : decode cX1_sentence 1 = .ok (.invokevirtual 190, 3) := dk_182 0 190 (dk_at dksX1_sentence_0 1 rfl rfl)
theorem dX1_sentence_4 : decode cX1_sentence 4 = .ok (.aload_n 0, 1) := dk_42 (dk_at dksX1_sentence_0 4 rfl rfl)
theorem dX1_sentence_5 : decode cX1_sentence 5 = .ok (.iconst 0, 1) := dk_3 (dk_at dksX1_sentence_0 5 rfl rfl)
theorem dX1_sentence_6 : decode cX1_sentence 6 = .ok (.putfield 193, 3) := dk_181 0 193 (dk_at dksX1_sentence_0 6 rfl rfl)
theorem dX1_sentence_9 : decode cX1_sentence 9 = .ok (.aload_n 0, 1) := dk_42 (dk_at dksX1_sentence_0 9 rfl rfl)
theorem dX1_sentence_10 : decode cX1_sentence 10 = .ok (.aload_n 0, 1) := dk_42 (dk_at dksX1_sentence_0 10 rfl rfl)
theorem dX1_sentence_11 : decode cX1_sentence 11 = .ok (.getfield 167, 3) := dk_180 0 167 (dk_at dksX1_sentence_0 11 rfl rfl)
theorem dX1_sentence_14 : decode cX1_sentence 14 = .ok (.invokevirtual 449, 3) := dk_182 1 193 (dk_at dksX1_sentence_0 14 rfl rfl)
theorem dX1_sentence_17 : decode cX1_sentence 17 = .ok (.putfield 203, 3) := dk_181 0 203 (dk_at dksX1_sentence_0 17 rfl rfl)
theorem dX1_sentence_20 : decode cX1_sentence 20 = .ok (.aload_n 0, 1) := dk_42 (dk_at dksX1_sentence_0 20 rfl rfl)
theorem dX1_sentence_21 : decode cX1_sentence 21 = .ok (.getfield 167, 3) := dk_180 0 167 (dk_at dksX1_sentence_0 21 rfl rfl)
theorem dX1_sentence_24 : decode cX1_sentence 24 = .ok (.getfield 452, 3) := dk_180 1 196 (dk_at dksX1_sentence_1 0 rfl rfl)
theorem dX1_sentence_27 : decode cX1_sentence 27 = .ok (.ireturn, 1) := dk_172 (dk_at dksX1_sentence_1 3 rfl rfl)
theorem dX1_sentence_28 : decode cX1_sentence 28 = .ok (.astore_n 1, 1) := dk_76 (dk_at dksX1_sentence_1 4 rfl rfl)
theorem dX1_sentence_29 : decode cX1_sentence 29 = .ok (.aload_n 0, 1) := dk_42 (dk_at dksX1_sentence_1 5 rfl rfl)
theorem dX1_sentence_30 : decode cX1_sentence 30 = .ok (.aload_n 1, 1) := dk_43 (dk_at dksX1_sentence_1 6 rfl rfl)
theorem dX1_sentence_31 : decode cX1_sentence 31 = .ok (.getfield 207, 3) := dk_180 0 207 (dk_at dksX1_sentence_1 7 rfl rfl)
theorem dX1_sentence_34 : decode cX1_sentence 34 = .ok (.putfield 193, 3) := dk_181 0 193 (dk_at dksX1_sentence_1 10 rfl rfl)
theorem dX1_sentence_37 : decode cX1_sentence 37 = .ok (.iconst (-1), 1) := dk_2 (dk_at dksX1_sentence_1 13 rfl rfl)
theorem dX1_sentence_38 : decode cX1_sentence 38 = .ok (.aload_n 1, 1) := dk_43 (dk_at dksX1_sentence_1 14 rfl rfl)
theorem dX1_sentence_39 : decode cX1_sentence 39 = .ok (.getfield 210, 3) := dk_180 0 210 (dk_at dksX1_sentence_1 15 rfl rfl)
theorem dX1_sentence_42 : decode cX1_sentence 42 = .ok (.isub, 1) := dk_100 (dk_at dksX1_sentence_1 18 rfl rfl)
theorem dX1_sentence_43 : decode cX1_sentence 43 = .ok (.ireturn, 1) := dk_172 (dk_at dksX1_sentence_1 19 rfl rfl)
abbrev cX1_said : ByteArray := prog_1_method_55_code
def yX1_said : MethodName := ⟨RX1, "said", "(I)I"⟩
def dkwX1_said_3 : List UInt8 := [2, 172]
abbrev dktX1_said_3 : List UInt8 := dkwX1_said_3 ++ []
def dkwX1_said_2 : List UInt8 := [27, 160, 0, 5, 29, 172, 132, 2, 1, 132, 3, 1, 167, 255, 215, 27, 2, 160, 0, 7, 28, 167, 0, 4]
abbrev dktX1_said_2 : List UInt8 := dkwX1_said_2 ++ dktX1_said_3
def dkwX1_said_1 : List UInt8 := [180, 0, 213, 162, 0, 36, 42, 180, 0, 203, 42, 29, 185, 1, 199, 3, 0, 154, 0, 6, 167, 0, 13, 28]
abbrev dktX1_said_1 : List UInt8 := dkwX1_said_1 ++ dktX1_said_2
def dkwX1_said_0 : List UInt8 := [42, 180, 0, 203, 198, 0, 8, 27, 2, 162, 0, 5, 2, 172, 3, 61, 3, 62, 29, 42, 180, 0, 91]
abbrev dktX1_said_0 : List UInt8 := dkwX1_said_0 ++ dktX1_said_1
theorem dksX1_said_0 : cX1_said.data.toList.drop 0 = dktX1_said_0 := by decide +kernel
theorem dksX1_said_1 : cX1_said.data.toList.drop 23 = dktX1_said_1 := dk_seg dksX1_said_0 23 rfl rfl
theorem dksX1_said_2 : cX1_said.data.toList.drop 47 = dktX1_said_2 := dk_seg dksX1_said_1 24 rfl rfl
theorem dksX1_said_3 : cX1_said.data.toList.drop 71 = dktX1_said_3 := dk_seg dksX1_said_2 24 rfl rfl
theorem dX1_said_0 : decode cX1_said 0 = .ok (.aload_n 0, 1) := dk_42 (dk_at dksX1_said_0 0 rfl rfl)
theorem dX1_said_1 : decode cX1_said 1 = .ok (.getfield 203, 3) := dk_180 0 203 (dk_at dksX1_said_0 1 rfl rfl)
theorem dX1_said_4 : decode cX1_said 4 = .ok (.ifnull 8, 3) := dk_198 0 8 (dk_at dksX1_said_0 4 rfl rfl)
theorem dX1_said_7 : decode cX1_said 7 = .ok (.iload_n 1, 1) := dk_27 (dk_at dksX1_said_0 7 rfl rfl)
theorem dX1_said_8 : decode cX1_said 8 = .ok (.iconst (-1), 1) := dk_2 (dk_at dksX1_said_0 8 rfl rfl)
theorem dX1_said_9 : decode cX1_said 9 = .ok (.if_icmp .ge 5, 3) := dk_162 0 5 (dk_at dksX1_said_0 9 rfl rfl)
theorem dX1_said_12 : decode cX1_said 12 = .ok (.iconst (-1), 1) := dk_2 (dk_at dksX1_said_0 12 rfl rfl)
theorem dX1_said_13 : decode cX1_said 13 = .ok (.ireturn, 1) := dk_172 (dk_at dksX1_said_0 13 rfl rfl)
theorem dX1_said_14 : decode cX1_said 14 = .ok (.iconst 0, 1) := dk_3 (dk_at dksX1_said_0 14 rfl rfl)
theorem dX1_said_15 : decode cX1_said 15 = .ok (.istore_n 2, 1) := dk_61 (dk_at dksX1_said_0 15 rfl rfl)
theorem dX1_said_16 : decode cX1_said 16 = .ok (.iconst 0, 1) := dk_3 (dk_at dksX1_said_0 16 rfl rfl)
theorem dX1_said_17 : decode cX1_said 17 = .ok (.istore_n 3, 1) := dk_62 (dk_at dksX1_said_0 17 rfl rfl)
theorem dX1_said_18 : decode cX1_said 18 = .ok (.iload_n 3, 1) := dk_29 (dk_at dksX1_said_0 18 rfl rfl)
theorem dX1_said_19 : decode cX1_said 19 = .ok (.aload_n 0, 1) := dk_42 (dk_at dksX1_said_0 19 rfl rfl)
theorem dX1_said_20 : decode cX1_said 20 = .ok (.getfield 91, 3) := dk_180 0 91 (dk_at dksX1_said_0 20 rfl rfl)
theorem dX1_said_23 : decode cX1_said 23 = .ok (.getfield 213, 3) := dk_180 0 213 (dk_at dksX1_said_1 0 rfl rfl)
theorem dX1_said_26 : decode cX1_said 26 = .ok (.if_icmp .ge 36, 3) := dk_162 0 36 (dk_at dksX1_said_1 3 rfl rfl)
theorem dX1_said_29 : decode cX1_said 29 = .ok (.aload_n 0, 1) := dk_42 (dk_at dksX1_said_1 6 rfl rfl)
theorem dX1_said_30 : decode cX1_said 30 = .ok (.getfield 203, 3) := dk_180 0 203 (dk_at dksX1_said_1 7 rfl rfl)
theorem dX1_said_33 : decode cX1_said 33 = .ok (.aload_n 0, 1) := dk_42 (dk_at dksX1_said_1 10 rfl rfl)
theorem dX1_said_34 : decode cX1_said 34 = .ok (.iload_n 3, 1) := dk_29 (dk_at dksX1_said_1 11 rfl rfl)
theorem dX1_said_35 : decode cX1_said 35 = .ok (.invokeinterface 455 3, 5) := by decide +kernel
theorem dX1_said_40 : decode cX1_said 40 = .ok (.ifCond .ne 6, 3) := dk_154 0 6 (dk_at dksX1_said_1 17 rfl rfl)
theorem dX1_said_43 : decode cX1_said 43 = .ok (.goto 13, 3) := dk_167 0 13 (dk_at dksX1_said_1 20 rfl rfl)
theorem dX1_said_46 : decode cX1_said 46 = .ok (.iload_n 2, 1) := dk_28 (dk_at dksX1_said_1 23 rfl rfl)
theorem dX1_said_47 : decode cX1_said 47 = .ok (.iload_n 1, 1) := dk_27 (dk_at dksX1_said_2 0 rfl rfl)
theorem dX1_said_48 : decode cX1_said 48 = .ok (.if_icmp .ne 5, 3) := dk_160 0 5 (dk_at dksX1_said_2 1 rfl rfl)
theorem dX1_said_51 : decode cX1_said 51 = .ok (.iload_n 3, 1) := dk_29 (dk_at dksX1_said_2 4 rfl rfl)
theorem dX1_said_52 : decode cX1_said 52 = .ok (.ireturn, 1) := dk_172 (dk_at dksX1_said_2 5 rfl rfl)
theorem dX1_said_53 : decode cX1_said 53 = .ok (.iinc 2 1, 3) := dk_132 2 1 (dk_at dksX1_said_2 6 rfl rfl)
theorem dX1_said_56 : decode cX1_said 56 = .ok (.iinc 3 1, 3) := dk_132 3 1 (dk_at dksX1_said_2 9 rfl rfl)
theorem dX1_said_59 : decode cX1_said 59 = .ok (.goto (-41), 3) := dk_167 255 215 (dk_at dksX1_said_2 12 rfl rfl)
theorem dX1_said_62 : decode cX1_said 62 = .ok (.iload_n 1, 1) := dk_27 (dk_at dksX1_said_2 15 rfl rfl)
theorem dX1_said_63 : decode cX1_said 63 = .ok (.iconst (-1), 1) := dk_2 (dk_at dksX1_said_2 16 rfl rfl)
theorem dX1_said_64 : decode cX1_said 64 = .ok (.if_icmp .ne 7, 3) := dk_160 0 7 (dk_at dksX1_said_2 17 rfl rfl)
theorem dX1_said_67 : decode cX1_said 67 = .ok (.iload_n 2, 1) := dk_28 (dk_at dksX1_said_2 20 rfl rfl)
theorem dX1_said_68 : decode cX1_said 68 = .ok (.goto 4, 3) := dk_167 0 4 (dk_at dksX1_said_2 21 rfl rfl)
theorem dX1_said_71 : decode cX1_said 71 = .ok (.iconst (-1), 1) := dk_2 (dk_at dksX1_said_3 0 rfl rfl)
theorem dX1_said_72 : decode cX1_said 72 = .ok (.ireturn, 1) := dk_172 (dk_at dksX1_said_3 1 rfl rfl)
abbrev cX1_image : ByteArray := prog_1_method_56_code
def yX1_image : MethodName := ⟨RX1, "image", "(I)Z"⟩
def dkwX1_image_2 : List UInt8 := [44, 180, 1, 207, 42, 180, 0, 98, 182, 1, 30, 44, 42, 180, 0, 203, 181, 1, 210, 4, 172]
abbrev dktX1_image_2 : List UInt8 := dkwX1_image_2 ++ []
def dkwX1_image_1 : List UInt8 := [27, 187, 0, 171, 89, 183, 1, 205, 83, 42, 180, 0, 173, 27, 50, 77, 44, 42, 180, 0, 91, 181, 1, 206]
abbrev dktX1_image_1 : List UInt8 := dkwX1_image_1 ++ dktX1_image_2
def dkwX1_image_0 : List UInt8 := [27, 3, 4, 184, 0, 216, 154, 0, 5, 3, 172, 42, 180, 0, 173, 27, 50, 199, 0, 16, 42, 180, 0, 173]
abbrev dktX1_image_0 : List UInt8 := dkwX1_image_0 ++ dktX1_image_1
theorem dksX1_image_0 : cX1_image.data.toList.drop 0 = dktX1_image_0 := by decide +kernel
theorem dksX1_image_1 : cX1_image.data.toList.drop 24 = dktX1_image_1 := dk_seg dksX1_image_0 24 rfl rfl
theorem dksX1_image_2 : cX1_image.data.toList.drop 48 = dktX1_image_2 := dk_seg dksX1_image_1 24 rfl rfl
theorem dX1_image_0 : decode cX1_image 0 = .ok (.iload_n 1, 1) := dk_27 (dk_at dksX1_image_0 0 rfl rfl)
theorem dX1_image_1 : decode cX1_image 1 = .ok (.iconst 0, 1) := dk_3 (dk_at dksX1_image_0 1 rfl rfl)
theorem dX1_image_2 : decode cX1_image 2 = .ok (.iconst 1, 1) := dk_4 (dk_at dksX1_image_0 2 rfl rfl)
theorem dX1_image_3 : decode cX1_image 3 = .ok (.invokestatic 216, 3) := dk_184 0 216 (dk_at dksX1_image_0 3 rfl rfl)
theorem dX1_image_6 : decode cX1_image 6 = .ok (.ifCond .ne 5, 3) := dk_154 0 5 (dk_at dksX1_image_0 6 rfl rfl)
theorem dX1_image_9 : decode cX1_image 9 = .ok (.iconst 0, 1) := dk_3 (dk_at dksX1_image_0 9 rfl rfl)
theorem dX1_image_10 : decode cX1_image 10 = .ok (.ireturn, 1) := dk_172 (dk_at dksX1_image_0 10 rfl rfl)
theorem dX1_image_11 : decode cX1_image 11 = .ok (.aload_n 0, 1) := dk_42 (dk_at dksX1_image_0 11 rfl rfl)
theorem dX1_image_12 : decode cX1_image 12 = .ok (.getfield 173, 3) := dk_180 0 173 (dk_at dksX1_image_0 12 rfl rfl)
theorem dX1_image_15 : decode cX1_image 15 = .ok (.iload_n 1, 1) := dk_27 (dk_at dksX1_image_0 15 rfl rfl)
theorem dX1_image_16 : decode cX1_image 16 = .ok (.aaload, 1) := dk_50 (dk_at dksX1_image_0 16 rfl rfl)
theorem dX1_image_17 : decode cX1_image 17 = .ok (.ifnonnull 16, 3) := dk_199 0 16 (dk_at dksX1_image_0 17 rfl rfl)
theorem dX1_image_20 : decode cX1_image 20 = .ok (.aload_n 0, 1) := dk_42 (dk_at dksX1_image_0 20 rfl rfl)
theorem dX1_image_21 : decode cX1_image 21 = .ok (.getfield 173, 3) := dk_180 0 173 (dk_at dksX1_image_0 21 rfl rfl)
theorem dX1_image_24 : decode cX1_image 24 = .ok (.iload_n 1, 1) := dk_27 (dk_at dksX1_image_1 0 rfl rfl)
theorem dX1_image_25 : decode cX1_image 25 = .ok (.new 171, 3) := dk_187 0 171 (dk_at dksX1_image_1 1 rfl rfl)
theorem dX1_image_28 : decode cX1_image 28 = .ok (.dup, 1) := dk_89 (dk_at dksX1_image_1 4 rfl rfl)
theorem dX1_image_29 : decode cX1_image 29 = .ok (.invokespecial 461, 3) := dk_183 1 205 (dk_at dksX1_image_1 5 rfl rfl)
theorem dX1_image_32 : decode cX1_image 32 = .ok (.aastore, 1) := dk_83 (dk_at dksX1_image_1 8 rfl rfl)
theorem dX1_image_33 : decode cX1_image 33 = .ok (.aload_n 0, 1) := dk_42 (dk_at dksX1_image_1 9 rfl rfl)
theorem dX1_image_34 : decode cX1_image 34 = .ok (.getfield 173, 3) := dk_180 0 173 (dk_at dksX1_image_1 10 rfl rfl)
theorem dX1_image_37 : decode cX1_image 37 = .ok (.iload_n 1, 1) := dk_27 (dk_at dksX1_image_1 13 rfl rfl)
theorem dX1_image_38 : decode cX1_image 38 = .ok (.aaload, 1) := dk_50 (dk_at dksX1_image_1 14 rfl rfl)
theorem dX1_image_39 : decode cX1_image 39 = .ok (.astore_n 2, 1) := dk_77 (dk_at dksX1_image_1 15 rfl rfl)
theorem dX1_image_40 : decode cX1_image 40 = .ok (.aload_n 2, 1) := dk_44 (dk_at dksX1_image_1 16 rfl rfl)
theorem dX1_image_41 : decode cX1_image 41 = .ok (.aload_n 0, 1) := dk_42 (dk_at dksX1_image_1 17 rfl rfl)
theorem dX1_image_42 : decode cX1_image 42 = .ok (.getfield 91, 3) := dk_180 0 91 (dk_at dksX1_image_1 18 rfl rfl)
theorem dX1_image_45 : decode cX1_image 45 = .ok (.putfield 462, 3) := dk_181 1 206 (dk_at dksX1_image_1 21 rfl rfl)
theorem dX1_image_48 : decode cX1_image 48 = .ok (.aload_n 2, 1) := dk_44 (dk_at dksX1_image_2 0 rfl rfl)
theorem dX1_image_49 : decode cX1_image 49 = .ok (.getfield 463, 3) := dk_180 1 207 (dk_at dksX1_image_2 1 rfl rfl)
theorem dX1_image_52 : decode cX1_image 52 = .ok (.aload_n 0, 1) := dk_42 (dk_at dksX1_image_2 4 rfl rfl)
theorem dX1_image_53 : decode cX1_image 53 = .ok (.getfield 98, 3) := dk_180 0 98 (dk_at dksX1_image_2 5 rfl rfl)
theorem dX1_image_56 : decode cX1_image 56 = .ok (.invokevirtual 286, 3) := dk_182 1 30 (dk_at dksX1_image_2 8 rfl rfl)
theorem dX1_image_59 : decode cX1_image 59 = .ok (.aload_n 2, 1) := dk_44 (dk_at dksX1_image_2 11 rfl rfl)
theorem dX1_image_60 : decode cX1_image 60 = .ok (.aload_n 0, 1) := dk_42 (dk_at dksX1_image_2 12 rfl rfl)
theorem dX1_image_61 : decode cX1_image 61 = .ok (.getfield 203, 3) := dk_180 0 203 (dk_at dksX1_image_2 13 rfl rfl)
theorem dX1_image_64 : decode cX1_image 64 = .ok (.putfield 466, 3) := dk_181 1 210 (dk_at dksX1_image_2 16 rfl rfl)
theorem dX1_image_67 : decode cX1_image 67 = .ok (.iconst 1, 1) := dk_4 (dk_at dksX1_image_2 19 rfl rfl)
theorem dX1_image_68 : decode cX1_image 68 = .ok (.ireturn, 1) := dk_172 (dk_at dksX1_image_2 20 rfl rfl)
abbrev cX1_restore : ByteArray := prog_1_method_57_code
def yX1_restore : MethodName := ⟨RX1, "restore", "(I)Z"⟩
def dkwX1_restore_2 : List UInt8 := [180, 1, 210, 181, 0, 203, 42, 3, 181, 0, 200, 4, 172]
abbrev dktX1_restore_2 : List UInt8 := dkwX1_restore_2 ++ []
def dkwX1_restore_1 : List UInt8 := [27, 50, 77, 42, 44, 180, 1, 206, 181, 0, 91, 42, 180, 0, 98, 44, 180, 1, 207, 182, 1, 30, 42, 44]
abbrev dktX1_restore_1 : List UInt8 := dkwX1_restore_1 ++ dktX1_restore_2
def dkwX1_restore_0 : List UInt8 := [27, 3, 4, 184, 0, 216, 153, 0, 12, 42, 180, 0, 173, 27, 50, 199, 0, 5, 3, 172, 42, 180, 0, 173]
abbrev dktX1_restore_0 : List UInt8 := dkwX1_restore_0 ++ dktX1_restore_1
theorem dksX1_restore_0 : cX1_restore.data.toList.drop 0 = dktX1_restore_0 := by decide +kernel
theorem dksX1_restore_1 : cX1_restore.data.toList.drop 24 = dktX1_restore_1 := dk_seg dksX1_restore_0 24 rfl rfl
theorem dksX1_restore_2 : cX1_restore.data.toList.drop 48 = dktX1_restore_2 := dk_seg dksX1_restore_1 24 rfl rfl
theorem dX1_restore_0 : decode cX1_restore 0 = .ok (.iload_n 1, 1) := dk_27 (dk_at dksX1_restore_0 0 rfl rfl)
theorem dX1_restore_1 : decode cX1_restore 1 = .ok (.iconst 0, 1) := dk_3 (dk_at dksX1_restore_0 1 rfl rfl)
theorem dX1_restore_2 : decode cX1_restore 2 = .ok (.iconst 1, 1) := dk_4 (dk_at dksX1_restore_0 2 rfl rfl)
theorem dX1_restore_3 : decode cX1_restore 3 = .ok (.invokestatic 216, 3) := dk_184 0 216 (dk_at dksX1_restore_0 3 rfl rfl)
theorem dX1_restore_6 : decode cX1_restore 6 = .ok (.ifCond .eq 12, 3) := dk_153 0 12 (dk_at dksX1_restore_0 6 rfl rfl)
theorem dX1_restore_9 : decode cX1_restore 9 = .ok (.aload_n 0, 1) := dk_42 (dk_at dksX1_restore_0 9 rfl rfl)
theorem dX1_restore_10 : decode cX1_restore 10 = .ok (.getfield 173, 3) := dk_180 0 173 (dk_at dksX1_restore_0 10 rfl rfl)
theorem dX1_restore_13 : decode cX1_restore 13 = .ok (.iload_n 1, 1) := dk_27 (dk_at dksX1_restore_0 13 rfl rfl)
theorem dX1_restore_14 : decode cX1_restore 14 = .ok (.aaload, 1) := dk_50 (dk_at dksX1_restore_0 14 rfl rfl)
theorem dX1_restore_15 : decode cX1_restore 15 = .ok (.ifnonnull 5, 3) := dk_199 0 5 (dk_at dksX1_restore_0 15 rfl rfl)
theorem dX1_restore_18 : decode cX1_restore 18 = .ok (.iconst 0, 1) := dk_3 (dk_at dksX1_restore_0 18 rfl rfl)
theorem dX1_restore_19 : decode cX1_restore 19 = .ok (.ireturn, 1) := dk_172 (dk_at dksX1_restore_0 19 rfl rfl)
theorem dX1_restore_20 : decode cX1_restore 20 = .ok (.aload_n 0, 1) := dk_42 (dk_at dksX1_restore_0 20 rfl rfl)
theorem dX1_restore_21 : decode cX1_restore 21 = .ok (.getfield 173, 3) := dk_180 0 173 (dk_at dksX1_restore_0 21 rfl rfl)
theorem dX1_restore_24 : decode cX1_restore 24 = .ok (.iload_n 1, 1) := dk_27 (dk_at dksX1_restore_1 0 rfl rfl)
theorem dX1_restore_25 : decode cX1_restore 25 = .ok (.aaload, 1) := dk_50 (dk_at dksX1_restore_1 1 rfl rfl)
theorem dX1_restore_26 : decode cX1_restore 26 = .ok (.astore_n 2, 1) := dk_77 (dk_at dksX1_restore_1 2 rfl rfl)
theorem dX1_restore_27 : decode cX1_restore 27 = .ok (.aload_n 0, 1) := dk_42 (dk_at dksX1_restore_1 3 rfl rfl)
theorem dX1_restore_28 : decode cX1_restore 28 = .ok (.aload_n 2, 1) := dk_44 (dk_at dksX1_restore_1 4 rfl rfl)
theorem dX1_restore_29 : decode cX1_restore 29 = .ok (.getfield 462, 3) := dk_180 1 206 (dk_at dksX1_restore_1 5 rfl rfl)
theorem dX1_restore_32 : decode cX1_restore 32 = .ok (.putfield 91, 3) := dk_181 0 91 (dk_at dksX1_restore_1 8 rfl rfl)
theorem dX1_restore_35 : decode cX1_restore 35 = .ok (.aload_n 0, 1) := dk_42 (dk_at dksX1_restore_1 11 rfl rfl)
theorem dX1_restore_36 : decode cX1_restore 36 = .ok (.getfield 98, 3) := dk_180 0 98 (dk_at dksX1_restore_1 12 rfl rfl)
theorem dX1_restore_39 : decode cX1_restore 39 = .ok (.aload_n 2, 1) := dk_44 (dk_at dksX1_restore_1 15 rfl rfl)
theorem dX1_restore_40 : decode cX1_restore 40 = .ok (.getfield 463, 3) := dk_180 1 207 (dk_at dksX1_restore_1 16 rfl rfl)
theorem dX1_restore_43 : decode cX1_restore 43 = .ok (.invokevirtual 286, 3) := dk_182 1 30 (dk_at dksX1_restore_1 19 rfl rfl)
theorem dX1_restore_46 : decode cX1_restore 46 = .ok (.aload_n 0, 1) := dk_42 (dk_at dksX1_restore_1 22 rfl rfl)
theorem dX1_restore_47 : decode cX1_restore 47 = .ok (.aload_n 2, 1) := dk_44 (dk_at dksX1_restore_1 23 rfl rfl)
theorem dX1_restore_48 : decode cX1_restore 48 = .ok (.getfield 466, 3) := dk_180 1 210 (dk_at dksX1_restore_2 0 rfl rfl)
theorem dX1_restore_51 : decode cX1_restore 51 = .ok (.putfield 203, 3) := dk_181 0 203 (dk_at dksX1_restore_2 3 rfl rfl)
theorem dX1_restore_54 : decode cX1_restore 54 = .ok (.aload_n 0, 1) := dk_42 (dk_at dksX1_restore_2 6 rfl rfl)
theorem dX1_restore_55 : decode cX1_restore 55 = .ok (.iconst 0, 1) := dk_3 (dk_at dksX1_restore_2 7 rfl rfl)
theorem dX1_restore_56 : decode cX1_restore 56 = .ok (.putfield 200, 3) := dk_181 0 200 (dk_at dksX1_restore_2 8 rfl rfl)
theorem dX1_restore_59 : decode cX1_restore 59 = .ok (.iconst 1, 1) := dk_4 (dk_at dksX1_restore_2 11 rfl rfl)
theorem dX1_restore_60 : decode cX1_restore 60 = .ok (.ireturn, 1) := dk_172 (dk_at dksX1_restore_2 12 rfl rfl)
abbrev cX1_count : ByteArray := prog_1_method_58_code
def yX1_count : MethodName := ⟨RX1, "count", "(I)I"⟩
def dkwX1_count_3 : List UInt8 := [42, 180, 0, 91, 180, 1, 213, 172, 42, 180, 0, 177, 172, 2, 172]
abbrev dktX1_count_3 : List UInt8 := dkwX1_count_3 ++ []
def dkwX1_count_2 : List UInt8 := [42, 180, 0, 91, 180, 0, 213, 172, 42, 180, 0, 91, 180, 0, 220, 172, 42, 180, 0, 91, 180, 1, 211, 172]
abbrev dktX1_count_2 : List UInt8 := dkwX1_count_2 ++ dktX1_count_3
def dkwX1_count_1 : List UInt8 := [170, 0, 0, 0, 0, 0, 72, 0, 0, 0, 0, 0, 0, 0, 4, 0, 0, 0, 35, 0, 0, 0, 43, 0, 0, 0, 51, 0, 0, 0, 59, 0, 0, 0, 67]
abbrev dktX1_count_1 : List UInt8 := dkwX1_count_1 ++ dktX1_count_2
def dkwX1_count_0 : List UInt8 := [27]
abbrev dktX1_count_0 : List UInt8 := dkwX1_count_0 ++ dktX1_count_1
theorem dksX1_count_0 : cX1_count.data.toList.drop 0 = dktX1_count_0 := by decide +kernel
theorem dksX1_count_1 : cX1_count.data.toList.drop 1 = dktX1_count_1 := dk_seg dksX1_count_0 1 rfl rfl
theorem dksX1_count_2 : cX1_count.data.toList.drop 36 = dktX1_count_2 := dk_seg dksX1_count_1 35 rfl rfl
theorem dksX1_count_3 : cX1_count.data.toList.drop 60 = dktX1_count_3 := dk_seg dksX1_count_2 24 rfl rfl
theorem dX1_count_0 : decode cX1_count 0 = .ok (.iload_n 1, 1) := dk_27 (dk_at dksX1_count_0 0 rfl rfl)
theorem dX1_count_1 : decode cX1_count 1 = .ok (.tableswitch 72 0 4 #[35, 43, 51, 59, 67], 35) := by decide +kernel
theorem dX1_count_36 : decode cX1_count 36 = .ok (.aload_n 0, 1) := dk_42 (dk_at dksX1_count_2 0 rfl rfl)
theorem dX1_count_37 : decode cX1_count 37 = .ok (.getfield 91, 3) := dk_180 0 91 (dk_at dksX1_count_2 1 rfl rfl)
theorem dX1_count_40 : decode cX1_count 40 = .ok (.getfield 213, 3) := dk_180 0 213 (dk_at dksX1_count_2 4 rfl rfl)
theorem dX1_count_43 : decode cX1_count 43 = .ok (.ireturn, 1) := dk_172 (dk_at dksX1_count_2 7 rfl rfl)
theorem dX1_count_44 : decode cX1_count 44 = .ok (.aload_n 0, 1) := dk_42 (dk_at dksX1_count_2 8 rfl rfl)
theorem dX1_count_45 : decode cX1_count 45 = .ok (.getfield 91, 3) := dk_180 0 91 (dk_at dksX1_count_2 9 rfl rfl)
theorem dX1_count_48 : decode cX1_count 48 = .ok (.getfield 220, 3) := dk_180 0 220 (dk_at dksX1_count_2 12 rfl rfl)
theorem dX1_count_51 : decode cX1_count 51 = .ok (.ireturn, 1) := dk_172 (dk_at dksX1_count_2 15 rfl rfl)
theorem dX1_count_52 : decode cX1_count 52 = .ok (.aload_n 0, 1) := dk_42 (dk_at dksX1_count_2 16 rfl rfl)
theorem dX1_count_53 : decode cX1_count 53 = .ok (.getfield 91, 3) := dk_180 0 91 (dk_at dksX1_count_2 17 rfl rfl)
theorem dX1_count_56 : decode cX1_count 56 = .ok (.getfield 467, 3) := dk_180 1 211 (dk_at dksX1_count_2 20 rfl rfl)
theorem dX1_count_59 : decode cX1_count 59 = .ok (.ireturn, 1) := dk_172 (dk_at dksX1_count_2 23 rfl rfl)
theorem dX1_count_60 : decode cX1_count 60 = .ok (.aload_n 0, 1) := dk_42 (dk_at dksX1_count_3 0 rfl rfl)
theorem dX1_count_61 : decode cX1_count 61 = .ok (.getfield 91, 3) := dk_180 0 91 (dk_at dksX1_count_3 1 rfl rfl)
theorem dX1_count_64 : decode cX1_count 64 = .ok (.getfield 469, 3) := dk_180 1 213 (dk_at dksX1_count_3 4 rfl rfl)
theorem dX1_count_67 : decode cX1_count 67 = .ok (.ireturn, 1) := dk_172 (dk_at dksX1_count_3 7 rfl rfl)
theorem dX1_count_68 : decode cX1_count 68 = .ok (.aload_n 0, 1) := dk_42 (dk_at dksX1_count_3 8 rfl rfl)
theorem dX1_count_69 : decode cX1_count 69 = .ok (.getfield 177, 3) := dk_180 0 177 (dk_at dksX1_count_3 9 rfl rfl)
theorem dX1_count_72 : decode cX1_count 72 = .ok (.ireturn, 1) := dk_172 (dk_at dksX1_count_3 12 rfl rfl)
theorem dX1_count_73 : decode cX1_count 73 = .ok (.iconst (-1), 1) := dk_2 (dk_at dksX1_count_3 13 rfl rfl)
theorem dX1_count_74 : decode cX1_count 74 = .ok (.ireturn, 1) := dk_172 (dk_at dksX1_count_3 14 rfl rfl)
abbrev cX1_person : ByteArray := prog_1_method_14_code
def yX1_person : MethodName := ⟨RX1, "person", "(II)I"⟩
def dkwX1_person_7 : List UInt8 := [172, 42, 180, 0, 91, 27, 182, 0, 254, 172]
abbrev dktX1_person_7 : List UInt8 := dkwX1_person_7 ++ []
def dkwX1_person_6 : List UInt8 := [180, 0, 246, 27, 46, 172, 42, 180, 0, 98, 180, 0, 248, 27, 46, 172, 42, 180, 0, 98, 27, 182, 0, 250]
abbrev dktX1_person_6 : List UInt8 := dkwX1_person_6 ++ dktX1_person_7
def dkwX1_person_5 : List UInt8 := [153, 0, 7, 4, 167, 0, 4, 3, 172, 42, 180, 0, 98, 180, 0, 244, 27, 46, 172, 42, 180, 0, 98]
abbrev dktX1_person_5 : List UInt8 := dkwX1_person_5 ++ dktX1_person_6
def dkwX1_person_4 : List UInt8 := [27, 182, 0, 236, 153, 0, 7, 4, 167, 0, 4, 3, 172, 42, 180, 0, 98, 180, 0, 239, 27, 184, 0, 241]
abbrev dktX1_person_4 : List UInt8 := dkwX1_person_4 ++ dktX1_person_5
def dkwX1_person_3 : List UInt8 := [42, 180, 0, 91, 180, 0, 231, 27, 46, 172, 42, 180, 0, 91, 180, 0, 233, 27, 46, 172, 42, 180, 0, 98]
abbrev dktX1_person_3 : List UInt8 := dkwX1_person_3 ++ dktX1_person_4
def dkwX1_person_2 : List UInt8 := [170, 0, 0, 0, 141, 0, 0, 0, 0, 0, 0, 0, 7, 0, 0, 0, 45, 0, 0, 0, 55, 0, 0, 0, 65, 0, 0, 0, 82, 0, 0, 0, 102, 0, 0, 0, 112, 0, 0, 0, 122, 0, 0, 0, 132]
abbrev dktX1_person_2 : List UInt8 := dkwX1_person_2 ++ dktX1_person_3
def dkwX1_person_1 : List UInt8 := [184, 0, 227, 28]
abbrev dktX1_person_1 : List UInt8 := dkwX1_person_1 ++ dktX1_person_2
def dkwX1_person_0 : List UInt8 := [42, 27, 182, 0, 223, 153, 0, 17, 28, 3, 16, 8, 184, 0, 216, 153, 0, 7, 4, 167, 0, 4, 3]
abbrev dktX1_person_0 : List UInt8 := dkwX1_person_0 ++ dktX1_person_1
theorem dksX1_person_0 : cX1_person.data.toList.drop 0 = dktX1_person_0 := by decide +kernel
theorem dksX1_person_1 : cX1_person.data.toList.drop 23 = dktX1_person_1 := dk_seg dksX1_person_0 23 rfl rfl
theorem dksX1_person_2 : cX1_person.data.toList.drop 27 = dktX1_person_2 := dk_seg dksX1_person_1 4 rfl rfl
theorem dksX1_person_3 : cX1_person.data.toList.drop 72 = dktX1_person_3 := dk_seg dksX1_person_2 45 rfl rfl
theorem dksX1_person_4 : cX1_person.data.toList.drop 96 = dktX1_person_4 := dk_seg dksX1_person_3 24 rfl rfl
theorem dksX1_person_5 : cX1_person.data.toList.drop 120 = dktX1_person_5 := dk_seg dksX1_person_4 24 rfl rfl
theorem dksX1_person_6 : cX1_person.data.toList.drop 143 = dktX1_person_6 := dk_seg dksX1_person_5 23 rfl rfl
theorem dksX1_person_7 : cX1_person.data.toList.drop 167 = dktX1_person_7 := dk_seg dksX1_person_6 24 rfl rfl
theorem dX1_person_0 : decode cX1_person 0 = .ok (.aload_n 0, 1) := dk_42 (dk_at dksX1_person_0 0 rfl rfl)
theorem dX1_person_1 : decode cX1_person 1 = .ok (.iload_n 1, 1) := dk_27 (dk_at dksX1_person_0 1 rfl rfl)
theorem dX1_person_2 : decode cX1_person 2 = .ok (.invokevirtual 223, 3) := dk_182 0 223 (dk_at dksX1_person_0 2 rfl rfl)
theorem dX1_person_5 : decode cX1_person 5 = .ok (.ifCond .eq 17, 3) := dk_153 0 17 (dk_at dksX1_person_0 5 rfl rfl)
theorem dX1_person_8 : decode cX1_person 8 = .ok (.iload_n 2, 1) := dk_28 (dk_at dksX1_person_0 8 rfl rfl)
theorem dX1_person_9 : decode cX1_person 9 = .ok (.iconst 0, 1) := dk_3 (dk_at dksX1_person_0 9 rfl rfl)
theorem dX1_person_10 : decode cX1_person 10 = .ok (.bipush 8, 2) := dk_16 8 (dk_at dksX1_person_0 10 rfl rfl)
theorem dX1_person_12 : decode cX1_person 12 = .ok (.invokestatic 216, 3) := dk_184 0 216 (dk_at dksX1_person_0 12 rfl rfl)
theorem dX1_person_15 : decode cX1_person 15 = .ok (.ifCond .eq 7, 3) := dk_153 0 7 (dk_at dksX1_person_0 15 rfl rfl)
theorem dX1_person_18 : decode cX1_person 18 = .ok (.iconst 1, 1) := dk_4 (dk_at dksX1_person_0 18 rfl rfl)
theorem dX1_person_19 : decode cX1_person 19 = .ok (.goto 4, 3) := dk_167 0 4 (dk_at dksX1_person_0 19 rfl rfl)
theorem dX1_person_22 : decode cX1_person 22 = .ok (.iconst 0, 1) := dk_3 (dk_at dksX1_person_0 22 rfl rfl)
theorem dX1_person_23 : decode cX1_person 23 = .ok (.invokestatic 227, 3) := dk_184 0 227 (dk_at dksX1_person_1 0 rfl rfl)
theorem dX1_person_26 : decode cX1_person 26 = .ok (.iload_n 2, 1) := dk_28 (dk_at dksX1_person_1 3 rfl rfl)
theorem dX1_person_27 : decode cX1_person 27 = .ok (.tableswitch 141 0 7 #[45, 55, 65, 82, 102, 112, 122, 132], 45) := by decide +kernel
theorem dX1_person_72 : decode cX1_person 72 = .ok (.aload_n 0, 1) := dk_42 (dk_at dksX1_person_3 0 rfl rfl)
theorem dX1_person_73 : decode cX1_person 73 = .ok (.getfield 91, 3) := dk_180 0 91 (dk_at dksX1_person_3 1 rfl rfl)
theorem dX1_person_76 : decode cX1_person 76 = .ok (.getfield 231, 3) := dk_180 0 231 (dk_at dksX1_person_3 4 rfl rfl)
theorem dX1_person_79 : decode cX1_person 79 = .ok (.iload_n 1, 1) := dk_27 (dk_at dksX1_person_3 7 rfl rfl)
theorem dX1_person_80 : decode cX1_person 80 = .ok (.iaload, 1) := dk_46 (dk_at dksX1_person_3 8 rfl rfl)
theorem dX1_person_81 : decode cX1_person 81 = .ok (.ireturn, 1) := dk_172 (dk_at dksX1_person_3 9 rfl rfl)
theorem dX1_person_82 : decode cX1_person 82 = .ok (.aload_n 0, 1) := dk_42 (dk_at dksX1_person_3 10 rfl rfl)
theorem dX1_person_83 : decode cX1_person 83 = .ok (.getfield 91, 3) := dk_180 0 91 (dk_at dksX1_person_3 11 rfl rfl)
theorem dX1_person_86 : decode cX1_person 86 = .ok (.getfield 233, 3) := dk_180 0 233 (dk_at dksX1_person_3 14 rfl rfl)
theorem dX1_person_89 : decode cX1_person 89 = .ok (.iload_n 1, 1) := dk_27 (dk_at dksX1_person_3 17 rfl rfl)
theorem dX1_person_90 : decode cX1_person 90 = .ok (.iaload, 1) := dk_46 (dk_at dksX1_person_3 18 rfl rfl)
theorem dX1_person_91 : decode cX1_person 91 = .ok (.ireturn, 1) := dk_172 (dk_at dksX1_person_3 19 rfl rfl)
theorem dX1_person_92 : decode cX1_person 92 = .ok (.aload_n 0, 1) := dk_42 (dk_at dksX1_person_3 20 rfl rfl)
theorem dX1_person_93 : decode cX1_person 93 = .ok (.getfield 98, 3) := dk_180 0 98 (dk_at dksX1_person_3 21 rfl rfl)
theorem dX1_person_96 : decode cX1_person 96 = .ok (.iload_n 1, 1) := dk_27 (dk_at dksX1_person_4 0 rfl rfl)
theorem dX1_person_97 : decode cX1_person 97 = .ok (.invokevirtual 236, 3) := dk_182 0 236 (dk_at dksX1_person_4 1 rfl rfl)
theorem dX1_person_100 : decode cX1_person 100 = .ok (.ifCond .eq 7, 3) := dk_153 0 7 (dk_at dksX1_person_4 4 rfl rfl)
theorem dX1_person_103 : decode cX1_person 103 = .ok (.iconst 1, 1) := dk_4 (dk_at dksX1_person_4 7 rfl rfl)
theorem dX1_person_104 : decode cX1_person 104 = .ok (.goto 4, 3) := dk_167 0 4 (dk_at dksX1_person_4 8 rfl rfl)
theorem dX1_person_107 : decode cX1_person 107 = .ok (.iconst 0, 1) := dk_3 (dk_at dksX1_person_4 11 rfl rfl)
theorem dX1_person_108 : decode cX1_person 108 = .ok (.ireturn, 1) := dk_172 (dk_at dksX1_person_4 12 rfl rfl)
theorem dX1_person_109 : decode cX1_person 109 = .ok (.aload_n 0, 1) := dk_42 (dk_at dksX1_person_4 13 rfl rfl)
theorem dX1_person_110 : decode cX1_person 110 = .ok (.getfield 98, 3) := dk_180 0 98 (dk_at dksX1_person_4 14 rfl rfl)
theorem dX1_person_113 : decode cX1_person 113 = .ok (.getfield 239, 3) := dk_180 0 239 (dk_at dksX1_person_4 17 rfl rfl)
theorem dX1_person_116 : decode cX1_person 116 = .ok (.iload_n 1, 1) := dk_27 (dk_at dksX1_person_4 20 rfl rfl)
theorem dX1_person_117 : decode cX1_person 117 = .ok (.invokestatic 241, 3) := dk_184 0 241 (dk_at dksX1_person_4 21 rfl rfl)
theorem dX1_person_120 : decode cX1_person 120 = .ok (.ifCond .eq 7, 3) := dk_153 0 7 (dk_at dksX1_person_5 0 rfl rfl)
theorem dX1_person_123 : decode cX1_person 123 = .ok (.iconst 1, 1) := dk_4 (dk_at dksX1_person_5 3 rfl rfl)
theorem dX1_person_124 : decode cX1_person 124 = .ok (.goto 4, 3) := dk_167 0 4 (dk_at dksX1_person_5 4 rfl rfl)
theorem dX1_person_127 : decode cX1_person 127 = .ok (.iconst 0, 1) := dk_3 (dk_at dksX1_person_5 7 rfl rfl)
theorem dX1_person_128 : decode cX1_person 128 = .ok (.ireturn, 1) := dk_172 (dk_at dksX1_person_5 8 rfl rfl)
theorem dX1_person_129 : decode cX1_person 129 = .ok (.aload_n 0, 1) := dk_42 (dk_at dksX1_person_5 9 rfl rfl)
theorem dX1_person_130 : decode cX1_person 130 = .ok (.getfield 98, 3) := dk_180 0 98 (dk_at dksX1_person_5 10 rfl rfl)
theorem dX1_person_133 : decode cX1_person 133 = .ok (.getfield 244, 3) := dk_180 0 244 (dk_at dksX1_person_5 13 rfl rfl)
theorem dX1_person_136 : decode cX1_person 136 = .ok (.iload_n 1, 1) := dk_27 (dk_at dksX1_person_5 16 rfl rfl)
theorem dX1_person_137 : decode cX1_person 137 = .ok (.iaload, 1) := dk_46 (dk_at dksX1_person_5 17 rfl rfl)
theorem dX1_person_138 : decode cX1_person 138 = .ok (.ireturn, 1) := dk_172 (dk_at dksX1_person_5 18 rfl rfl)
theorem dX1_person_139 : decode cX1_person 139 = .ok (.aload_n 0, 1) := dk_42 (dk_at dksX1_person_5 19 rfl rfl)
theorem dX1_person_140 : decode cX1_person 140 = .ok (.getfield 98, 3) := dk_180 0 98 (dk_at dksX1_person_5 20 rfl rfl)
theorem dX1_person_143 : decode cX1_person 143 = .ok (.getfield 246, 3) := dk_180 0 246 (dk_at dksX1_person_6 0 rfl rfl)
theorem dX1_person_146 : decode cX1_person 146 = .ok (.iload_n 1, 1) := dk_27 (dk_at dksX1_person_6 3 rfl rfl)
theorem dX1_person_147 : decode cX1_person 147 = .ok (.iaload, 1) := dk_46 (dk_at dksX1_person_6 4 rfl rfl)
theorem dX1_person_148 : decode cX1_person 148 = .ok (.ireturn, 1) := dk_172 (dk_at dksX1_person_6 5 rfl rfl)
theorem dX1_person_149 : decode cX1_person 149 = .ok (.aload_n 0, 1) := dk_42 (dk_at dksX1_person_6 6 rfl rfl)
theorem dX1_person_150 : decode cX1_person 150 = .ok (.getfield 98, 3) := dk_180 0 98 (dk_at dksX1_person_6 7 rfl rfl)
theorem dX1_person_153 : decode cX1_person 153 = .ok (.getfield 248, 3) := dk_180 0 248 (dk_at dksX1_person_6 10 rfl rfl)
theorem dX1_person_156 : decode cX1_person 156 = .ok (.iload_n 1, 1) := dk_27 (dk_at dksX1_person_6 13 rfl rfl)
theorem dX1_person_157 : decode cX1_person 157 = .ok (.iaload, 1) := dk_46 (dk_at dksX1_person_6 14 rfl rfl)
theorem dX1_person_158 : decode cX1_person 158 = .ok (.ireturn, 1) := dk_172 (dk_at dksX1_person_6 15 rfl rfl)
theorem dX1_person_159 : decode cX1_person 159 = .ok (.aload_n 0, 1) := dk_42 (dk_at dksX1_person_6 16 rfl rfl)
theorem dX1_person_160 : decode cX1_person 160 = .ok (.getfield 98, 3) := dk_180 0 98 (dk_at dksX1_person_6 17 rfl rfl)
theorem dX1_person_163 : decode cX1_person 163 = .ok (.iload_n 1, 1) := dk_27 (dk_at dksX1_person_6 20 rfl rfl)
theorem dX1_person_164 : decode cX1_person 164 = .ok (.invokevirtual 250, 3) := dk_182 0 250 (dk_at dksX1_person_6 21 rfl rfl)
theorem dX1_person_167 : decode cX1_person 167 = .ok (.ireturn, 1) := dk_172 (dk_at dksX1_person_7 0 rfl rfl)
theorem dX1_person_168 : decode cX1_person 168 = .ok (.aload_n 0, 1) := dk_42 (dk_at dksX1_person_7 1 rfl rfl)
theorem dX1_person_169 : decode cX1_person 169 = .ok (.getfield 91, 3) := dk_180 0 91 (dk_at dksX1_person_7 2 rfl rfl)
theorem dX1_person_172 : decode cX1_person 172 = .ok (.iload_n 1, 1) := dk_27 (dk_at dksX1_person_7 5 rfl rfl)
theorem dX1_person_173 : decode cX1_person 173 = .ok (.invokevirtual 254, 3) := dk_182 0 254 (dk_at dksX1_person_7 6 rfl rfl)
theorem dX1_person_176 : decode cX1_person 176 = .ok (.ireturn, 1) := dk_172 (dk_at dksX1_person_7 9 rfl rfl)
abbrev cX1_must : ByteArray := prog_1_method_8_code
def yX1_must : MethodName := ⟨RX1, "must", "(Z)V"⟩
def dkwX1_must_0 : List UInt8 := [26, 154, 0, 11, 187, 0, 187, 89, 183, 0, 189, 191, 177]
abbrev dktX1_must_0 : List UInt8 := dkwX1_must_0 ++ []
theorem dksX1_must_0 : cX1_must.data.toList.drop 0 = dktX1_must_0 := by decide +kernel
theorem dX1_must_0 : decode cX1_must 0 = .ok (.iload_n 0, 1) := dk_26 (dk_at dksX1_must_0 0 rfl rfl)
theorem dX1_must_1 : decode cX1_must 1 = .ok (.ifCond .ne 11, 3) := dk_154 0 11 (dk_at dksX1_must_0 1 rfl rfl)
theorem dX1_must_4 : decode cX1_must 4 = .ok (.new 187, 3) := dk_187 0 187 (dk_at dksX1_must_0 4 rfl rfl)
theorem dX1_must_7 : decode cX1_must 7 = .ok (.dup, 1) := dk_89 (dk_at dksX1_must_0 7 rfl rfl)
theorem dX1_must_8 : decode cX1_must 8 = .ok (.invokespecial 189, 3) := dk_183 0 189 (dk_at dksX1_must_0 8 rfl rfl)
theorem dX1_must_11 : decode cX1_must 11 = .ok (.athrow, 1) := dk_191 (dk_at dksX1_must_0 11 rfl rfl)
theorem dX1_must_12 : decode cX1_must 12 = .ok (.return_, 1) := dk_177 (dk_at dksX1_must_0 12 rfl rfl)
theorem q94 : (Jvm.Cond.initialized "SecondHelpings") ∈ lw_all := lw_g (lw_at lw_m1 1 rfl) rfl
theorem q131 : (Jvm.Cond.instantiable "SecondHelpings" (36 : Nat)) ∈ lw_all := lw_g (lw_at lw_m1 38 rfl) rfl
theorem q133 : (Jvm.Cond.instanceMethod ({ cls := "SecondHelpings", name := "<init>", desc := "()V" } : Jvm.MethodName)) ∈ lw_all := lw_g (lw_at lw_m1 40 rfl) rfl
theorem q134 : (Jvm.Cond.code ({ cls := "SecondHelpings", name := "<init>", desc := "()V" } : Jvm.MethodName) prog_1_method_1_code (1 : Nat) (Option.none : Option Jvm.ClassFile.FieldType)) ∈ lw_all := lw_g (lw_at lw_m1 41 rfl) rfl
theorem q135 : (Jvm.Cond.methodLink "SecondHelpings" (1 : Nat) ({ cls := "java/lang/Object", name := "<init>", desc := "()V" } : Jvm.MethodName)) ∈ lw_all := lw_g (lw_at lw_m1 42 rfl) rfl
theorem q138 : (Jvm.Cond.classLink "SecondHelpings" (13 : Nat) "SecondHelpings$Fault") ∈ lw_all := lw_g (lw_at lw_m1 45 rfl) rfl
theorem q176 : (Jvm.Cond.methodLink "SecondHelpings" (15 : Nat) ({ cls := "SecondHelpings$Fault", name := "<init>", desc := "()V" } : Jvm.MethodName)) ∈ lw_all := lw_g (lw_at lw_m1 83 rfl) rfl
theorem q185 : (Jvm.Cond.fieldLink "SecondHelpings" (207 : Nat) "SecondHelpings$Fault" "kind" "I") ∈ lw_all := lw_g (lw_at lw_m1 92 rfl) rfl
theorem q187 : (Jvm.Cond.fieldLink "SecondHelpings" (210 : Nat) "SecondHelpings$Fault" "place" "I") ∈ lw_all := lw_g (lw_at lw_m1 94 rfl) rfl
theorem q207 : (Jvm.Cond.classLink "SecondHelpings" (20 : Nat) "java/lang/String") ∈ lw_all := lw_g (lw_at lw_m1 114 rfl) rfl
theorem q209 : (Jvm.Cond.stringRef "SecondHelpings" (22 : Nat) "person") ∈ lw_tbl := lw_at lw_m1 116 rfl
theorem q210 : (Jvm.Cond.stringRef "SecondHelpings" (24 : Nat) "dish") ∈ lw_tbl := lw_at lw_m1 117 rfl
theorem q211 : (Jvm.Cond.stringRef "SecondHelpings" (26 : Nat) "plate") ∈ lw_tbl := lw_at lw_m1 118 rfl
theorem q212 : (Jvm.Cond.stringRef "SecondHelpings" (28 : Nat) "law") ∈ lw_tbl := lw_at lw_m1 119 rfl
theorem q213 : (Jvm.Cond.stringRef "SecondHelpings" (30 : Nat) "dogs") ∈ lw_tbl := lw_at lw_m1 120 rfl
theorem q214 : (Jvm.Cond.stringRef "SecondHelpings" (36 : Nat) "of") ∈ lw_tbl := lw_at lw_m1 121 rfl
theorem q215 : (Jvm.Cond.stringRef "SecondHelpings" (38 : Nat) "spoils") ∈ lw_tbl := lw_at lw_m1 122 rfl
theorem q216 : (Jvm.Cond.stringRef "SecondHelpings" (40 : Nat) "next") ∈ lw_tbl := lw_at lw_m1 123 rfl
theorem q217 : (Jvm.Cond.stringRef "SecondHelpings" (42 : Nat) "child") ∈ lw_tbl := lw_at lw_m1 124 rfl
theorem q218 : (Jvm.Cond.stringRef "SecondHelpings" (44 : Nat) "least") ∈ lw_tbl := lw_at lw_m1 125 rfl
theorem q219 : (Jvm.Cond.stringRef "SecondHelpings" (46 : Nat) "eats") ∈ lw_tbl := lw_at lw_m1 126 rfl
theorem q220 : (Jvm.Cond.stringRef "SecondHelpings" (48 : Nat) "served") ∈ lw_tbl := lw_at lw_m1 127 rfl
theorem q221 : (Jvm.Cond.stringRef "SecondHelpings" (50 : Nat) "rises") ∈ lw_tbl := lw_at lw_m1 128 rfl
theorem q222 : (Jvm.Cond.stringRef "SecondHelpings" (52 : Nat) "refuses") ∈ lw_tbl := lw_at lw_m1 129 rfl
theorem q223 : (Jvm.Cond.stringRef "SecondHelpings" (54 : Nat) "accepts") ∈ lw_tbl := lw_at lw_m1 130 rfl
theorem q224 : (Jvm.Cond.stringRef "SecondHelpings" (56 : Nat) "dies") ∈ lw_tbl := lw_at lw_m1 131 rfl
theorem q225 : (Jvm.Cond.stringRef "SecondHelpings" (58 : Nat) "meal") ∈ lw_tbl := lw_at lw_m1 132 rfl
theorem q226 : (Jvm.Cond.stringRef "SecondHelpings" (60 : Nat) "or") ∈ lw_tbl := lw_at lw_m1 133 rfl
theorem q227 : (Jvm.Cond.stringRef "SecondHelpings" (62 : Nat) "and") ∈ lw_tbl := lw_at lw_m1 134 rfl
theorem q228 : (Jvm.Cond.stringRef "SecondHelpings" (64 : Nat) "not") ∈ lw_tbl := lw_at lw_m1 135 rfl
theorem q229 : (Jvm.Cond.stringRef "SecondHelpings" (66 : Nat) "dead") ∈ lw_tbl := lw_at lw_m1 136 rfl
theorem q230 : (Jvm.Cond.stringRef "SecondHelpings" (68 : Nat) "refused") ∈ lw_tbl := lw_at lw_m1 137 rfl
theorem q231 : (Jvm.Cond.stringRef "SecondHelpings" (70 : Nat) "clean") ∈ lw_tbl := lw_at lw_m1 138 rfl
theorem q232 : (Jvm.Cond.stringRef "SecondHelpings" (72 : Nat) "has") ∈ lw_tbl := lw_at lw_m1 139 rfl
theorem q233 : (Jvm.Cond.stringRef "SecondHelpings" (74 : Nat) "wants") ∈ lw_tbl := lw_at lw_m1 140 rfl
theorem q234 : (Jvm.Cond.stringRef "SecondHelpings" (76 : Nat) "eaten") ∈ lw_tbl := lw_at lw_m1 141 rfl
theorem q235 : (Jvm.Cond.stringRef "SecondHelpings" (78 : Nat) "hunger") ∈ lw_tbl := lw_at lw_m1 142 rfl
theorem q236 : (Jvm.Cond.stringRef "SecondHelpings" (80 : Nat) "number") ∈ lw_tbl := lw_at lw_m1 143 rfl
theorem q237 : (Jvm.Cond.classLink "SecondHelpings" (88 : Nat) "SecondHelpings$Board") ∈ lw_all := lw_g (lw_at lw_m1 144 rfl) rfl
theorem q239 : (Jvm.Cond.methodLinkNest "SecondHelpings" (90 : Nat) ({ cls := "SecondHelpings$Board", name := "<init>", desc := "()V" } : Jvm.MethodName) "SecondHelpings") ∈ lw_tbl := lw_at lw_m1 146 rfl
theorem q247 : (Jvm.Cond.fieldLinkNest "SecondHelpings" (402 : Nat) "SecondHelpings$Board" "personNames" "[J" "SecondHelpings") ∈ lw_tbl := lw_at lw_m1 154 rfl
theorem q256 : (Jvm.Cond.fieldLinkNest "SecondHelpings" (231 : Nat) "SecondHelpings$Board" "wants" "[I" "SecondHelpings") ∈ lw_tbl := lw_at lw_m1 163 rfl
theorem q261 : (Jvm.Cond.fieldLinkNest "SecondHelpings" (233 : Nat) "SecondHelpings$Board" "parent" "[I" "SecondHelpings") ∈ lw_tbl := lw_at lw_m1 168 rfl
theorem q267 : (Jvm.Cond.fieldLinkNest "SecondHelpings" (265 : Nat) "SecondHelpings$Board" "spoils" "[I" "SecondHelpings") ∈ lw_tbl := lw_at lw_m1 174 rfl
theorem q277 : (Jvm.Cond.fieldLinkNest "SecondHelpings" (213 : Nat) "SecondHelpings$Board" "persons" "I" "SecondHelpings") ∈ lw_tbl := lw_at lw_m1 184 rfl
theorem q282 : (Jvm.Cond.fieldLinkNest "SecondHelpings" (220 : Nat) "SecondHelpings$Board" "dishes" "I" "SecondHelpings") ∈ lw_tbl := lw_at lw_m1 189 rfl
theorem q285 : (Jvm.Cond.fieldLinkNest "SecondHelpings" (467 : Nat) "SecondHelpings$Board" "law" "I" "SecondHelpings") ∈ lw_tbl := lw_at lw_m1 192 rfl
theorem q288 : (Jvm.Cond.fieldLinkNest "SecondHelpings" (469 : Nat) "SecondHelpings$Board" "dogs" "I" "SecondHelpings") ∈ lw_tbl := lw_at lw_m1 195 rfl
theorem q314 : (Jvm.Cond.classLink "SecondHelpings" (95 : Nat) "SecondHelpings$State") ∈ lw_all := lw_g (lw_at lw_m1 221 rfl) rfl
theorem q316 : (Jvm.Cond.methodLinkNest "SecondHelpings" (97 : Nat) ({ cls := "SecondHelpings$State", name := "<init>", desc := "()V" } : Jvm.MethodName) "SecondHelpings") ∈ lw_tbl := lw_at lw_m1 223 rfl
theorem q322 : (Jvm.Cond.fieldLinkNest "SecondHelpings" (260 : Nat) "SecondHelpings$State" "plate" "[I" "SecondHelpings") ∈ lw_tbl := lw_at lw_m1 229 rfl
theorem q324 : (Jvm.Cond.fieldLinkNest "SecondHelpings" (262 : Nat) "SecondHelpings$State" "parts" "[I" "SecondHelpings") ∈ lw_tbl := lw_at lw_m1 231 rfl
theorem q327 : (Jvm.Cond.fieldLinkNest "SecondHelpings" (244 : Nat) "SecondHelpings$State" "eaten" "[I" "SecondHelpings") ∈ lw_tbl := lw_at lw_m1 234 rfl
theorem q329 : (Jvm.Cond.fieldLinkNest "SecondHelpings" (246 : Nat) "SecondHelpings$State" "meal" "[I" "SecondHelpings") ∈ lw_tbl := lw_at lw_m1 236 rfl
theorem q332 : (Jvm.Cond.fieldLinkNest "SecondHelpings" (248 : Nat) "SecondHelpings$State" "hunger" "[I" "SecondHelpings") ∈ lw_tbl := lw_at lw_m1 239 rfl
theorem q335 : (Jvm.Cond.fieldLinkNest "SecondHelpings" (267 : Nat) "SecondHelpings$State" "meals" "I" "SecondHelpings") ∈ lw_tbl := lw_at lw_m2 2 rfl
theorem q337 : (Jvm.Cond.fieldLinkNest "SecondHelpings" (270 : Nat) "SecondHelpings$State" "dead" "I" "SecondHelpings") ∈ lw_tbl := lw_at lw_m2 4 rfl
theorem q342 : (Jvm.Cond.fieldLinkNest "SecondHelpings" (239 : Nat) "SecondHelpings$State" "refused" "I" "SecondHelpings") ∈ lw_tbl := lw_at lw_m2 9 rfl
theorem q344 : (Jvm.Cond.fieldLinkNest "SecondHelpings" (272 : Nat) "SecondHelpings$State" "dogs" "I" "SecondHelpings") ∈ lw_tbl := lw_at lw_m2 11 rfl
theorem q346 : (Jvm.Cond.fieldLinkNest "SecondHelpings" (274 : Nat) "SecondHelpings$State" "spoiled" "I" "SecondHelpings") ∈ lw_tbl := lw_at lw_m2 13 rfl
theorem q348 : (Jvm.Cond.fieldLinkNest "SecondHelpings" (277 : Nat) "SecondHelpings$State" "passed" "I" "SecondHelpings") ∈ lw_tbl := lw_at lw_m2 15 rfl
theorem q375 : (Jvm.Cond.classLink "SecondHelpings" (105 : Nat) "SecondHelpings$BoardReader") ∈ lw_all := lw_g (lw_at lw_m2 42 rfl) rfl
theorem q377 : (Jvm.Cond.methodLink "SecondHelpings" (107 : Nat) ({ cls := "SecondHelpings$BoardReader", name := "<init>", desc := "(LSecondHelpings;)V" } : Jvm.MethodName)) ∈ lw_all := lw_g (lw_at lw_m2 44 rfl) rfl
theorem q428 : (Jvm.Cond.classLink "SecondHelpings" (114 : Nat) "SecondHelpings$BookReader") ∈ lw_all := lw_g (lw_at lw_m2 95 rfl) rfl
theorem q430 : (Jvm.Cond.methodLink "SecondHelpings" (116 : Nat) ({ cls := "SecondHelpings$BookReader", name := "<init>", desc := "(LSecondHelpings;)V" } : Jvm.MethodName)) ∈ lw_all := lw_g (lw_at lw_m2 97 rfl) rfl
theorem q437 : (Jvm.Cond.fieldLinkNest "SecondHelpings" (432 : Nat) "SecondHelpings$BookReader" "row" "[LSecondHelpings$Line;" "SecondHelpings") ∈ lw_tbl := lw_at lw_m2 104 rfl
theorem q439 : (Jvm.Cond.fieldLinkNest "SecondHelpings" (429 : Nat) "SecondHelpings$BookReader" "n" "I" "SecondHelpings") ∈ lw_tbl := lw_at lw_m2 106 rfl
theorem q456 : (Jvm.Cond.methodLink "SecondHelpings" (121 : Nat) ({ cls := "SecondHelpings$State", name := "begin", desc := "(LSecondHelpings$Board;)V" } : Jvm.MethodName)) ∈ lw_all := lw_g (lw_at lw_m2 123 rfl) rfl
theorem q467 : (Jvm.Cond.classLink "SecondHelpings" (164 : Nat) "SecondHelpings$SentenceReader") ∈ lw_all := lw_g (lw_at lw_m2 134 rfl) rfl
theorem q469 : (Jvm.Cond.methodLink "SecondHelpings" (166 : Nat) ({ cls := "SecondHelpings$SentenceReader", name := "<init>", desc := "(LSecondHelpings;)V" } : Jvm.MethodName)) ∈ lw_all := lw_g (lw_at lw_m2 136 rfl) rfl
theorem q486 : (Jvm.Cond.fieldLinkNest "SecondHelpings" (452 : Nat) "SecondHelpings$SentenceReader" "ones" "I" "SecondHelpings") ∈ lw_tbl := lw_at lw_m2 153 rfl
theorem q505 : (Jvm.Cond.classLink "SecondHelpings" (171 : Nat) "SecondHelpings$Kept") ∈ lw_all := lw_g (lw_at lw_m2 172 rfl) rfl
theorem q507 : (Jvm.Cond.fieldLink "SecondHelpings" (9 : Nat) "SecondHelpings" "tape" "[B") ∈ lw_all := lw_g (lw_at lw_m2 174 rfl) rfl
theorem q509 : (Jvm.Cond.fieldLink "SecondHelpings" (177 : Nat) "SecondHelpings" "length" "I") ∈ lw_all := lw_g (lw_at lw_m2 176 rfl) rfl
theorem q511 : (Jvm.Cond.fieldLink "SecondHelpings" (184 : Nat) "SecondHelpings" "size" "I") ∈ lw_all := lw_g (lw_at lw_m2 178 rfl) rfl
theorem q512 : (Jvm.Cond.fieldLink "SecondHelpings" (16 : Nat) "SecondHelpings" "broken" "LSecondHelpings$Fault;") ∈ lw_all := lw_g (lw_at lw_m2 179 rfl) rfl
theorem q514 : (Jvm.Cond.fieldLink "SecondHelpings" (32 : Nat) "SecondHelpings" "lines" "[Ljava/lang/String;") ∈ lw_all := lw_g (lw_at lw_m2 181 rfl) rfl
theorem q517 : (Jvm.Cond.fieldLink "SecondHelpings" (82 : Nat) "SecondHelpings" "words" "[Ljava/lang/String;") ∈ lw_all := lw_g (lw_at lw_m2 184 rfl) rfl
theorem q519 : (Jvm.Cond.fieldLink "SecondHelpings" (85 : Nat) "SecondHelpings" "laws" "[Ljava/lang/String;") ∈ lw_all := lw_g (lw_at lw_m2 186 rfl) rfl
theorem q521 : (Jvm.Cond.fieldLink "SecondHelpings" (91 : Nat) "SecondHelpings" "board" "LSecondHelpings$Board;") ∈ lw_all := lw_g (lw_at lw_m2 188 rfl) rfl
theorem q526 : (Jvm.Cond.fieldLink "SecondHelpings" (98 : Nat) "SecondHelpings" "now" "LSecondHelpings$State;") ∈ lw_all := lw_g (lw_at lw_m2 193 rfl) rfl
theorem q529 : (Jvm.Cond.fieldLink "SecondHelpings" (102 : Nat) "SecondHelpings" "tried" "LSecondHelpings$State;") ∈ lw_all := lw_g (lw_at lw_m2 196 rfl) rfl
theorem q530 : (Jvm.Cond.fieldLink "SecondHelpings" (110 : Nat) "SecondHelpings" "boardReader" "LSecondHelpings$BoardReader;") ∈ lw_all := lw_g (lw_at lw_m2 197 rfl) rfl
theorem q531 : (Jvm.Cond.fieldLink "SecondHelpings" (117 : Nat) "SecondHelpings" "bookReader" "LSecondHelpings$BookReader;") ∈ lw_all := lw_g (lw_at lw_m2 198 rfl) rfl
theorem q532 : (Jvm.Cond.fieldLink "SecondHelpings" (193 : Nat) "SecondHelpings" "fault" "I") ∈ lw_all := lw_g (lw_at lw_m2 199 rfl) rfl
theorem q533 : (Jvm.Cond.fieldLink "SecondHelpings" (125 : Nat) "SecondHelpings" "ahead" "[LSecondHelpings$State;") ∈ lw_all := lw_g (lw_at lw_m2 200 rfl) rfl
theorem q534 : (Jvm.Cond.fieldLink "SecondHelpings" (200 : Nat) "SecondHelpings" "undoMany" "I") ∈ lw_all := lw_g (lw_at lw_m2 201 rfl) rfl
theorem q535 : (Jvm.Cond.fieldLink "SecondHelpings" (129 : Nat) "SecondHelpings" "orders" "[LSecondHelpings$State;") ∈ lw_all := lw_g (lw_at lw_m2 202 rfl) rfl
theorem q536 : (Jvm.Cond.fieldLink "SecondHelpings" (132 : Nat) "SecondHelpings" "rising" "[I") ∈ lw_all := lw_g (lw_at lw_m2 203 rfl) rfl
theorem q537 : (Jvm.Cond.fieldLink "SecondHelpings" (136 : Nat) "SecondHelpings" "orderRow" "[I") ∈ lw_all := lw_g (lw_at lw_m2 204 rfl) rfl
theorem q538 : (Jvm.Cond.fieldLink "SecondHelpings" (339 : Nat) "SecondHelpings" "orderBest" "I") ∈ lw_all := lw_g (lw_at lw_m2 205 rfl) rfl
theorem q539 : (Jvm.Cond.fieldLink "SecondHelpings" (139 : Nat) "SecondHelpings" "orderMany" "I") ∈ lw_all := lw_g (lw_at lw_m2 206 rfl) rfl
theorem q540 : (Jvm.Cond.fieldLink "SecondHelpings" (368 : Nat) "SecondHelpings" "surelySet" "I") ∈ lw_all := lw_g (lw_at lw_m2 207 rfl) rfl
theorem q541 : (Jvm.Cond.fieldLink "SecondHelpings" (371 : Nat) "SecondHelpings" "askPerson" "I") ∈ lw_all := lw_g (lw_at lw_m2 208 rfl) rfl
theorem q542 : (Jvm.Cond.fieldLink "SecondHelpings" (364 : Nat) "SecondHelpings" "hasEaters" "Z") ∈ lw_all := lw_g (lw_at lw_m2 209 rfl) rfl
theorem q543 : (Jvm.Cond.fieldLink "SecondHelpings" (143 : Nat) "SecondHelpings" "shares" "[I") ∈ lw_all := lw_g (lw_at lw_m2 210 rfl) rfl
theorem q544 : (Jvm.Cond.fieldLink "SecondHelpings" (146 : Nat) "SecondHelpings" "rests" "[I") ∈ lw_all := lw_g (lw_at lw_m2 211 rfl) rfl
theorem q545 : (Jvm.Cond.fieldLink "SecondHelpings" (149 : Nat) "SecondHelpings" "sitting" "[I") ∈ lw_all := lw_g (lw_at lw_m2 212 rfl) rfl
theorem q546 : (Jvm.Cond.fieldLink "SecondHelpings" (152 : Nat) "SecondHelpings" "seatRow" "[I") ∈ lw_all := lw_g (lw_at lw_m2 213 rfl) rfl
theorem q547 : (Jvm.Cond.fieldLink "SecondHelpings" (379 : Nat) "SecondHelpings" "seatBest" "I") ∈ lw_all := lw_g (lw_at lw_m2 214 rfl) rfl
theorem q548 : (Jvm.Cond.fieldLink "SecondHelpings" (155 : Nat) "SecondHelpings" "seatMany" "I") ∈ lw_all := lw_g (lw_at lw_m2 215 rfl) rfl
theorem q549 : (Jvm.Cond.fieldLink "SecondHelpings" (158 : Nat) "SecondHelpings" "text" "[B") ∈ lw_all := lw_g (lw_at lw_m2 216 rfl) rfl
theorem q550 : (Jvm.Cond.fieldLink "SecondHelpings" (388 : Nat) "SecondHelpings" "textMany" "I") ∈ lw_all := lw_g (lw_at lw_m2 217 rfl) rfl
theorem q551 : (Jvm.Cond.fieldLink "SecondHelpings" (161 : Nat) "SecondHelpings" "toldRow" "[I") ∈ lw_all := lw_g (lw_at lw_m2 218 rfl) rfl
theorem q552 : (Jvm.Cond.fieldLink "SecondHelpings" (446 : Nat) "SecondHelpings" "hasTold" "Z") ∈ lw_all := lw_g (lw_at lw_m2 219 rfl) rfl
theorem q553 : (Jvm.Cond.fieldLink "SecondHelpings" (167 : Nat) "SecondHelpings" "sentenceReader" "LSecondHelpings$SentenceReader;") ∈ lw_all := lw_g (lw_at lw_m2 220 rfl) rfl
theorem q554 : (Jvm.Cond.fieldLink "SecondHelpings" (203 : Nat) "SecondHelpings" "sentence" "LSecondHelpings$Cond;") ∈ lw_all := lw_g (lw_at lw_m2 221 rfl) rfl
theorem q555 : (Jvm.Cond.fieldLink "SecondHelpings" (173 : Nat) "SecondHelpings" "images" "[LSecondHelpings$Kept;") ∈ lw_all := lw_g (lw_at lw_m2 222 rfl) rfl
theorem q556 : (Jvm.Cond.laysFinal "SecondHelpings" "SecondHelpings" "tape" "[B") ∈ lw_all := lw_g (lw_at lw_m2 223 rfl) rfl
theorem q557 : (Jvm.Cond.soleField "SecondHelpings" "tape") ∈ lw_all := lw_g (lw_at lw_m2 224 rfl) rfl
theorem q558 : (Jvm.Cond.lays "SecondHelpings" "SecondHelpings" "length" "I") ∈ lw_all := lw_g (lw_at lw_m2 225 rfl) rfl
theorem q559 : (Jvm.Cond.soleField "SecondHelpings" "length") ∈ lw_all := lw_g (lw_at lw_m2 226 rfl) rfl
theorem q560 : (Jvm.Cond.lays "SecondHelpings" "SecondHelpings" "size" "I") ∈ lw_all := lw_g (lw_at lw_m2 227 rfl) rfl
theorem q561 : (Jvm.Cond.soleField "SecondHelpings" "size") ∈ lw_all := lw_g (lw_at lw_m2 228 rfl) rfl
theorem q562 : (Jvm.Cond.laysFinal "SecondHelpings" "SecondHelpings" "broken" "LSecondHelpings$Fault;") ∈ lw_all := lw_g (lw_at lw_m2 229 rfl) rfl
theorem q563 : (Jvm.Cond.soleField "SecondHelpings" "broken") ∈ lw_all := lw_g (lw_at lw_m2 230 rfl) rfl
theorem q564 : (Jvm.Cond.laysFinal "SecondHelpings" "SecondHelpings" "lines" "[Ljava/lang/String;") ∈ lw_all := lw_g (lw_at lw_m2 231 rfl) rfl
theorem q565 : (Jvm.Cond.soleField "SecondHelpings" "lines") ∈ lw_all := lw_g (lw_at lw_m2 232 rfl) rfl
theorem q566 : (Jvm.Cond.laysFinal "SecondHelpings" "SecondHelpings" "words" "[Ljava/lang/String;") ∈ lw_all := lw_g (lw_at lw_m2 233 rfl) rfl
theorem q567 : (Jvm.Cond.soleField "SecondHelpings" "words") ∈ lw_all := lw_g (lw_at lw_m2 234 rfl) rfl
theorem q568 : (Jvm.Cond.laysFinal "SecondHelpings" "SecondHelpings" "laws" "[Ljava/lang/String;") ∈ lw_all := lw_g (lw_at lw_m2 235 rfl) rfl
theorem q569 : (Jvm.Cond.soleField "SecondHelpings" "laws") ∈ lw_all := lw_g (lw_at lw_m2 236 rfl) rfl
theorem q570 : (Jvm.Cond.lays "SecondHelpings" "SecondHelpings" "board" "LSecondHelpings$Board;") ∈ lw_all := lw_g (lw_at lw_m2 237 rfl) rfl
theorem q571 : (Jvm.Cond.soleField "SecondHelpings" "board") ∈ lw_all := lw_g (lw_at lw_m2 238 rfl) rfl
theorem q572 : (Jvm.Cond.laysFinal "SecondHelpings" "SecondHelpings" "now" "LSecondHelpings$State;") ∈ lw_all := lw_g (lw_at lw_m2 239 rfl) rfl
theorem q573 : (Jvm.Cond.soleField "SecondHelpings" "now") ∈ lw_all := lw_g (lw_at lw_m3 0 rfl) rfl
theorem q574 : (Jvm.Cond.laysFinal "SecondHelpings" "SecondHelpings" "tried" "LSecondHelpings$State;") ∈ lw_all := lw_g (lw_at lw_m3 1 rfl) rfl
theorem q575 : (Jvm.Cond.soleField "SecondHelpings" "tried") ∈ lw_all := lw_g (lw_at lw_m3 2 rfl) rfl
theorem q576 : (Jvm.Cond.laysFinal "SecondHelpings" "SecondHelpings" "boardReader" "LSecondHelpings$BoardReader;") ∈ lw_all := lw_g (lw_at lw_m3 3 rfl) rfl
theorem q577 : (Jvm.Cond.soleField "SecondHelpings" "boardReader") ∈ lw_all := lw_g (lw_at lw_m3 4 rfl) rfl
theorem q578 : (Jvm.Cond.laysFinal "SecondHelpings" "SecondHelpings" "bookReader" "LSecondHelpings$BookReader;") ∈ lw_all := lw_g (lw_at lw_m3 5 rfl) rfl
theorem q579 : (Jvm.Cond.soleField "SecondHelpings" "bookReader") ∈ lw_all := lw_g (lw_at lw_m3 6 rfl) rfl
theorem q580 : (Jvm.Cond.lays "SecondHelpings" "SecondHelpings" "fault" "I") ∈ lw_all := lw_g (lw_at lw_m3 7 rfl) rfl
theorem q581 : (Jvm.Cond.soleField "SecondHelpings" "fault") ∈ lw_all := lw_g (lw_at lw_m3 8 rfl) rfl
theorem q582 : (Jvm.Cond.laysFinal "SecondHelpings" "SecondHelpings" "ahead" "[LSecondHelpings$State;") ∈ lw_all := lw_g (lw_at lw_m3 9 rfl) rfl
theorem q583 : (Jvm.Cond.soleField "SecondHelpings" "ahead") ∈ lw_all := lw_g (lw_at lw_m3 10 rfl) rfl
theorem q584 : (Jvm.Cond.lays "SecondHelpings" "SecondHelpings" "undoMany" "I") ∈ lw_all := lw_g (lw_at lw_m3 11 rfl) rfl
theorem q585 : (Jvm.Cond.soleField "SecondHelpings" "undoMany") ∈ lw_all := lw_g (lw_at lw_m3 12 rfl) rfl
theorem q586 : (Jvm.Cond.laysFinal "SecondHelpings" "SecondHelpings" "orders" "[LSecondHelpings$State;") ∈ lw_all := lw_g (lw_at lw_m3 13 rfl) rfl
theorem q587 : (Jvm.Cond.soleField "SecondHelpings" "orders") ∈ lw_all := lw_g (lw_at lw_m3 14 rfl) rfl
theorem q588 : (Jvm.Cond.laysFinal "SecondHelpings" "SecondHelpings" "rising" "[I") ∈ lw_all := lw_g (lw_at lw_m3 15 rfl) rfl
theorem q589 : (Jvm.Cond.soleField "SecondHelpings" "rising") ∈ lw_all := lw_g (lw_at lw_m3 16 rfl) rfl
theorem q590 : (Jvm.Cond.laysFinal "SecondHelpings" "SecondHelpings" "orderRow" "[I") ∈ lw_all := lw_g (lw_at lw_m3 17 rfl) rfl
theorem q591 : (Jvm.Cond.soleField "SecondHelpings" "orderRow") ∈ lw_all := lw_g (lw_at lw_m3 18 rfl) rfl
theorem q592 : (Jvm.Cond.lays "SecondHelpings" "SecondHelpings" "orderBest" "I") ∈ lw_all := lw_g (lw_at lw_m3 19 rfl) rfl
theorem q593 : (Jvm.Cond.soleField "SecondHelpings" "orderBest") ∈ lw_all := lw_g (lw_at lw_m3 20 rfl) rfl
theorem q594 : (Jvm.Cond.lays "SecondHelpings" "SecondHelpings" "orderMany" "I") ∈ lw_all := lw_g (lw_at lw_m3 21 rfl) rfl
theorem q595 : (Jvm.Cond.soleField "SecondHelpings" "orderMany") ∈ lw_all := lw_g (lw_at lw_m3 22 rfl) rfl
theorem q596 : (Jvm.Cond.lays "SecondHelpings" "SecondHelpings" "surelySet" "I") ∈ lw_all := lw_g (lw_at lw_m3 23 rfl) rfl
theorem q597 : (Jvm.Cond.soleField "SecondHelpings" "surelySet") ∈ lw_all := lw_g (lw_at lw_m3 24 rfl) rfl
theorem q598 : (Jvm.Cond.lays "SecondHelpings" "SecondHelpings" "askPerson" "I") ∈ lw_all := lw_g (lw_at lw_m3 25 rfl) rfl
theorem q599 : (Jvm.Cond.soleField "SecondHelpings" "askPerson") ∈ lw_all := lw_g (lw_at lw_m3 26 rfl) rfl
theorem q600 : (Jvm.Cond.lays "SecondHelpings" "SecondHelpings" "hasEaters" "Z") ∈ lw_all := lw_g (lw_at lw_m3 27 rfl) rfl
theorem q601 : (Jvm.Cond.soleField "SecondHelpings" "hasEaters") ∈ lw_all := lw_g (lw_at lw_m3 28 rfl) rfl
theorem q602 : (Jvm.Cond.laysFinal "SecondHelpings" "SecondHelpings" "shares" "[I") ∈ lw_all := lw_g (lw_at lw_m3 29 rfl) rfl
theorem q603 : (Jvm.Cond.soleField "SecondHelpings" "shares") ∈ lw_all := lw_g (lw_at lw_m3 30 rfl) rfl
theorem q604 : (Jvm.Cond.laysFinal "SecondHelpings" "SecondHelpings" "rests" "[I") ∈ lw_all := lw_g (lw_at lw_m3 31 rfl) rfl
theorem q605 : (Jvm.Cond.soleField "SecondHelpings" "rests") ∈ lw_all := lw_g (lw_at lw_m3 32 rfl) rfl
theorem q606 : (Jvm.Cond.laysFinal "SecondHelpings" "SecondHelpings" "sitting" "[I") ∈ lw_all := lw_g (lw_at lw_m3 33 rfl) rfl
theorem q607 : (Jvm.Cond.soleField "SecondHelpings" "sitting") ∈ lw_all := lw_g (lw_at lw_m3 34 rfl) rfl
theorem q608 : (Jvm.Cond.laysFinal "SecondHelpings" "SecondHelpings" "seatRow" "[I") ∈ lw_all := lw_g (lw_at lw_m3 35 rfl) rfl
theorem q609 : (Jvm.Cond.soleField "SecondHelpings" "seatRow") ∈ lw_all := lw_g (lw_at lw_m3 36 rfl) rfl
theorem q610 : (Jvm.Cond.lays "SecondHelpings" "SecondHelpings" "seatBest" "I") ∈ lw_all := lw_g (lw_at lw_m3 37 rfl) rfl
theorem q611 : (Jvm.Cond.soleField "SecondHelpings" "seatBest") ∈ lw_all := lw_g (lw_at lw_m3 38 rfl) rfl
theorem q612 : (Jvm.Cond.lays "SecondHelpings" "SecondHelpings" "seatMany" "I") ∈ lw_all := lw_g (lw_at lw_m3 39 rfl) rfl
theorem q613 : (Jvm.Cond.soleField "SecondHelpings" "seatMany") ∈ lw_all := lw_g (lw_at lw_m3 40 rfl) rfl
theorem q614 : (Jvm.Cond.laysFinal "SecondHelpings" "SecondHelpings" "text" "[B") ∈ lw_all := lw_g (lw_at lw_m3 41 rfl) rfl
theorem q615 : (Jvm.Cond.soleField "SecondHelpings" "text") ∈ lw_all := lw_g (lw_at lw_m3 42 rfl) rfl
theorem q616 : (Jvm.Cond.lays "SecondHelpings" "SecondHelpings" "textMany" "I") ∈ lw_all := lw_g (lw_at lw_m3 43 rfl) rfl
theorem q617 : (Jvm.Cond.soleField "SecondHelpings" "textMany") ∈ lw_all := lw_g (lw_at lw_m3 44 rfl) rfl
theorem q618 : (Jvm.Cond.laysFinal "SecondHelpings" "SecondHelpings" "toldRow" "[I") ∈ lw_all := lw_g (lw_at lw_m3 45 rfl) rfl
theorem q619 : (Jvm.Cond.soleField "SecondHelpings" "toldRow") ∈ lw_all := lw_g (lw_at lw_m3 46 rfl) rfl
theorem q620 : (Jvm.Cond.lays "SecondHelpings" "SecondHelpings" "hasTold" "Z") ∈ lw_all := lw_g (lw_at lw_m3 47 rfl) rfl
theorem q621 : (Jvm.Cond.soleField "SecondHelpings" "hasTold") ∈ lw_all := lw_g (lw_at lw_m3 48 rfl) rfl
theorem q622 : (Jvm.Cond.laysFinal "SecondHelpings" "SecondHelpings" "sentenceReader" "LSecondHelpings$SentenceReader;") ∈ lw_all := lw_g (lw_at lw_m3 49 rfl) rfl
theorem q623 : (Jvm.Cond.soleField "SecondHelpings" "sentenceReader") ∈ lw_all := lw_g (lw_at lw_m3 50 rfl) rfl
theorem q624 : (Jvm.Cond.lays "SecondHelpings" "SecondHelpings" "sentence" "LSecondHelpings$Cond;") ∈ lw_all := lw_g (lw_at lw_m3 51 rfl) rfl
theorem q625 : (Jvm.Cond.soleField "SecondHelpings" "sentence") ∈ lw_all := lw_g (lw_at lw_m3 52 rfl) rfl
theorem q626 : (Jvm.Cond.laysFinal "SecondHelpings" "SecondHelpings" "images" "[LSecondHelpings$Kept;") ∈ lw_all := lw_g (lw_at lw_m3 53 rfl) rfl
theorem q627 : (Jvm.Cond.soleField "SecondHelpings" "images") ∈ lw_all := lw_g (lw_at lw_m3 54 rfl) rfl
theorem q628 : (Jvm.Cond.superclass "SecondHelpings" "java/lang/Object") ∈ lw_all := lw_g (lw_at lw_m3 55 rfl) rfl
theorem q630 : (Jvm.Cond.instanceMethod ({ cls := "SecondHelpings", name := "feed", desc := "(IIIII)I" } : Jvm.MethodName)) ∈ lw_all := lw_g (lw_at lw_m3 57 rfl) rfl
theorem q631 : (Jvm.Cond.selects "SecondHelpings" ({ cls := "SecondHelpings", name := "feed", desc := "(IIIII)I" } : Jvm.MethodName) ({ cls := "SecondHelpings", name := "feed", desc := "(IIIII)I" } : Jvm.MethodName)) ∈ lw_all := lw_g (lw_at lw_m3 58 rfl) rfl
theorem q632 : (Jvm.Cond.code ({ cls := "SecondHelpings", name := "feed", desc := "(IIIII)I" } : Jvm.MethodName) prog_1_method_2_code (6 : Nat) (Option.some Jvm.ClassFile.FieldType.int)) ∈ lw_all := lw_g (lw_at lw_m3 59 rfl) rfl
theorem q633 : (Jvm.Cond.methodLink "SecondHelpings" (180 : Nat) ({ cls := "SecondHelpings", name := "four", desc := "(I)V" } : Jvm.MethodName)) ∈ lw_all := lw_g (lw_at lw_m3 60 rfl) rfl
theorem q634 : (Jvm.Cond.privateMethod ({ cls := "SecondHelpings", name := "four", desc := "(I)V" } : Jvm.MethodName)) ∈ lw_tbl := lw_at lw_m3 61 rfl
theorem q635 : (Jvm.Cond.instanceMethod ({ cls := "SecondHelpings", name := "four", desc := "(I)V" } : Jvm.MethodName)) ∈ lw_all := lw_g (lw_at lw_m3 62 rfl) rfl
theorem q636 : (Jvm.Cond.code ({ cls := "SecondHelpings", name := "four", desc := "(I)V" } : Jvm.MethodName) prog_1_method_3_code (3 : Nat) (Option.none : Option Jvm.ClassFile.FieldType)) ∈ lw_all := lw_g (lw_at lw_m3 63 rfl) rfl
theorem q638 : (Jvm.Cond.instanceMethod ({ cls := "SecondHelpings", name := "end", desc := "(I)Z" } : Jvm.MethodName)) ∈ lw_all := lw_g (lw_at lw_m3 65 rfl) rfl
theorem q639 : (Jvm.Cond.selects "SecondHelpings" ({ cls := "SecondHelpings", name := "end", desc := "(I)Z" } : Jvm.MethodName) ({ cls := "SecondHelpings", name := "end", desc := "(I)Z" } : Jvm.MethodName)) ∈ lw_all := lw_g (lw_at lw_m3 66 rfl) rfl
theorem q640 : (Jvm.Cond.code ({ cls := "SecondHelpings", name := "end", desc := "(I)Z" } : Jvm.MethodName) prog_1_method_4_code (2 : Nat) (Option.some Jvm.ClassFile.FieldType.boolean)) ∈ lw_all := lw_g (lw_at lw_m3 67 rfl) rfl
theorem q642 : (Jvm.Cond.instanceMethod ({ cls := "SecondHelpings", name := "table", desc := "()I" } : Jvm.MethodName)) ∈ lw_all := lw_g (lw_at lw_m3 69 rfl) rfl
theorem q643 : (Jvm.Cond.selects "SecondHelpings" ({ cls := "SecondHelpings", name := "table", desc := "()I" } : Jvm.MethodName) ({ cls := "SecondHelpings", name := "table", desc := "()I" } : Jvm.MethodName)) ∈ lw_all := lw_g (lw_at lw_m3 70 rfl) rfl
theorem q644 : (Jvm.Cond.codeWith ({ cls := "SecondHelpings", name := "table", desc := "()I" } : Jvm.MethodName) prog_1_method_10_code (3 : Nat) (Option.some Jvm.ClassFile.FieldType.int) [((17 : Nat), (50 : Nat), (51 : Nat), (13 : Nat))]) ∈ lw_all := lw_g (lw_at lw_m3 71 rfl) rfl
theorem q645 : (Jvm.Cond.methodLink "SecondHelpings" (190 : Nat) ({ cls := "SecondHelpings", name := "taken", desc := "()V" } : Jvm.MethodName)) ∈ lw_all := lw_g (lw_at lw_m3 72 rfl) rfl
theorem q646 : (Jvm.Cond.privateMethod ({ cls := "SecondHelpings", name := "taken", desc := "()V" } : Jvm.MethodName)) ∈ lw_tbl := lw_at lw_m3 73 rfl
theorem q647 : (Jvm.Cond.instanceMethod ({ cls := "SecondHelpings", name := "taken", desc := "()V" } : Jvm.MethodName)) ∈ lw_all := lw_g (lw_at lw_m3 74 rfl) rfl
theorem q648 : (Jvm.Cond.code ({ cls := "SecondHelpings", name := "taken", desc := "()V" } : Jvm.MethodName) prog_1_method_5_code (1 : Nat) (Option.none : Option Jvm.ClassFile.FieldType)) ∈ lw_all := lw_g (lw_at lw_m3 75 rfl) rfl
theorem q649 : (Jvm.Cond.methodLink "SecondHelpings" (196 : Nat) ({ cls := "SecondHelpings$BoardReader", name := "read", desc := "(LSecondHelpings$Board;)I" } : Jvm.MethodName)) ∈ lw_all := lw_g (lw_at lw_m3 76 rfl) rfl
theorem q675 : (Jvm.Cond.static ({ cls := "SecondHelpings", name := "isIn", desc := "(III)Z" } : Jvm.MethodName)) ∈ lw_all := lw_g (lw_at lw_m3 102 rfl) rfl
theorem q676 : (Jvm.Cond.code ({ cls := "SecondHelpings", name := "isIn", desc := "(III)Z" } : Jvm.MethodName) prog_1_method_7_code (3 : Nat) (Option.some Jvm.ClassFile.FieldType.boolean)) ∈ lw_all := lw_g (lw_at lw_m3 103 rfl) rfl
theorem q760 : (Jvm.Cond.static ({ cls := "SecondHelpings", name := "has", desc := "(II)Z" } : Jvm.MethodName)) ∈ lw_all := lw_g (lw_at lw_m3 187 rfl) rfl
theorem q761 : (Jvm.Cond.code ({ cls := "SecondHelpings", name := "has", desc := "(II)Z" } : Jvm.MethodName) prog_1_method_9_code (2 : Nat) (Option.some Jvm.ClassFile.FieldType.boolean)) ∈ lw_all := lw_g (lw_at lw_m3 188 rfl) rfl
theorem q841 : (Jvm.Cond.instanceMethod ({ cls := "SecondHelpings", name := "fault", desc := "()I" } : Jvm.MethodName)) ∈ lw_all := lw_g (lw_at lw_m4 28 rfl) rfl
theorem q842 : (Jvm.Cond.selects "SecondHelpings" ({ cls := "SecondHelpings", name := "fault", desc := "()I" } : Jvm.MethodName) ({ cls := "SecondHelpings", name := "fault", desc := "()I" } : Jvm.MethodName)) ∈ lw_all := lw_g (lw_at lw_m4 29 rfl) rfl
theorem q843 : (Jvm.Cond.code ({ cls := "SecondHelpings", name := "fault", desc := "()I" } : Jvm.MethodName) prog_1_method_11_code (1 : Nat) (Option.some Jvm.ClassFile.FieldType.int)) ∈ lw_all := lw_g (lw_at lw_m4 30 rfl) rfl
theorem q845 : (Jvm.Cond.instanceMethod ({ cls := "SecondHelpings", name := "plate", desc := "(II)I" } : Jvm.MethodName)) ∈ lw_all := lw_g (lw_at lw_m4 32 rfl) rfl
theorem q846 : (Jvm.Cond.selects "SecondHelpings" ({ cls := "SecondHelpings", name := "plate", desc := "(II)I" } : Jvm.MethodName) ({ cls := "SecondHelpings", name := "plate", desc := "(II)I" } : Jvm.MethodName)) ∈ lw_all := lw_g (lw_at lw_m4 33 rfl) rfl
theorem q847 : (Jvm.Cond.code ({ cls := "SecondHelpings", name := "plate", desc := "(II)I" } : Jvm.MethodName) prog_1_method_15_code (3 : Nat) (Option.some Jvm.ClassFile.FieldType.int)) ∈ lw_all := lw_g (lw_at lw_m4 34 rfl) rfl
theorem q848 : (Jvm.Cond.methodLink "SecondHelpings" (223 : Nat) ({ cls := "SecondHelpings", name := "isPerson", desc := "(I)Z" } : Jvm.MethodName)) ∈ lw_all := lw_g (lw_at lw_m4 35 rfl) rfl
theorem q849 : (Jvm.Cond.privateMethod ({ cls := "SecondHelpings", name := "isPerson", desc := "(I)Z" } : Jvm.MethodName)) ∈ lw_tbl := lw_at lw_m4 36 rfl
theorem q850 : (Jvm.Cond.instanceMethod ({ cls := "SecondHelpings", name := "isPerson", desc := "(I)Z" } : Jvm.MethodName)) ∈ lw_all := lw_g (lw_at lw_m4 37 rfl) rfl
theorem q851 : (Jvm.Cond.code ({ cls := "SecondHelpings", name := "isPerson", desc := "(I)Z" } : Jvm.MethodName) prog_1_method_12_code (2 : Nat) (Option.some Jvm.ClassFile.FieldType.boolean)) ∈ lw_all := lw_g (lw_at lw_m4 38 rfl) rfl
theorem q852 : (Jvm.Cond.methodLink "SecondHelpings" (216 : Nat) ({ cls := "SecondHelpings", name := "isIn", desc := "(III)Z" } : Jvm.MethodName)) ∈ lw_all := lw_g (lw_at lw_m4 39 rfl) rfl
theorem q853 : (Jvm.Cond.methodLink "SecondHelpings" (257 : Nat) ({ cls := "SecondHelpings", name := "isDish", desc := "(I)Z" } : Jvm.MethodName)) ∈ lw_all := lw_g (lw_at lw_m4 40 rfl) rfl
theorem q854 : (Jvm.Cond.privateMethod ({ cls := "SecondHelpings", name := "isDish", desc := "(I)Z" } : Jvm.MethodName)) ∈ lw_tbl := lw_at lw_m4 41 rfl
theorem q855 : (Jvm.Cond.instanceMethod ({ cls := "SecondHelpings", name := "isDish", desc := "(I)Z" } : Jvm.MethodName)) ∈ lw_all := lw_g (lw_at lw_m4 42 rfl) rfl
theorem q856 : (Jvm.Cond.code ({ cls := "SecondHelpings", name := "isDish", desc := "(I)Z" } : Jvm.MethodName) prog_1_method_13_code (2 : Nat) (Option.some Jvm.ClassFile.FieldType.boolean)) ∈ lw_all := lw_g (lw_at lw_m4 43 rfl) rfl
theorem q858 : (Jvm.Cond.instanceMethod ({ cls := "SecondHelpings", name := "dish", desc := "(II)I" } : Jvm.MethodName)) ∈ lw_all := lw_g (lw_at lw_m4 45 rfl) rfl
theorem q859 : (Jvm.Cond.selects "SecondHelpings" ({ cls := "SecondHelpings", name := "dish", desc := "(II)I" } : Jvm.MethodName) ({ cls := "SecondHelpings", name := "dish", desc := "(II)I" } : Jvm.MethodName)) ∈ lw_all := lw_g (lw_at lw_m4 46 rfl) rfl
theorem q860 : (Jvm.Cond.code ({ cls := "SecondHelpings", name := "dish", desc := "(II)I" } : Jvm.MethodName) prog_1_method_16_code (5 : Nat) (Option.some Jvm.ClassFile.FieldType.int)) ∈ lw_all := lw_g (lw_at lw_m4 47 rfl) rfl
theorem q862 : (Jvm.Cond.instanceMethod ({ cls := "SecondHelpings", name := "now", desc := "(I)I" } : Jvm.MethodName)) ∈ lw_all := lw_g (lw_at lw_m4 49 rfl) rfl
theorem q863 : (Jvm.Cond.selects "SecondHelpings" ({ cls := "SecondHelpings", name := "now", desc := "(I)I" } : Jvm.MethodName) ({ cls := "SecondHelpings", name := "now", desc := "(I)I" } : Jvm.MethodName)) ∈ lw_all := lw_g (lw_at lw_m4 50 rfl) rfl
theorem q864 : (Jvm.Cond.code ({ cls := "SecondHelpings", name := "now", desc := "(I)I" } : Jvm.MethodName) prog_1_method_17_code (5 : Nat) (Option.some Jvm.ClassFile.FieldType.int)) ∈ lw_all := lw_g (lw_at lw_m4 51 rfl) rfl
theorem q866 : (Jvm.Cond.instanceMethod ({ cls := "SecondHelpings", name := "undo", desc := "()I" } : Jvm.MethodName)) ∈ lw_all := lw_g (lw_at lw_m4 53 rfl) rfl
theorem q867 : (Jvm.Cond.selects "SecondHelpings" ({ cls := "SecondHelpings", name := "undo", desc := "()I" } : Jvm.MethodName) ({ cls := "SecondHelpings", name := "undo", desc := "()I" } : Jvm.MethodName)) ∈ lw_all := lw_g (lw_at lw_m4 54 rfl) rfl
theorem q868 : (Jvm.Cond.code ({ cls := "SecondHelpings", name := "undo", desc := "()I" } : Jvm.MethodName) prog_1_method_19_code (1 : Nat) (Option.some Jvm.ClassFile.FieldType.int)) ∈ lw_all := lw_g (lw_at lw_m4 55 rfl) rfl
theorem q869 : (Jvm.Cond.methodLink "SecondHelpings" (286 : Nat) ({ cls := "SecondHelpings$State", name := "be", desc := "(LSecondHelpings$State;)V" } : Jvm.MethodName)) ∈ lw_all := lw_g (lw_at lw_m4 56 rfl) rfl
theorem q874 : (Jvm.Cond.instanceMethod ({ cls := "SecondHelpings", name := "eat", desc := "(III)I" } : Jvm.MethodName)) ∈ lw_all := lw_g (lw_at lw_m4 61 rfl) rfl
theorem q875 : (Jvm.Cond.selects "SecondHelpings" ({ cls := "SecondHelpings", name := "eat", desc := "(III)I" } : Jvm.MethodName) ({ cls := "SecondHelpings", name := "eat", desc := "(III)I" } : Jvm.MethodName)) ∈ lw_all := lw_g (lw_at lw_m4 62 rfl) rfl
theorem q876 : (Jvm.Cond.code ({ cls := "SecondHelpings", name := "eat", desc := "(III)I" } : Jvm.MethodName) prog_1_method_20_code (5 : Nat) (Option.some Jvm.ClassFile.FieldType.int)) ∈ lw_all := lw_g (lw_at lw_m4 63 rfl) rfl
theorem q877 : (Jvm.Cond.methodLink "SecondHelpings" (290 : Nat) ({ cls := "SecondHelpings$State", name := "whyEat", desc := "(LSecondHelpings$Board;III)I" } : Jvm.MethodName)) ∈ lw_all := lw_g (lw_at lw_m4 64 rfl) rfl
theorem q886 : (Jvm.Cond.methodLink "SecondHelpings" (294 : Nat) ({ cls := "SecondHelpings", name := "keep", desc := "()V" } : Jvm.MethodName)) ∈ lw_all := lw_g (lw_at lw_m4 73 rfl) rfl
theorem q887 : (Jvm.Cond.privateMethod ({ cls := "SecondHelpings", name := "keep", desc := "()V" } : Jvm.MethodName)) ∈ lw_tbl := lw_at lw_m4 74 rfl
theorem q888 : (Jvm.Cond.instanceMethod ({ cls := "SecondHelpings", name := "keep", desc := "()V" } : Jvm.MethodName)) ∈ lw_all := lw_g (lw_at lw_m4 75 rfl) rfl
theorem q889 : (Jvm.Cond.code ({ cls := "SecondHelpings", name := "keep", desc := "()V" } : Jvm.MethodName) prog_1_method_18_code (2 : Nat) (Option.none : Option Jvm.ClassFile.FieldType)) ∈ lw_all := lw_g (lw_at lw_m4 76 rfl) rfl
theorem q890 : (Jvm.Cond.methodLink "SecondHelpings" (280 : Nat) ({ cls := "java/lang/System", name := "arraycopy", desc := "(Ljava/lang/Object;ILjava/lang/Object;II)V" } : Jvm.MethodName)) ∈ lw_all := lw_g (lw_at lw_m4 77 rfl) rfl
theorem q891 : (Jvm.Cond.methodLink "SecondHelpings" (297 : Nat) ({ cls := "SecondHelpings$State", name := "eat", desc := "(III)V" } : Jvm.MethodName)) ∈ lw_all := lw_g (lw_at lw_m4 78 rfl) rfl
theorem q896 : (Jvm.Cond.instanceMethod ({ cls := "SecondHelpings", name := "serve", desc := "(III)I" } : Jvm.MethodName)) ∈ lw_all := lw_g (lw_at lw_m4 83 rfl) rfl
theorem q897 : (Jvm.Cond.selects "SecondHelpings" ({ cls := "SecondHelpings", name := "serve", desc := "(III)I" } : Jvm.MethodName) ({ cls := "SecondHelpings", name := "serve", desc := "(III)I" } : Jvm.MethodName)) ∈ lw_all := lw_g (lw_at lw_m4 84 rfl) rfl
theorem q898 : (Jvm.Cond.code ({ cls := "SecondHelpings", name := "serve", desc := "(III)I" } : Jvm.MethodName) prog_1_method_21_code (5 : Nat) (Option.some Jvm.ClassFile.FieldType.int)) ∈ lw_all := lw_g (lw_at lw_m4 85 rfl) rfl
theorem q899 : (Jvm.Cond.methodLink "SecondHelpings" (301 : Nat) ({ cls := "SecondHelpings$State", name := "whyServe", desc := "(III)I" } : Jvm.MethodName)) ∈ lw_all := lw_g (lw_at lw_m4 86 rfl) rfl
theorem q903 : (Jvm.Cond.methodLink "SecondHelpings" (305 : Nat) ({ cls := "SecondHelpings$State", name := "serve", desc := "(III)V" } : Jvm.MethodName)) ∈ lw_all := lw_g (lw_at lw_m4 90 rfl) rfl
theorem q908 : (Jvm.Cond.instanceMethod ({ cls := "SecondHelpings", name := "rise", desc := "(I)I" } : Jvm.MethodName)) ∈ lw_all := lw_g (lw_at lw_m4 95 rfl) rfl
theorem q909 : (Jvm.Cond.selects "SecondHelpings" ({ cls := "SecondHelpings", name := "rise", desc := "(I)I" } : Jvm.MethodName) ({ cls := "SecondHelpings", name := "rise", desc := "(I)I" } : Jvm.MethodName)) ∈ lw_all := lw_g (lw_at lw_m4 96 rfl) rfl
theorem q910 : (Jvm.Cond.code ({ cls := "SecondHelpings", name := "rise", desc := "(I)I" } : Jvm.MethodName) prog_1_method_22_code (3 : Nat) (Option.some Jvm.ClassFile.FieldType.int)) ∈ lw_all := lw_g (lw_at lw_m4 97 rfl) rfl
theorem q911 : (Jvm.Cond.methodLink "SecondHelpings" (308 : Nat) ({ cls := "SecondHelpings$State", name := "whyRise", desc := "(I)I" } : Jvm.MethodName)) ∈ lw_all := lw_g (lw_at lw_m4 98 rfl) rfl
theorem q919 : (Jvm.Cond.methodLinkNest "SecondHelpings" (311 : Nat) ({ cls := "SecondHelpings$State", name := "passes", desc := "(LSecondHelpings$Board;I)V" } : Jvm.MethodName) "SecondHelpings") ∈ lw_tbl := lw_at lw_m4 106 rfl
theorem q939 : (Jvm.Cond.instanceMethod ({ cls := "SecondHelpings", name := "refuse", desc := "(I)I" } : Jvm.MethodName)) ∈ lw_all := lw_g (lw_at lw_m4 126 rfl) rfl
theorem q940 : (Jvm.Cond.selects "SecondHelpings" ({ cls := "SecondHelpings", name := "refuse", desc := "(I)I" } : Jvm.MethodName) ({ cls := "SecondHelpings", name := "refuse", desc := "(I)I" } : Jvm.MethodName)) ∈ lw_all := lw_g (lw_at lw_m4 127 rfl) rfl
theorem q941 : (Jvm.Cond.code ({ cls := "SecondHelpings", name := "refuse", desc := "(I)I" } : Jvm.MethodName) prog_1_method_23_code (3 : Nat) (Option.some Jvm.ClassFile.FieldType.int)) ∈ lw_all := lw_g (lw_at lw_m4 128 rfl) rfl
theorem q942 : (Jvm.Cond.methodLink "SecondHelpings" (315 : Nat) ({ cls := "SecondHelpings$State", name := "whyRefuse", desc := "(I)I" } : Jvm.MethodName)) ∈ lw_all := lw_g (lw_at lw_m4 129 rfl) rfl
theorem q947 : (Jvm.Cond.instanceMethod ({ cls := "SecondHelpings", name := "accept", desc := "(I)I" } : Jvm.MethodName)) ∈ lw_all := lw_g (lw_at lw_m4 134 rfl) rfl
theorem q948 : (Jvm.Cond.selects "SecondHelpings" ({ cls := "SecondHelpings", name := "accept", desc := "(I)I" } : Jvm.MethodName) ({ cls := "SecondHelpings", name := "accept", desc := "(I)I" } : Jvm.MethodName)) ∈ lw_all := lw_g (lw_at lw_m4 135 rfl) rfl
theorem q949 : (Jvm.Cond.code ({ cls := "SecondHelpings", name := "accept", desc := "(I)I" } : Jvm.MethodName) prog_1_method_24_code (3 : Nat) (Option.some Jvm.ClassFile.FieldType.int)) ∈ lw_all := lw_g (lw_at lw_m4 136 rfl) rfl
theorem q950 : (Jvm.Cond.methodLink "SecondHelpings" (318 : Nat) ({ cls := "SecondHelpings$State", name := "whyAccept", desc := "(I)I" } : Jvm.MethodName)) ∈ lw_all := lw_g (lw_at lw_m4 137 rfl) rfl
theorem q955 : (Jvm.Cond.instanceMethod ({ cls := "SecondHelpings", name := "die", desc := "(I)I" } : Jvm.MethodName)) ∈ lw_all := lw_g (lw_at lw_m4 142 rfl) rfl
theorem q956 : (Jvm.Cond.selects "SecondHelpings" ({ cls := "SecondHelpings", name := "die", desc := "(I)I" } : Jvm.MethodName) ({ cls := "SecondHelpings", name := "die", desc := "(I)I" } : Jvm.MethodName)) ∈ lw_all := lw_g (lw_at lw_m4 143 rfl) rfl
theorem q957 : (Jvm.Cond.code ({ cls := "SecondHelpings", name := "die", desc := "(I)I" } : Jvm.MethodName) prog_1_method_25_code (2 : Nat) (Option.some Jvm.ClassFile.FieldType.int)) ∈ lw_all := lw_g (lw_at lw_m4 144 rfl) rfl
theorem q958 : (Jvm.Cond.methodLink "SecondHelpings" (321 : Nat) ({ cls := "SecondHelpings$State", name := "whyDie", desc := "(I)I" } : Jvm.MethodName)) ∈ lw_all := lw_g (lw_at lw_m4 145 rfl) rfl
theorem q962 : (Jvm.Cond.methodLink "SecondHelpings" (324 : Nat) ({ cls := "SecondHelpings$State", name := "die", desc := "(LSecondHelpings$Board;I)V" } : Jvm.MethodName)) ∈ lw_all := lw_g (lw_at lw_m4 149 rfl) rfl
theorem q968 : (Jvm.Cond.instanceMethod ({ cls := "SecondHelpings", name := "meals", desc := "(I)I" } : Jvm.MethodName)) ∈ lw_all := lw_g (lw_at lw_m4 155 rfl) rfl
theorem q969 : (Jvm.Cond.selects "SecondHelpings" ({ cls := "SecondHelpings", name := "meals", desc := "(I)I" } : Jvm.MethodName) ({ cls := "SecondHelpings", name := "meals", desc := "(I)I" } : Jvm.MethodName)) ∈ lw_all := lw_g (lw_at lw_m4 156 rfl) rfl
theorem q970 : (Jvm.Cond.code ({ cls := "SecondHelpings", name := "meals", desc := "(I)I" } : Jvm.MethodName) prog_1_method_26_code (2 : Nat) (Option.some Jvm.ClassFile.FieldType.int)) ∈ lw_all := lw_g (lw_at lw_m4 157 rfl) rfl
theorem q971 : (Jvm.Cond.methodLink "SecondHelpings" (327 : Nat) ({ cls := "SecondHelpings$State", name := "meals", desc := "(LSecondHelpings$Board;I)I" } : Jvm.MethodName)) ∈ lw_all := lw_g (lw_at lw_m4 158 rfl) rfl
theorem q980 : (Jvm.Cond.instanceMethod ({ cls := "SecondHelpings", name := "heir", desc := "(I)I" } : Jvm.MethodName)) ∈ lw_all := lw_g (lw_at lw_m4 167 rfl) rfl
theorem q981 : (Jvm.Cond.selects "SecondHelpings" ({ cls := "SecondHelpings", name := "heir", desc := "(I)I" } : Jvm.MethodName) ({ cls := "SecondHelpings", name := "heir", desc := "(I)I" } : Jvm.MethodName)) ∈ lw_all := lw_g (lw_at lw_m4 168 rfl) rfl
theorem q982 : (Jvm.Cond.code ({ cls := "SecondHelpings", name := "heir", desc := "(I)I" } : Jvm.MethodName) prog_1_method_27_code (2 : Nat) (Option.some Jvm.ClassFile.FieldType.int)) ∈ lw_all := lw_g (lw_at lw_m4 169 rfl) rfl
theorem q983 : (Jvm.Cond.methodLink "SecondHelpings" (330 : Nat) ({ cls := "SecondHelpings$State", name := "heir", desc := "(LSecondHelpings$Board;I)I" } : Jvm.MethodName)) ∈ lw_all := lw_g (lw_at lw_m4 170 rfl) rfl
theorem q985 : (Jvm.Cond.instanceMethod ({ cls := "SecondHelpings", name := "line", desc := "(II)I" } : Jvm.MethodName)) ∈ lw_all := lw_g (lw_at lw_m4 172 rfl) rfl
theorem q986 : (Jvm.Cond.selects "SecondHelpings" ({ cls := "SecondHelpings", name := "line", desc := "(II)I" } : Jvm.MethodName) ({ cls := "SecondHelpings", name := "line", desc := "(II)I" } : Jvm.MethodName)) ∈ lw_all := lw_g (lw_at lw_m4 173 rfl) rfl
theorem q987 : (Jvm.Cond.code ({ cls := "SecondHelpings", name := "line", desc := "(II)I" } : Jvm.MethodName) prog_1_method_28_code (6 : Nat) (Option.some Jvm.ClassFile.FieldType.int)) ∈ lw_all := lw_g (lw_at lw_m4 174 rfl) rfl
theorem q988 : (Jvm.Cond.methodLink "SecondHelpings" (333 : Nat) ({ cls := "SecondHelpings$State", name := "heir", desc := "(LSecondHelpings$Board;II)I" } : Jvm.MethodName)) ∈ lw_all := lw_g (lw_at lw_m4 175 rfl) rfl
theorem q990 : (Jvm.Cond.instanceMethod ({ cls := "SecondHelpings", name := "order", desc := "()I" } : Jvm.MethodName)) ∈ lw_all := lw_g (lw_at lw_m4 177 rfl) rfl
theorem q991 : (Jvm.Cond.selects "SecondHelpings" ({ cls := "SecondHelpings", name := "order", desc := "()I" } : Jvm.MethodName) ({ cls := "SecondHelpings", name := "order", desc := "()I" } : Jvm.MethodName)) ∈ lw_all := lw_g (lw_at lw_m4 178 rfl) rfl
theorem q992 : (Jvm.Cond.code ({ cls := "SecondHelpings", name := "order", desc := "()I" } : Jvm.MethodName) prog_1_method_31_code (1 : Nat) (Option.some Jvm.ClassFile.FieldType.int)) ∈ lw_all := lw_g (lw_at lw_m4 179 rfl) rfl
theorem q993 : (Jvm.Cond.constant "SecondHelpings" (352 : Nat) (100000 : Int32)) ∈ lw_all := lw_g (lw_at lw_m4 180 rfl) rfl
theorem q994 : (Jvm.Cond.methodLink "SecondHelpings" (353 : Nat) ({ cls := "SecondHelpings", name := "living", desc := "()I" } : Jvm.MethodName)) ∈ lw_all := lw_g (lw_at lw_m4 181 rfl) rfl
theorem q995 : (Jvm.Cond.privateMethod ({ cls := "SecondHelpings", name := "living", desc := "()I" } : Jvm.MethodName)) ∈ lw_tbl := lw_at lw_m4 182 rfl
theorem q996 : (Jvm.Cond.instanceMethod ({ cls := "SecondHelpings", name := "living", desc := "()I" } : Jvm.MethodName)) ∈ lw_all := lw_g (lw_at lw_m4 183 rfl) rfl
theorem q997 : (Jvm.Cond.code ({ cls := "SecondHelpings", name := "living", desc := "()I" } : Jvm.MethodName) prog_1_method_30_code (1 : Nat) (Option.some Jvm.ClassFile.FieldType.int)) ∈ lw_all := lw_g (lw_at lw_m4 184 rfl) rfl
theorem q998 : (Jvm.Cond.methodLink "SecondHelpings" (349 : Nat) ({ cls := "SecondHelpings", name := "orders", desc := "(II)V" } : Jvm.MethodName)) ∈ lw_all := lw_g (lw_at lw_m4 185 rfl) rfl
theorem q999 : (Jvm.Cond.privateMethod ({ cls := "SecondHelpings", name := "orders", desc := "(II)V" } : Jvm.MethodName)) ∈ lw_tbl := lw_at lw_m4 186 rfl
theorem q1000 : (Jvm.Cond.instanceMethod ({ cls := "SecondHelpings", name := "orders", desc := "(II)V" } : Jvm.MethodName)) ∈ lw_all := lw_g (lw_at lw_m4 187 rfl) rfl
theorem q1001 : (Jvm.Cond.code ({ cls := "SecondHelpings", name := "orders", desc := "(II)V" } : Jvm.MethodName) prog_1_method_29_code (5 : Nat) (Option.none : Option Jvm.ClassFile.FieldType)) ∈ lw_all := lw_g (lw_at lw_m4 188 rfl) rfl
theorem q1002 : (Jvm.Cond.methodLink "SecondHelpings" (336 : Nat) ({ cls := "SecondHelpings$State", name := "wanted", desc := "(LSecondHelpings$Board;)I" } : Jvm.MethodName)) ∈ lw_all := lw_g (lw_at lw_m4 189 rfl) rfl
theorem q1006 : (Jvm.Cond.methodLink "SecondHelpings" (342 : Nat) ({ cls := "java/lang/Integer", name := "numberOfTrailingZeros", desc := "(I)I" } : Jvm.MethodName)) ∈ lw_all := lw_g (lw_at lw_m4 193 rfl) rfl
theorem q1010 : (Jvm.Cond.methodLink "SecondHelpings" (347 : Nat) ({ cls := "SecondHelpings$State", name := "eats", desc := "(LSecondHelpings$Board;I)V" } : Jvm.MethodName)) ∈ lw_all := lw_g (lw_at lw_m4 197 rfl) rfl
theorem q1016 : (Jvm.Cond.instanceMethod ({ cls := "SecondHelpings", name := "orderAt", desc := "(I)I" } : Jvm.MethodName)) ∈ lw_all := lw_g (lw_at lw_m4 203 rfl) rfl
theorem q1017 : (Jvm.Cond.selects "SecondHelpings" ({ cls := "SecondHelpings", name := "orderAt", desc := "(I)I" } : Jvm.MethodName) ({ cls := "SecondHelpings", name := "orderAt", desc := "(I)I" } : Jvm.MethodName)) ∈ lw_all := lw_g (lw_at lw_m4 204 rfl) rfl
theorem q1018 : (Jvm.Cond.code ({ cls := "SecondHelpings", name := "orderAt", desc := "(I)I" } : Jvm.MethodName) prog_1_method_32_code (2 : Nat) (Option.some Jvm.ClassFile.FieldType.int)) ∈ lw_all := lw_g (lw_at lw_m4 205 rfl) rfl
theorem q1020 : (Jvm.Cond.instanceMethod ({ cls := "SecondHelpings", name := "eaters", desc := "()I" } : Jvm.MethodName)) ∈ lw_all := lw_g (lw_at lw_m4 207 rfl) rfl
theorem q1021 : (Jvm.Cond.selects "SecondHelpings" ({ cls := "SecondHelpings", name := "eaters", desc := "()I" } : Jvm.MethodName) ({ cls := "SecondHelpings", name := "eaters", desc := "()I" } : Jvm.MethodName)) ∈ lw_all := lw_g (lw_at lw_m4 208 rfl) rfl
theorem q1022 : (Jvm.Cond.code ({ cls := "SecondHelpings", name := "eaters", desc := "()I" } : Jvm.MethodName) prog_1_method_34_code (6 : Nat) (Option.some Jvm.ClassFile.FieldType.int)) ∈ lw_all := lw_g (lw_at lw_m4 209 rfl) rfl
theorem q1023 : (Jvm.Cond.methodLink "SecondHelpings" (357 : Nat) ({ cls := "SecondHelpings", name := "one", desc := "(I)I" } : Jvm.MethodName)) ∈ lw_all := lw_g (lw_at lw_m4 210 rfl) rfl
theorem q1024 : (Jvm.Cond.privateMethod ({ cls := "SecondHelpings", name := "one", desc := "(I)I" } : Jvm.MethodName)) ∈ lw_tbl := lw_at lw_m4 211 rfl
theorem q1025 : (Jvm.Cond.instanceMethod ({ cls := "SecondHelpings", name := "one", desc := "(I)I" } : Jvm.MethodName)) ∈ lw_all := lw_g (lw_at lw_m4 212 rfl) rfl
theorem q1026 : (Jvm.Cond.code ({ cls := "SecondHelpings", name := "one", desc := "(I)I" } : Jvm.MethodName) prog_1_method_6_code (2 : Nat) (Option.some Jvm.ClassFile.FieldType.int)) ∈ lw_all := lw_g (lw_at lw_m4 213 rfl) rfl
theorem q1027 : (Jvm.Cond.methodLink "SecondHelpings" (360 : Nat) ({ cls := "SecondHelpings", name := "onPlates", desc := "(II)I" } : Jvm.MethodName)) ∈ lw_all := lw_g (lw_at lw_m4 214 rfl) rfl
theorem q1028 : (Jvm.Cond.privateMethod ({ cls := "SecondHelpings", name := "onPlates", desc := "(II)I" } : Jvm.MethodName)) ∈ lw_tbl := lw_at lw_m4 215 rfl
theorem q1029 : (Jvm.Cond.instanceMethod ({ cls := "SecondHelpings", name := "onPlates", desc := "(II)I" } : Jvm.MethodName)) ∈ lw_all := lw_g (lw_at lw_m4 216 rfl) rfl
theorem q1030 : (Jvm.Cond.code ({ cls := "SecondHelpings", name := "onPlates", desc := "(II)I" } : Jvm.MethodName) prog_1_method_33_code (5 : Nat) (Option.some Jvm.ClassFile.FieldType.int)) ∈ lw_all := lw_g (lw_at lw_m4 217 rfl) rfl
theorem q1031 : (Jvm.Cond.methodLink "SecondHelpings" (241 : Nat) ({ cls := "SecondHelpings", name := "has", desc := "(II)Z" } : Jvm.MethodName)) ∈ lw_all := lw_g (lw_at lw_m4 218 rfl) rfl
theorem q1032 : (Jvm.Cond.methodLink "SecondHelpings" (374 : Nat) ({ cls := "java/lang/Math", name := "abs", desc := "(I)I" } : Jvm.MethodName)) ∈ lw_all := lw_g (lw_at lw_m4 219 rfl) rfl
theorem q1036 : (Jvm.Cond.instanceMethod ({ cls := "SecondHelpings", name := "surely", desc := "()I" } : Jvm.MethodName)) ∈ lw_all := lw_g (lw_at lw_m4 223 rfl) rfl
theorem q1037 : (Jvm.Cond.selects "SecondHelpings" ({ cls := "SecondHelpings", name := "surely", desc := "()I" } : Jvm.MethodName) ({ cls := "SecondHelpings", name := "surely", desc := "()I" } : Jvm.MethodName)) ∈ lw_all := lw_g (lw_at lw_m4 224 rfl) rfl
theorem q1038 : (Jvm.Cond.code ({ cls := "SecondHelpings", name := "surely", desc := "()I" } : Jvm.MethodName) prog_1_method_35_code (1 : Nat) (Option.some Jvm.ClassFile.FieldType.int)) ∈ lw_all := lw_g (lw_at lw_m4 225 rfl) rfl
theorem q1040 : (Jvm.Cond.instanceMethod ({ cls := "SecondHelpings", name := "ask", desc := "()I" } : Jvm.MethodName)) ∈ lw_all := lw_g (lw_at lw_m4 227 rfl) rfl
theorem q1041 : (Jvm.Cond.selects "SecondHelpings" ({ cls := "SecondHelpings", name := "ask", desc := "()I" } : Jvm.MethodName) ({ cls := "SecondHelpings", name := "ask", desc := "()I" } : Jvm.MethodName)) ∈ lw_all := lw_g (lw_at lw_m4 228 rfl) rfl
theorem q1042 : (Jvm.Cond.code ({ cls := "SecondHelpings", name := "ask", desc := "()I" } : Jvm.MethodName) prog_1_method_36_code (1 : Nat) (Option.some Jvm.ClassFile.FieldType.int)) ∈ lw_all := lw_g (lw_at lw_m4 229 rfl) rfl
theorem q1044 : (Jvm.Cond.instanceMethod ({ cls := "SecondHelpings", name := "share", desc := "(III)I" } : Jvm.MethodName)) ∈ lw_all := lw_g (lw_at lw_m4 231 rfl) rfl
theorem q1045 : (Jvm.Cond.selects "SecondHelpings" ({ cls := "SecondHelpings", name := "share", desc := "(III)I" } : Jvm.MethodName) ({ cls := "SecondHelpings", name := "share", desc := "(III)I" } : Jvm.MethodName)) ∈ lw_all := lw_g (lw_at lw_m4 232 rfl) rfl
theorem q1046 : (Jvm.Cond.code ({ cls := "SecondHelpings", name := "share", desc := "(III)I" } : Jvm.MethodName) prog_1_method_37_code (8 : Nat) (Option.some Jvm.ClassFile.FieldType.int)) ∈ lw_all := lw_g (lw_at lw_m4 233 rfl) rfl
theorem q1048 : (Jvm.Cond.instanceMethod ({ cls := "SecondHelpings", name := "last", desc := "(I)I" } : Jvm.MethodName)) ∈ lw_all := lw_g (lw_at lw_m4 235 rfl) rfl
theorem q1049 : (Jvm.Cond.selects "SecondHelpings" ({ cls := "SecondHelpings", name := "last", desc := "(I)I" } : Jvm.MethodName) ({ cls := "SecondHelpings", name := "last", desc := "(I)I" } : Jvm.MethodName)) ∈ lw_all := lw_g (lw_at lw_m4 236 rfl) rfl
theorem q1050 : (Jvm.Cond.code ({ cls := "SecondHelpings", name := "last", desc := "(I)I" } : Jvm.MethodName) prog_1_method_38_code (6 : Nat) (Option.some Jvm.ClassFile.FieldType.int)) ∈ lw_all := lw_g (lw_at lw_m4 237 rfl) rfl
theorem q1052 : (Jvm.Cond.instanceMethod ({ cls := "SecondHelpings", name := "seats", desc := "()I" } : Jvm.MethodName)) ∈ lw_all := lw_g (lw_at lw_m4 239 rfl) rfl
theorem q1053 : (Jvm.Cond.selects "SecondHelpings" ({ cls := "SecondHelpings", name := "seats", desc := "()I" } : Jvm.MethodName) ({ cls := "SecondHelpings", name := "seats", desc := "()I" } : Jvm.MethodName)) ∈ lw_all := lw_g (lw_at lw_m5 0 rfl) rfl
theorem q1054 : (Jvm.Cond.code ({ cls := "SecondHelpings", name := "seats", desc := "()I" } : Jvm.MethodName) prog_1_method_40_code (1 : Nat) (Option.some Jvm.ClassFile.FieldType.int)) ∈ lw_all := lw_g (lw_at lw_m5 1 rfl) rfl
theorem q1055 : (Jvm.Cond.methodLink "SecondHelpings" (382 : Nat) ({ cls := "SecondHelpings", name := "sits", desc := "(III)V" } : Jvm.MethodName)) ∈ lw_all := lw_g (lw_at lw_m5 2 rfl) rfl
theorem q1056 : (Jvm.Cond.privateMethod ({ cls := "SecondHelpings", name := "sits", desc := "(III)V" } : Jvm.MethodName)) ∈ lw_tbl := lw_at lw_m5 3 rfl
theorem q1057 : (Jvm.Cond.instanceMethod ({ cls := "SecondHelpings", name := "sits", desc := "(III)V" } : Jvm.MethodName)) ∈ lw_all := lw_g (lw_at lw_m5 4 rfl) rfl
theorem q1058 : (Jvm.Cond.code ({ cls := "SecondHelpings", name := "sits", desc := "(III)V" } : Jvm.MethodName) prog_1_method_39_code (6 : Nat) (Option.none : Option Jvm.ClassFile.FieldType)) ∈ lw_all := lw_g (lw_at lw_m5 5 rfl) rfl
theorem q1060 : (Jvm.Cond.instanceMethod ({ cls := "SecondHelpings", name := "seatAt", desc := "(I)I" } : Jvm.MethodName)) ∈ lw_all := lw_g (lw_at lw_m5 7 rfl) rfl
theorem q1061 : (Jvm.Cond.selects "SecondHelpings" ({ cls := "SecondHelpings", name := "seatAt", desc := "(I)I" } : Jvm.MethodName) ({ cls := "SecondHelpings", name := "seatAt", desc := "(I)I" } : Jvm.MethodName)) ∈ lw_all := lw_g (lw_at lw_m5 8 rfl) rfl
theorem q1062 : (Jvm.Cond.code ({ cls := "SecondHelpings", name := "seatAt", desc := "(I)I" } : Jvm.MethodName) prog_1_method_41_code (2 : Nat) (Option.some Jvm.ClassFile.FieldType.int)) ∈ lw_all := lw_g (lw_at lw_m5 9 rfl) rfl
theorem q1064 : (Jvm.Cond.instanceMethod ({ cls := "SecondHelpings", name := "left", desc := "(I)I" } : Jvm.MethodName)) ∈ lw_all := lw_g (lw_at lw_m5 11 rfl) rfl
theorem q1065 : (Jvm.Cond.selects "SecondHelpings" ({ cls := "SecondHelpings", name := "left", desc := "(I)I" } : Jvm.MethodName) ({ cls := "SecondHelpings", name := "left", desc := "(I)I" } : Jvm.MethodName)) ∈ lw_all := lw_g (lw_at lw_m5 12 rfl) rfl
theorem q1066 : (Jvm.Cond.code ({ cls := "SecondHelpings", name := "left", desc := "(I)I" } : Jvm.MethodName) prog_1_method_42_code (3 : Nat) (Option.some Jvm.ClassFile.FieldType.int)) ∈ lw_all := lw_g (lw_at lw_m5 13 rfl) rfl
theorem q1067 : (Jvm.Cond.methodLink "SecondHelpings" (236 : Nat) ({ cls := "SecondHelpings$State", name := "isDead", desc := "(I)Z" } : Jvm.MethodName)) ∈ lw_all := lw_g (lw_at lw_m5 14 rfl) rfl
theorem q1068 : (Jvm.Cond.methodLink "SecondHelpings" (250 : Nat) ({ cls := "SecondHelpings$State", name := "on", desc := "(I)I" } : Jvm.MethodName)) ∈ lw_all := lw_g (lw_at lw_m5 15 rfl) rfl
theorem q1070 : (Jvm.Cond.instanceMethod ({ cls := "SecondHelpings", name := "kin", desc := "(II)I" } : Jvm.MethodName)) ∈ lw_all := lw_g (lw_at lw_m5 17 rfl) rfl
theorem q1071 : (Jvm.Cond.selects "SecondHelpings" ({ cls := "SecondHelpings", name := "kin", desc := "(II)I" } : Jvm.MethodName) ({ cls := "SecondHelpings", name := "kin", desc := "(II)I" } : Jvm.MethodName)) ∈ lw_all := lw_g (lw_at lw_m5 18 rfl) rfl
theorem q1072 : (Jvm.Cond.code ({ cls := "SecondHelpings", name := "kin", desc := "(II)I" } : Jvm.MethodName) prog_1_method_43_code (8 : Nat) (Option.some Jvm.ClassFile.FieldType.int)) ∈ lw_all := lw_g (lw_at lw_m5 19 rfl) rfl
theorem q1073 : (Jvm.Cond.methodLink "SecondHelpings" (385 : Nat) ({ cls := "SecondHelpings$Board", name := "areNear", desc := "(II)Z" } : Jvm.MethodName)) ∈ lw_all := lw_g (lw_at lw_m5 20 rfl) rfl
theorem q1078 : (Jvm.Cond.instanceMethod ({ cls := "SecondHelpings", name := "hungriest", desc := "()I" } : Jvm.MethodName)) ∈ lw_all := lw_g (lw_at lw_m5 25 rfl) rfl
theorem q1079 : (Jvm.Cond.selects "SecondHelpings" ({ cls := "SecondHelpings", name := "hungriest", desc := "()I" } : Jvm.MethodName) ({ cls := "SecondHelpings", name := "hungriest", desc := "()I" } : Jvm.MethodName)) ∈ lw_all := lw_g (lw_at lw_m5 26 rfl) rfl
theorem q1080 : (Jvm.Cond.code ({ cls := "SecondHelpings", name := "hungriest", desc := "()I" } : Jvm.MethodName) prog_1_method_44_code (3 : Nat) (Option.some Jvm.ClassFile.FieldType.int)) ∈ lw_all := lw_g (lw_at lw_m5 27 rfl) rfl
theorem q1082 : (Jvm.Cond.instanceMethod ({ cls := "SecondHelpings", name := "will", desc := "(I)I" } : Jvm.MethodName)) ∈ lw_all := lw_g (lw_at lw_m5 29 rfl) rfl
theorem q1083 : (Jvm.Cond.selects "SecondHelpings" ({ cls := "SecondHelpings", name := "will", desc := "(I)I" } : Jvm.MethodName) ({ cls := "SecondHelpings", name := "will", desc := "(I)I" } : Jvm.MethodName)) ∈ lw_all := lw_g (lw_at lw_m5 30 rfl) rfl
theorem q1084 : (Jvm.Cond.code ({ cls := "SecondHelpings", name := "will", desc := "(I)I" } : Jvm.MethodName) prog_1_method_48_code (3 : Nat) (Option.some Jvm.ClassFile.FieldType.int)) ∈ lw_all := lw_g (lw_at lw_m5 31 rfl) rfl
theorem q1085 : (Jvm.Cond.methodLink "SecondHelpings" (406 : Nat) ({ cls := "SecondHelpings", name := "put", desc := "(J)V" } : Jvm.MethodName)) ∈ lw_all := lw_g (lw_at lw_m5 32 rfl) rfl
theorem q1086 : (Jvm.Cond.privateMethod ({ cls := "SecondHelpings", name := "put", desc := "(J)V" } : Jvm.MethodName)) ∈ lw_tbl := lw_at lw_m5 33 rfl
theorem q1087 : (Jvm.Cond.instanceMethod ({ cls := "SecondHelpings", name := "put", desc := "(J)V" } : Jvm.MethodName)) ∈ lw_all := lw_g (lw_at lw_m5 34 rfl) rfl
theorem q1088 : (Jvm.Cond.code ({ cls := "SecondHelpings", name := "put", desc := "(J)V" } : Jvm.MethodName) prog_1_method_47_code (4 : Nat) (Option.none : Option Jvm.ClassFile.FieldType)) ∈ lw_all := lw_g (lw_at lw_m5 35 rfl) rfl
theorem q1089 : (Jvm.Cond.constantLong "SecondHelpings" (400 : Nat) (255 : Int64)) ∈ lw_all := lw_g (lw_at lw_m5 36 rfl) rfl
theorem q1090 : (Jvm.Cond.methodLink "SecondHelpings" (397 : Nat) ({ cls := "SecondHelpings", name := "put", desc := "(I)V" } : Jvm.MethodName)) ∈ lw_all := lw_g (lw_at lw_m5 37 rfl) rfl
theorem q1091 : (Jvm.Cond.privateMethod ({ cls := "SecondHelpings", name := "put", desc := "(I)V" } : Jvm.MethodName)) ∈ lw_tbl := lw_at lw_m5 38 rfl
theorem q1092 : (Jvm.Cond.instanceMethod ({ cls := "SecondHelpings", name := "put", desc := "(I)V" } : Jvm.MethodName)) ∈ lw_all := lw_g (lw_at lw_m5 39 rfl) rfl
theorem q1093 : (Jvm.Cond.code ({ cls := "SecondHelpings", name := "put", desc := "(I)V" } : Jvm.MethodName) prog_1_method_45_code (2 : Nat) (Option.none : Option Jvm.ClassFile.FieldType)) ∈ lw_all := lw_g (lw_at lw_m5 40 rfl) rfl
theorem q1094 : (Jvm.Cond.stringRef "SecondHelpings" (409 : Nat) " leaves ") ∈ lw_tbl := lw_at lw_m5 41 rfl
theorem q1095 : (Jvm.Cond.methodLink "SecondHelpings" (411 : Nat) ({ cls := "SecondHelpings", name := "put", desc := "(Ljava/lang/String;)V" } : Jvm.MethodName)) ∈ lw_all := lw_g (lw_at lw_m5 42 rfl) rfl
theorem q1096 : (Jvm.Cond.privateMethod ({ cls := "SecondHelpings", name := "put", desc := "(Ljava/lang/String;)V" } : Jvm.MethodName)) ∈ lw_tbl := lw_at lw_m5 43 rfl
theorem q1097 : (Jvm.Cond.instanceMethod ({ cls := "SecondHelpings", name := "put", desc := "(Ljava/lang/String;)V" } : Jvm.MethodName)) ∈ lw_all := lw_g (lw_at lw_m5 44 rfl) rfl
theorem q1098 : (Jvm.Cond.code ({ cls := "SecondHelpings", name := "put", desc := "(Ljava/lang/String;)V" } : Jvm.MethodName) prog_1_method_46_code (3 : Nat) (Option.none : Option Jvm.ClassFile.FieldType)) ∈ lw_all := lw_g (lw_at lw_m5 45 rfl) rfl
theorem q1099 : (Jvm.Cond.methodLink "SecondHelpings" (391 : Nat) ({ cls := "java/lang/String", name := "length", desc := "()I" } : Jvm.MethodName)) ∈ lw_all := lw_g (lw_at lw_m5 46 rfl) rfl
theorem q1100 : (Jvm.Cond.methodLink "SecondHelpings" (393 : Nat) ({ cls := "java/lang/String", name := "charAt", desc := "(I)C" } : Jvm.MethodName)) ∈ lw_all := lw_g (lw_at lw_m5 47 rfl) rfl
theorem q1101 : (Jvm.Cond.stringRef "SecondHelpings" (414 : Nat) "nothing") ∈ lw_tbl := lw_at lw_m5 48 rfl
theorem q1102 : (Jvm.Cond.methodLink "SecondHelpings" (416 : Nat) ({ cls := "java/lang/Integer", name := "toString", desc := "(I)Ljava/lang/String;" } : Jvm.MethodName)) ∈ lw_all := lw_g (lw_at lw_m5 49 rfl) rfl
theorem q1141 : (Jvm.Cond.stringRef "SecondHelpings" (420 : Nat) " to ") ∈ lw_tbl := lw_at lw_m5 88 rfl
theorem q1142 : (Jvm.Cond.stringRef "SecondHelpings" (422 : Nat) "nobody") ∈ lw_tbl := lw_at lw_m5 89 rfl
theorem q1144 : (Jvm.Cond.instanceMethod ({ cls := "SecondHelpings", name := "byteAt", desc := "(I)I" } : Jvm.MethodName)) ∈ lw_all := lw_g (lw_at lw_m5 91 rfl) rfl
theorem q1145 : (Jvm.Cond.selects "SecondHelpings" ({ cls := "SecondHelpings", name := "byteAt", desc := "(I)I" } : Jvm.MethodName) ({ cls := "SecondHelpings", name := "byteAt", desc := "(I)I" } : Jvm.MethodName)) ∈ lw_all := lw_g (lw_at lw_m5 92 rfl) rfl
theorem q1146 : (Jvm.Cond.code ({ cls := "SecondHelpings", name := "byteAt", desc := "(I)I" } : Jvm.MethodName) prog_1_method_49_code (2 : Nat) (Option.some Jvm.ClassFile.FieldType.int)) ∈ lw_all := lw_g (lw_at lw_m5 93 rfl) rfl
theorem q1148 : (Jvm.Cond.instanceMethod ({ cls := "SecondHelpings", name := "drawn", desc := "(II)I" } : Jvm.MethodName)) ∈ lw_all := lw_g (lw_at lw_m5 95 rfl) rfl
theorem q1149 : (Jvm.Cond.selects "SecondHelpings" ({ cls := "SecondHelpings", name := "drawn", desc := "(II)I" } : Jvm.MethodName) ({ cls := "SecondHelpings", name := "drawn", desc := "(II)I" } : Jvm.MethodName)) ∈ lw_all := lw_g (lw_at lw_m5 96 rfl) rfl
theorem q1150 : (Jvm.Cond.code ({ cls := "SecondHelpings", name := "drawn", desc := "(II)I" } : Jvm.MethodName) prog_1_method_50_code (3 : Nat) (Option.some Jvm.ClassFile.FieldType.int)) ∈ lw_all := lw_g (lw_at lw_m5 97 rfl) rfl
theorem q1151 : (Jvm.Cond.methodLink "SecondHelpings" (424 : Nat) ({ cls := "SecondHelpings$State", name := "draws", desc := "(LSecondHelpings$Board;II)I" } : Jvm.MethodName)) ∈ lw_all := lw_g (lw_at lw_m5 98 rfl) rfl
theorem q1167 : (Jvm.Cond.instanceMethod ({ cls := "SecondHelpings", name := "odds", desc := "(III)I" } : Jvm.MethodName)) ∈ lw_all := lw_g (lw_at lw_m5 114 rfl) rfl
theorem q1168 : (Jvm.Cond.selects "SecondHelpings" ({ cls := "SecondHelpings", name := "odds", desc := "(III)I" } : Jvm.MethodName) ({ cls := "SecondHelpings", name := "odds", desc := "(III)I" } : Jvm.MethodName)) ∈ lw_all := lw_g (lw_at lw_m5 115 rfl) rfl
theorem q1169 : (Jvm.Cond.code ({ cls := "SecondHelpings", name := "odds", desc := "(III)I" } : Jvm.MethodName) prog_1_method_51_code (6 : Nat) (Option.some Jvm.ClassFile.FieldType.int)) ∈ lw_all := lw_g (lw_at lw_m5 116 rfl) rfl
theorem q1171 : (Jvm.Cond.instanceMethod ({ cls := "SecondHelpings", name := "book", desc := "(I)I" } : Jvm.MethodName)) ∈ lw_all := lw_g (lw_at lw_m5 118 rfl) rfl
theorem q1172 : (Jvm.Cond.selects "SecondHelpings" ({ cls := "SecondHelpings", name := "book", desc := "(I)I" } : Jvm.MethodName) ({ cls := "SecondHelpings", name := "book", desc := "(I)I" } : Jvm.MethodName)) ∈ lw_all := lw_g (lw_at lw_m5 119 rfl) rfl
theorem q1173 : (Jvm.Cond.codeWith ({ cls := "SecondHelpings", name := "book", desc := "(I)I" } : Jvm.MethodName) prog_1_method_52_code (7 : Nat) (Option.some Jvm.ClassFile.FieldType.int) [((22 : Nat), (29 : Nat), (32 : Nat), (13 : Nat))]) ∈ lw_all := lw_g (lw_at lw_m5 120 rfl) rfl
theorem q1174 : (Jvm.Cond.methodLink "SecondHelpings" (427 : Nat) ({ cls := "SecondHelpings$BookReader", name := "read", desc := "()V" } : Jvm.MethodName)) ∈ lw_all := lw_g (lw_at lw_m5 121 rfl) rfl
theorem q1298 : (Jvm.Cond.methodLink "SecondHelpings" (436 : Nat) ({ cls := "SecondHelpings$Line", name := "why", desc := "(LSecondHelpings$Board;LSecondHelpings$State;)I" } : Jvm.MethodName)) ∈ lw_all := lw_g (lw_at lw_m6 5 rfl) rfl
theorem q1340 : (Jvm.Cond.methodLink "SecondHelpings" (442 : Nat) ({ cls := "SecondHelpings$Line", name := "live", desc := "(LSecondHelpings$Board;LSecondHelpings$State;)V" } : Jvm.MethodName)) ∈ lw_all := lw_g (lw_at lw_m6 47 rfl) rfl
theorem q1370 : (Jvm.Cond.instanceMethod ({ cls := "SecondHelpings", name := "told", desc := "(I)I" } : Jvm.MethodName)) ∈ lw_all := lw_g (lw_at lw_m6 77 rfl) rfl
theorem q1371 : (Jvm.Cond.selects "SecondHelpings" ({ cls := "SecondHelpings", name := "told", desc := "(I)I" } : Jvm.MethodName) ({ cls := "SecondHelpings", name := "told", desc := "(I)I" } : Jvm.MethodName)) ∈ lw_all := lw_g (lw_at lw_m6 78 rfl) rfl
theorem q1372 : (Jvm.Cond.code ({ cls := "SecondHelpings", name := "told", desc := "(I)I" } : Jvm.MethodName) prog_1_method_53_code (2 : Nat) (Option.some Jvm.ClassFile.FieldType.int)) ∈ lw_all := lw_g (lw_at lw_m6 79 rfl) rfl
theorem q1374 : (Jvm.Cond.instanceMethod ({ cls := "SecondHelpings", name := "sentence", desc := "()I" } : Jvm.MethodName)) ∈ lw_all := lw_g (lw_at lw_m6 81 rfl) rfl
theorem q1375 : (Jvm.Cond.selects "SecondHelpings" ({ cls := "SecondHelpings", name := "sentence", desc := "()I" } : Jvm.MethodName) ({ cls := "SecondHelpings", name := "sentence", desc := "()I" } : Jvm.MethodName)) ∈ lw_all := lw_g (lw_at lw_m6 82 rfl) rfl
theorem q1376 : (Jvm.Cond.codeWith ({ cls := "SecondHelpings", name := "sentence", desc := "()I" } : Jvm.MethodName) prog_1_method_54_code (2 : Nat) (Option.some Jvm.ClassFile.FieldType.int) [((9 : Nat), (27 : Nat), (28 : Nat), (13 : Nat))]) ∈ lw_all := lw_g (lw_at lw_m6 83 rfl) rfl
theorem q1377 : (Jvm.Cond.methodLink "SecondHelpings" (449 : Nat) ({ cls := "SecondHelpings$SentenceReader", name := "read", desc := "()LSecondHelpings$Cond;" } : Jvm.MethodName)) ∈ lw_all := lw_g (lw_at lw_m6 84 rfl) rfl
theorem q1487 : (Jvm.Cond.instanceMethod ({ cls := "SecondHelpings", name := "said", desc := "(I)I" } : Jvm.MethodName)) ∈ lw_all := lw_g (lw_at lw_m6 194 rfl) rfl
theorem q1488 : (Jvm.Cond.selects "SecondHelpings" ({ cls := "SecondHelpings", name := "said", desc := "(I)I" } : Jvm.MethodName) ({ cls := "SecondHelpings", name := "said", desc := "(I)I" } : Jvm.MethodName)) ∈ lw_all := lw_g (lw_at lw_m6 195 rfl) rfl
theorem q1489 : (Jvm.Cond.code ({ cls := "SecondHelpings", name := "said", desc := "(I)I" } : Jvm.MethodName) prog_1_method_55_code (4 : Nat) (Option.some Jvm.ClassFile.FieldType.int)) ∈ lw_all := lw_g (lw_at lw_m6 196 rfl) rfl
theorem q1490 : (Jvm.Cond.interfaceEntry "SecondHelpings" (455 : Nat)) ∈ lw_tbl := lw_at lw_m6 197 rfl
theorem q1491 : (Jvm.Cond.methodLink "SecondHelpings" (455 : Nat) ({ cls := "SecondHelpings$Cond", name := "is", desc := "(LSecondHelpings;I)Z" } : Jvm.MethodName)) ∈ lw_all := lw_g (lw_at lw_m6 198 rfl) rfl
theorem q1534 : (Jvm.Cond.instanceMethod ({ cls := "SecondHelpings", name := "image", desc := "(I)Z" } : Jvm.MethodName)) ∈ lw_all := lw_g (lw_at lw_m7 1 rfl) rfl
theorem q1535 : (Jvm.Cond.selects "SecondHelpings" ({ cls := "SecondHelpings", name := "image", desc := "(I)Z" } : Jvm.MethodName) ({ cls := "SecondHelpings", name := "image", desc := "(I)Z" } : Jvm.MethodName)) ∈ lw_all := lw_g (lw_at lw_m7 2 rfl) rfl
theorem q1536 : (Jvm.Cond.code ({ cls := "SecondHelpings", name := "image", desc := "(I)Z" } : Jvm.MethodName) prog_1_method_56_code (3 : Nat) (Option.some Jvm.ClassFile.FieldType.boolean)) ∈ lw_all := lw_g (lw_at lw_m7 3 rfl) rfl
theorem q1538 : (Jvm.Cond.methodLinkNest "SecondHelpings" (461 : Nat) ({ cls := "SecondHelpings$Kept", name := "<init>", desc := "()V" } : Jvm.MethodName) "SecondHelpings") ∈ lw_tbl := lw_at lw_m7 5 rfl
theorem q1544 : (Jvm.Cond.fieldLinkNest "SecondHelpings" (462 : Nat) "SecondHelpings$Kept" "board" "LSecondHelpings$Board;" "SecondHelpings") ∈ lw_tbl := lw_at lw_m7 11 rfl
theorem q1546 : (Jvm.Cond.fieldLinkNest "SecondHelpings" (463 : Nat) "SecondHelpings$Kept" "state" "LSecondHelpings$State;" "SecondHelpings") ∈ lw_tbl := lw_at lw_m7 13 rfl
theorem q1547 : (Jvm.Cond.fieldLinkNest "SecondHelpings" (466 : Nat) "SecondHelpings$Kept" "sentence" "LSecondHelpings$Cond;" "SecondHelpings") ∈ lw_tbl := lw_at lw_m7 14 rfl
theorem q1556 : (Jvm.Cond.instanceMethod ({ cls := "SecondHelpings", name := "restore", desc := "(I)Z" } : Jvm.MethodName)) ∈ lw_all := lw_g (lw_at lw_m7 23 rfl) rfl
theorem q1557 : (Jvm.Cond.selects "SecondHelpings" ({ cls := "SecondHelpings", name := "restore", desc := "(I)Z" } : Jvm.MethodName) ({ cls := "SecondHelpings", name := "restore", desc := "(I)Z" } : Jvm.MethodName)) ∈ lw_all := lw_g (lw_at lw_m7 24 rfl) rfl
theorem q1558 : (Jvm.Cond.code ({ cls := "SecondHelpings", name := "restore", desc := "(I)Z" } : Jvm.MethodName) prog_1_method_57_code (3 : Nat) (Option.some Jvm.ClassFile.FieldType.boolean)) ∈ lw_all := lw_g (lw_at lw_m7 25 rfl) rfl
theorem q1560 : (Jvm.Cond.instanceMethod ({ cls := "SecondHelpings", name := "count", desc := "(I)I" } : Jvm.MethodName)) ∈ lw_all := lw_g (lw_at lw_m7 27 rfl) rfl
theorem q1561 : (Jvm.Cond.selects "SecondHelpings" ({ cls := "SecondHelpings", name := "count", desc := "(I)I" } : Jvm.MethodName) ({ cls := "SecondHelpings", name := "count", desc := "(I)I" } : Jvm.MethodName)) ∈ lw_all := lw_g (lw_at lw_m7 28 rfl) rfl
theorem q1562 : (Jvm.Cond.code ({ cls := "SecondHelpings", name := "count", desc := "(I)I" } : Jvm.MethodName) prog_1_method_58_code (2 : Nat) (Option.some Jvm.ClassFile.FieldType.int)) ∈ lw_all := lw_g (lw_at lw_m7 29 rfl) rfl
theorem q1568 : (Jvm.Cond.instanceMethod ({ cls := "SecondHelpings", name := "person", desc := "(II)I" } : Jvm.MethodName)) ∈ lw_all := lw_g (lw_at lw_m7 35 rfl) rfl
theorem q1569 : (Jvm.Cond.selects "SecondHelpings" ({ cls := "SecondHelpings", name := "person", desc := "(II)I" } : Jvm.MethodName) ({ cls := "SecondHelpings", name := "person", desc := "(II)I" } : Jvm.MethodName)) ∈ lw_all := lw_g (lw_at lw_m7 36 rfl) rfl
theorem q1570 : (Jvm.Cond.code ({ cls := "SecondHelpings", name := "person", desc := "(II)I" } : Jvm.MethodName) prog_1_method_14_code (3 : Nat) (Option.some Jvm.ClassFile.FieldType.int)) ∈ lw_all := lw_g (lw_at lw_m7 37 rfl) rfl
theorem q1571 : (Jvm.Cond.methodLink "SecondHelpings" (227 : Nat) ({ cls := "SecondHelpings", name := "must", desc := "(Z)V" } : Jvm.MethodName)) ∈ lw_all := lw_g (lw_at lw_m7 38 rfl) rfl
theorem q1572 : (Jvm.Cond.static ({ cls := "SecondHelpings", name := "must", desc := "(Z)V" } : Jvm.MethodName)) ∈ lw_all := lw_g (lw_at lw_m7 39 rfl) rfl
theorem q1573 : (Jvm.Cond.code ({ cls := "SecondHelpings", name := "must", desc := "(Z)V" } : Jvm.MethodName) prog_1_method_8_code (1 : Nat) (Option.none : Option Jvm.ClassFile.FieldType)) ∈ lw_all := lw_g (lw_at lw_m7 40 rfl) rfl
theorem q1574 : (Jvm.Cond.classLink "SecondHelpings" (187 : Nat) "java/util/NoSuchElementException") ∈ lw_all := lw_g (lw_at lw_m7 41 rfl) rfl
theorem q1585 : (Jvm.Cond.methodLink "SecondHelpings" (189 : Nat) ({ cls := "java/util/NoSuchElementException", name := "<init>", desc := "()V" } : Jvm.MethodName)) ∈ lw_all := lw_g (lw_at lw_m7 52 rfl) rfl
theorem q1597 : (Jvm.Cond.methodLink "SecondHelpings" (254 : Nat) ({ cls := "SecondHelpings$Board", name := "children", desc := "(I)I" } : Jvm.MethodName)) ∈ lw_all := lw_g (lw_at lw_m7 64 rfl) rfl
theorem q2253 : (Jvm.Cond.castable "SecondHelpings" "java/lang/Object") ∈ lw_tbl := lw_at lw_m10 0 rfl
theorem in_X1 : ∀ w ∈ wsX10, w ∈ lw_all := lw_in wsX10 [556, 558, 560, 562, 564, 566, 568, 570, 572, 574, 576, 578, 580, 582, 584, 586, 588, 590, 592, 594, 596, 598, 600, 602, 604, 606, 608, 610, 612, 614, 616, 618, 620, 622, 624, 626] (by decide +kernel) (by decide +kernel)
