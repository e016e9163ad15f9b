/-! SecondHelpingsModel -/
set_option maxRecDepth 100000
def RX9 : String := "SecondHelpingsModel"
def TX9 : u_T := fun k => match k with
  | 0 => ("SecondHelpingsModel", "thrown", "I", false)
  | 1 => ("SecondHelpingsModel", "tape", "[I", true)
  | 2 => ("SecondHelpingsModel", "taped", "I", false)
  | 3 => ("SecondHelpingsModel", "size", "I", false)
  | 4 => ("SecondHelpingsModel", "limit", "I", false)
  | 5 => ("SecondHelpingsModel", "to", "I", false)
  | 6 => ("SecondHelpingsModel", "from", "I", false)
  | 7 => ("SecondHelpingsModel", "kind", "I", false)
  | 8 => ("SecondHelpingsModel", "number", "I", false)
  | 9 => ("SecondHelpingsModel", "sign", "I", false)
  | 10 => ("SecondHelpingsModel", "fault", "I", false)
  | 11 => ("SecondHelpingsModel", "place", "I", false)
  | 12 => ("SecondHelpingsModel", "word", "J", false)
  | 13 => ("SecondHelpingsModel", "told", "I", false)
  | 14 => ("SecondHelpingsModel", "now", "[I", true)
  | 15 => ("SecondHelpingsModel", "read", "[I", true)
  | 16 => ("SecondHelpingsModel", "kept", "[I", true)
  | 17 => ("SecondHelpingsModel", "snaps", "[I", true)
  | 18 => ("SecondHelpingsModel", "aside", "[I", true)
  | 19 => ("SecondHelpingsModel", "name", "[J", true)
  | 20 => ("SecondHelpingsModel", "readName", "[J", true)
  | 21 => ("SecondHelpingsModel", "keptName", "[J", true)
  | 22 => ("SecondHelpingsModel", "isKept", "[Z", true)
  | 23 => ("SecondHelpingsModel", "snapMany", "I", false)
  | 24 => ("SecondHelpingsModel", "hasLaw", "Z", false)
  | 25 => ("SecondHelpingsModel", "hasDogs", "Z", false)
  | 26 => ("SecondHelpingsModel", "order", "[I", true)
  | 27 => ("SecondHelpingsModel", "ordered", "[I", true)
  | 28 => ("SecondHelpingsModel", "held", "[I", true)
  | 29 => ("SecondHelpingsModel", "orderMany", "I", false)
  | 30 => ("SecondHelpingsModel", "leastWants", "I", false)
  | 31 => ("SecondHelpingsModel", "inSets", "[I", true)
  | 32 => ("SecondHelpingsModel", "surely", "I", false)
  | 33 => ("SecondHelpingsModel", "asked", "I", false)
  | 34 => ("SecondHelpingsModel", "wins", "[Z", true)
  | 35 => ("SecondHelpingsModel", "seat", "[I", true)
  | 36 => ("SecondHelpingsModel", "seated", "[I", true)
  | 37 => ("SecondHelpingsModel", "seatMany", "I", false)
  | 38 => ("SecondHelpingsModel", "seatMost", "I", false)
  | 39 => ("SecondHelpingsModel", "text", "[I", true)
  | 40 => ("SecondHelpingsModel", "texts", "I", false)
  | 41 => ("SecondHelpingsModel", "seed", "I", false)
  | 42 => ("SecondHelpingsModel", "row", "[I", true)
  | 43 => ("SecondHelpingsModel", "written", "[I", true)
  | 44 => ("SecondHelpingsModel", "lineMany", "I", false)
  | 45 => ("SecondHelpingsModel", "hasWritten", "Z", false)
  | 46 => ("SecondHelpingsModel", "node", "[I", true)
  | 47 => ("SecondHelpingsModel", "nodes", "I", false)
  | 48 => ("SecondHelpingsModel", "onesMany", "I", false)
  | 49 => ("SecondHelpingsModel", "within", "I", false)
  | _ => ("SecondHelpingsModel", "top", "I", false)
def tyX9 : Nat → FieldType := fun k => match k with
  | 0 => .int
  | 1 => .array .int
  | 2 => .int
  | 3 => .int
  | 4 => .int
  | 5 => .int
  | 6 => .int
  | 7 => .int
  | 8 => .int
  | 9 => .int
  | 10 => .int
  | 11 => .int
  | 12 => .long
  | 13 => .int
  | 14 => .array .int
  | 15 => .array .int
  | 16 => .array .int
  | 17 => .array .int
  | 18 => .array .int
  | 19 => .array .long
  | 20 => .array .long
  | 21 => .array .long
  | 22 => .array .boolean
  | 23 => .int
  | 24 => .boolean
  | 25 => .boolean
  | 26 => .array .int
  | 27 => .array .int
  | 28 => .array .int
  | 29 => .int
  | 30 => .int
  | 31 => .array .int
  | 32 => .int
  | 33 => .int
  | 34 => .array .boolean
  | 35 => .array .int
  | 36 => .array .int
  | 37 => .int
  | 38 => .int
  | 39 => .array .int
  | 40 => .int
  | 41 => .int
  | 42 => .array .int
  | 43 => .array .int
  | 44 => .int
  | 45 => .boolean
  | 46 => .array .int
  | 47 => .int
  | 48 => .int
  | 49 => .int
  | _ => .int
abbrev wsX90 : List Cond := u_ws RX9 TX9 51
set_option maxRecDepth 100000 in
theorem nmX9 : ∀ a, a < 51 → ∀ b, b < 51 → a ≠ b → (TX9 a).2.1 ≠ (TX9 b).2.1 := by decide +kernel
set_option maxRecDepth 100000 in
theorem tyX9_ok : ∀ k, k < 51 → parseFieldDescriptor (TX9 k).2.2.1 = some (tyX9 k) := by decide +kernel
abbrev cX9_init : ByteArray := prog_25_method_1_code
def yX9_init : MethodName := ⟨RX9, "<init>", "()V"⟩
def dkwX9_init_8 : List UInt8 := [181, 0, 79, 177]
abbrev dktX9_init_8 : List UInt8 := dkwX9_init_8 ++ []
def dkwX9_init_7 : List UInt8 := [42, 17, 0, 160, 188, 10, 181, 0, 73, 42, 7, 188, 10, 181, 0, 76, 42, 17, 0, 240, 188, 10]
abbrev dktX9_init_7 : List UInt8 := dkwX9_init_7 ++ dktX9_init_8
def dkwX9_init_6 : List UInt8 := [42, 16, 7, 188, 10, 181, 0, 64, 42, 16, 7, 188, 10, 181, 0, 67, 42, 16, 64, 188, 10, 181, 0, 70]
abbrev dktX9_init_6 : List UInt8 := dkwX9_init_6 ++ dktX9_init_7
def dkwX9_init_5 : List UInt8 := [188, 10, 181, 0, 51, 42, 2, 181, 0, 54, 42, 2, 181, 0, 58, 42, 17, 1, 244, 188, 4, 181, 0, 61]
abbrev dktX9_init_5 : List UInt8 := dkwX9_init_5 ++ dktX9_init_6
def dkwX9_init_4 : List UInt8 := [181, 0, 42, 42, 16, 7, 188, 10, 181, 0, 45, 42, 17, 2, 13, 188, 10, 181, 0, 48, 42, 16, 7]
abbrev dktX9_init_4 : List UInt8 := dkwX9_init_4 ++ dktX9_init_5
def dkwX9_init_3 : List UInt8 := [181, 0, 32, 42, 16, 26, 188, 11, 181, 0, 35, 42, 5, 188, 4, 181, 0, 38, 42, 16, 7, 188, 10]
abbrev dktX9_init_3 : List UInt8 := dkwX9_init_3 ++ dktX9_init_4
def dkwX9_init_2 : List UInt8 := [181, 0, 22, 42, 16, 75, 188, 10, 181, 0, 25, 42, 16, 13, 188, 11, 181, 0, 28, 42, 16, 13, 188, 11]
abbrev dktX9_init_2 : List UInt8 := dkwX9_init_2 ++ dktX9_init_3
def dkwX9_init_1 : List UInt8 := [16, 72, 188, 10, 181, 0, 16, 42, 17, 3, 10, 188, 10, 181, 0, 19, 42, 17, 2, 88, 188, 10]
abbrev dktX9_init_1 : List UInt8 := dkwX9_init_1 ++ dktX9_init_2
def dkwX9_init_0 : List UInt8 := [42, 183, 0, 1, 42, 17, 3, 172, 188, 10, 181, 0, 7, 42, 17, 1, 133, 188, 10, 181, 0, 13, 42]
abbrev dktX9_init_0 : List UInt8 := dkwX9_init_0 ++ dktX9_init_1
theorem dksX9_init_0 : cX9_init.data.toList.drop 0 = dktX9_init_0 := by decide +kernel
theorem dksX9_init_1 : cX9_init.data.toList.drop 23 = dktX9_init_1 := dk_seg dksX9_init_0 23 rfl rfl
theorem dksX9_init_2 : cX9_init.data.toList.drop 45 = dktX9_init_2 := dk_seg dksX9_init_1 22 rfl rfl
theorem dksX9_init_3 : cX9_init.data.toList.drop 69 = dktX9_init_3 := dk_seg dksX9_init_2 24 rfl rfl
theorem dksX9_init_4 : cX9_init.data.toList.drop 92 = dktX9_init_4 := dk_seg dksX9_init_3 23 rfl rfl
theorem dksX9_init_5 : cX9_init.data.toList.drop 115 = dktX9_init_5 := dk_seg dksX9_init_4 23 rfl rfl
theorem dksX9_init_6 : cX9_init.data.toList.drop 139 = dktX9_init_6 := dk_seg dksX9_init_5 24 rfl rfl
theorem dksX9_init_7 : cX9_init.data.toList.drop 163 = dktX9_init_7 := dk_seg dksX9_init_6 24 rfl rfl
theorem dksX9_init_8 : cX9_init.data.toList.drop 185 = dktX9_init_8 := dk_seg dksX9_init_7 22 rfl rfl
theorem dX9_init_0 : decode cX9_init 0 = .ok (.aload_n 0, 1) := dk_42 (dk_at dksX9_init_0 0 rfl rfl)
theorem dX9_init_1 : decode cX9_init 1 = .ok (.invokespecial 1, 3) := dk_183 0 1 (dk_at dksX9_init_0 1 rfl rfl)
theorem dX9_init_4 : decode cX9_init 4 = .ok (.aload_n 0, 1) := dk_42 (dk_at dksX9_init_0 4 rfl rfl)
theorem dX9_init_5 : decode cX9_init 5 = .ok (.sipush 940, 3) := dk_17 3 172 (dk_at dksX9_init_0 5 rfl rfl)
theorem dX9_init_8 : decode cX9_init 8 = .ok (.newarray .int, 2) := dk_188_10 (dk_at dksX9_init_0 8 rfl rfl)
theorem dX9_init_10 : decode cX9_init 10 = .ok (.putfield 7, 3) := dk_181 0 7 (dk_at dksX9_init_0 10 rfl rfl)
theorem dX9_init_13 : decode cX9_init 13 = .ok (.aload_n 0, 1) := dk_42 (dk_at dksX9_init_0 13 rfl rfl)
theorem dX9_init_14 : decode cX9_init 14 = .ok (.sipush 389, 3) := dk_17 1 133 (dk_at dksX9_init_0 14 rfl rfl)
theorem dX9_init_17 : decode cX9_init 17 = .ok (.newarray .int, 2) := dk_188_10 (dk_at dksX9_init_0 17 rfl rfl)
theorem dX9_init_19 : decode cX9_init 19 = .ok (.putfield 13, 3) := dk_181 0 13 (dk_at dksX9_init_0 19 rfl rfl)
theorem dX9_init_22 : decode cX9_init 22 = .ok (.aload_n 0, 1) := dk_42 (dk_at dksX9_init_0 22 rfl rfl)
theorem dX9_init_23 : decode cX9_init 23 = .ok (.bipush 72, 2) := dk_16 72 (dk_at dksX9_init_1 0 rfl rfl)
theorem dX9_init_25 : decode cX9_init 25 = .ok (.newarray .int, 2) := dk_188_10 (dk_at dksX9_init_1 2 rfl rfl)
theorem dX9_init_27 : decode cX9_init 27 = .ok (.putfield 16, 3) := dk_181 0 16 (dk_at dksX9_init_1 4 rfl rfl)
theorem dX9_init_30 : decode cX9_init 30 = .ok (.aload_n 0, 1) := dk_42 (dk_at dksX9_init_1 7 rfl rfl)
theorem dX9_init_31 : decode cX9_init 31 = .ok (.sipush 778, 3) := dk_17 3 10 (dk_at dksX9_init_1 8 rfl rfl)
theorem dX9_init_34 : decode cX9_init 34 = .ok (.newarray .int, 2) := dk_188_10 (dk_at dksX9_init_1 11 rfl rfl)
theorem dX9_init_36 : decode cX9_init 36 = .ok (.putfield 19, 3) := dk_181 0 19 (dk_at dksX9_init_1 13 rfl rfl)
theorem dX9_init_39 : decode cX9_init 39 = .ok (.aload_n 0, 1) := dk_42 (dk_at dksX9_init_1 16 rfl rfl)
theorem dX9_init_40 : decode cX9_init 40 = .ok (.sipush 600, 3) := dk_17 2 88 (dk_at dksX9_init_1 17 rfl rfl)
theorem dX9_init_43 : decode cX9_init 43 = .ok (.newarray .int, 2) := dk_188_10 (dk_at dksX9_init_1 20 rfl rfl)
theorem dX9_init_45 : decode cX9_init 45 = .ok (.putfield 22, 3) := dk_181 0 22 (dk_at dksX9_init_2 0 rfl rfl)
theorem dX9_init_48 : decode cX9_init 48 = .ok (.aload_n 0, 1) := dk_42 (dk_at dksX9_init_2 3 rfl rfl)
theorem dX9_init_49 : decode cX9_init 49 = .ok (.bipush 75, 2) := dk_16 75 (dk_at dksX9_init_2 4 rfl rfl)
theorem dX9_init_51 : decode cX9_init 51 = .ok (.newarray .int, 2) := dk_188_10 (dk_at dksX9_init_2 6 rfl rfl)
theorem dX9_init_53 : decode cX9_init 53 = .ok (.putfield 25, 3) := dk_181 0 25 (dk_at dksX9_init_2 8 rfl rfl)
theorem dX9_init_56 : decode cX9_init 56 = .ok (.aload_n 0, 1) := dk_42 (dk_at dksX9_init_2 11 rfl rfl)
theorem dX9_init_57 : decode cX9_init 57 = .ok (.bipush 13, 2) := dk_16 13 (dk_at dksX9_init_2 12 rfl rfl)
theorem dX9_init_59 : decode cX9_init 59 = .ok (.newarray .long, 2) := dk_188_11 (dk_at dksX9_init_2 14 rfl rfl)
theorem dX9_init_61 : decode cX9_init 61 = .ok (.putfield 28, 3) := dk_181 0 28 (dk_at dksX9_init_2 16 rfl rfl)
theorem dX9_init_64 : decode cX9_init 64 = .ok (.aload_n 0, 1) := dk_42 (dk_at dksX9_init_2 19 rfl rfl)
theorem dX9_init_65 : decode cX9_init 65 = .ok (.bipush 13, 2) := dk_16 13 (dk_at dksX9_init_2 20 rfl rfl)
theorem dX9_init_67 : decode cX9_init 67 = .ok (.newarray .long, 2) := dk_188_11 (dk_at dksX9_init_2 22 rfl rfl)
theorem dX9_init_69 : decode cX9_init 69 = .ok (.putfield 32, 3) := dk_181 0 32 (dk_at dksX9_init_3 0 rfl rfl)
theorem dX9_init_72 : decode cX9_init 72 = .ok (.aload_n 0, 1) := dk_42 (dk_at dksX9_init_3 3 rfl rfl)
theorem dX9_init_73 : decode cX9_init 73 = .ok (.bipush 26, 2) := dk_16 26 (dk_at dksX9_init_3 4 rfl rfl)
theorem dX9_init_75 : decode cX9_init 75 = .ok (.newarray .long, 2) := dk_188_11 (dk_at dksX9_init_3 6 rfl rfl)
theorem dX9_init_77 : decode cX9_init 77 = .ok (.putfield 35, 3) := dk_181 0 35 (dk_at dksX9_init_3 8 rfl rfl)
theorem dX9_init_80 : decode cX9_init 80 = .ok (.aload_n 0, 1) := dk_42 (dk_at dksX9_init_3 11 rfl rfl)
theorem dX9_init_81 : decode cX9_init 81 = .ok (.iconst 2, 1) := dk_5 (dk_at dksX9_init_3 12 rfl rfl)
theorem dX9_init_82 : decode cX9_init 82 = .ok (.newarray .boolean, 2) := dk_188_4 (dk_at dksX9_init_3 13 rfl rfl)
theorem dX9_init_84 : decode cX9_init 84 = .ok (.putfield 38, 3) := dk_181 0 38 (dk_at dksX9_init_3 15 rfl rfl)
theorem dX9_init_87 : decode cX9_init 87 = .ok (.aload_n 0, 1) := dk_42 (dk_at dksX9_init_3 18 rfl rfl)
theorem dX9_init_88 : decode cX9_init 88 = .ok (.bipush 7, 2) := dk_16 7 (dk_at dksX9_init_3 19 rfl rfl)
theorem dX9_init_90 : decode cX9_init 90 = .ok (.newarray .int, 2) := dk_188_10 (dk_at dksX9_init_3 21 rfl rfl)
theorem dX9_init_92 : decode cX9_init 92 = .ok (.putfield 42, 3) := dk_181 0 42 (dk_at dksX9_init_4 0 rfl rfl)
theorem dX9_init_95 : decode cX9_init 95 = .ok (.aload_n 0, 1) := dk_42 (dk_at dksX9_init_4 3 rfl rfl)
theorem dX9_init_96 : decode cX9_init 96 = .ok (.bipush 7, 2) := dk_16 7 (dk_at dksX9_init_4 4 rfl rfl)
theorem dX9_init_98 : decode cX9_init 98 = .ok (.newarray .int, 2) := dk_188_10 (dk_at dksX9_init_4 6 rfl rfl)
theorem dX9_init_100 : decode cX9_init 100 = .ok (.putfield 45, 3) := dk_181 0 45 (dk_at dksX9_init_4 8 rfl rfl)
theorem dX9_init_103 : decode cX9_init 103 = .ok (.aload_n 0, 1) := dk_42 (dk_at dksX9_init_4 11 rfl rfl)
theorem dX9_init_104 : decode cX9_init 104 = .ok (.sipush 525, 3) := dk_17 2 13 (dk_at dksX9_init_4 12 rfl rfl)
theorem dX9_init_107 : decode cX9_init 107 = .ok (.newarray .int, 2) := dk_188_10 (dk_at dksX9_init_4 15 rfl rfl)
theorem dX9_init_109 : decode cX9_init 109 = .ok (.putfield 48, 3) := dk_181 0 48 (dk_at dksX9_init_4 17 rfl rfl)
theorem dX9_init_112 : decode cX9_init 112 = .ok (.aload_n 0, 1) := dk_42 (dk_at dksX9_init_4 20 rfl rfl)
theorem dX9_init_113 : decode cX9_init 113 = .ok (.bipush 7, 2) := dk_16 7 (dk_at dksX9_init_4 21 rfl rfl)
theorem dX9_init_115 : decode cX9_init 115 = .ok (.newarray .int, 2) := dk_188_10 (dk_at dksX9_init_5 0 rfl rfl)
theorem dX9_init_117 : decode cX9_init 117 = .ok (.putfield 51, 3) := dk_181 0 51 (dk_at dksX9_init_5 2 rfl rfl)
theorem dX9_init_120 : decode cX9_init 120 = .ok (.aload_n 0, 1) := dk_42 (dk_at dksX9_init_5 5 rfl rfl)
theorem dX9_init_121 : decode cX9_init 121 = .ok (.iconst (-1), 1) := dk_2 (dk_at dksX9_init_5 6 rfl rfl)
theorem dX9_init_122 : decode cX9_init 122 = .ok (.putfield 54, 3) := dk_181 0 54 (dk_at dksX9_init_5 7 rfl rfl)
theorem dX9_init_125 : decode cX9_init 125 = .ok (.aload_n 0, 1) := dk_42 (dk_at dksX9_init_5 10 rfl rfl)
theorem dX9_init_126 : decode cX9_init 126 = .ok (.iconst (-1), 1) := dk_2 (dk_at dksX9_init_5 11 rfl rfl)
theorem dX9_init_127 : decode cX9_init 127 = .ok (.putfield 58, 3) := dk_181 0 58 (dk_at dksX9_init_5 12 rfl rfl)
theorem dX9_init_130 : decode cX9_init 130 = .ok (.aload_n 0, 1) := dk_42 (dk_at dksX9_init_5 15 rfl rfl)
theorem dX9_init_131 : decode cX9_init 131 = .ok (.sipush 500, 3) := dk_17 1 244 (dk_at dksX9_init_5 16 rfl rfl)
theorem dX9_init_134 : decode cX9_init 134 = .ok (.newarray .boolean, 2) := dk_188_4 (dk_at dksX9_init_5 19 rfl rfl)
theorem dX9_init_136 : decode cX9_init 136 = .ok (.putfield 61, 3) := dk_181 0 61 (dk_at dksX9_init_5 21 rfl rfl)
theorem dX9_init_139 : decode cX9_init 139 = .ok (.aload_n 0, 1) := dk_42 (dk_at dksX9_init_6 0 rfl rfl)
theorem dX9_init_140 : decode cX9_init 140 = .ok (.bipush 7, 2) := dk_16 7 (dk_at dksX9_init_6 1 rfl rfl)
theorem dX9_init_142 : decode cX9_init 142 = .ok (.newarray .int, 2) := dk_188_10 (dk_at dksX9_init_6 3 rfl rfl)
theorem dX9_init_144 : decode cX9_init 144 = .ok (.putfield 64, 3) := dk_181 0 64 (dk_at dksX9_init_6 5 rfl rfl)
theorem dX9_init_147 : decode cX9_init 147 = .ok (.aload_n 0, 1) := dk_42 (dk_at dksX9_init_6 8 rfl rfl)
theorem dX9_init_148 : decode cX9_init 148 = .ok (.bipush 7, 2) := dk_16 7 (dk_at dksX9_init_6 9 rfl rfl)
theorem dX9_init_150 : decode cX9_init 150 = .ok (.newarray .int, 2) := dk_188_10 (dk_at dksX9_init_6 11 rfl rfl)
theorem dX9_init_152 : decode cX9_init 152 = .ok (.putfield 67, 3) := dk_181 0 67 (dk_at dksX9_init_6 13 rfl rfl)
theorem dX9_init_155 : decode cX9_init 155 = .ok (.aload_n 0, 1) := dk_42 (dk_at dksX9_init_6 16 rfl rfl)
theorem dX9_init_156 : decode cX9_init 156 = .ok (.bipush 64, 2) := dk_16 64 (dk_at dksX9_init_6 17 rfl rfl)
theorem dX9_init_158 : decode cX9_init 158 = .ok (.newarray .int, 2) := dk_188_10 (dk_at dksX9_init_6 19 rfl rfl)
theorem dX9_init_160 : decode cX9_init 160 = .ok (.putfield 70, 3) := dk_181 0 70 (dk_at dksX9_init_6 21 rfl rfl)
theorem dX9_init_163 : decode cX9_init 163 = .ok (.aload_n 0, 1) := dk_42 (dk_at dksX9_init_7 0 rfl rfl)
theorem dX9_init_164 : decode cX9_init 164 = .ok (.sipush 160, 3) := dk_17 0 160 (dk_at dksX9_init_7 1 rfl rfl)
theorem dX9_init_167 : decode cX9_init 167 = .ok (.newarray .int, 2) := dk_188_10 (dk_at dksX9_init_7 4 rfl rfl)
theorem dX9_init_169 : decode cX9_init 169 = .ok (.putfield 73, 3) := dk_181 0 73 (dk_at dksX9_init_7 6 rfl rfl)
theorem dX9_init_172 : decode cX9_init 172 = .ok (.aload_n 0, 1) := dk_42 (dk_at dksX9_init_7 9 rfl rfl)
theorem dX9_init_173 : decode cX9_init 173 = .ok (.iconst 4, 1) := dk_7 (dk_at dksX9_init_7 10 rfl rfl)
theorem dX9_init_174 : decode cX9_init 174 = .ok (.newarray .int, 2) := dk_188_10 (dk_at dksX9_init_7 11 rfl rfl)
theorem dX9_init_176 : decode cX9_init 176 = .ok (.putfield 76, 3) := dk_181 0 76 (dk_at dksX9_init_7 13 rfl rfl)
theorem dX9_init_179 : decode cX9_init 179 = .ok (.aload_n 0, 1) := dk_42 (dk_at dksX9_init_7 16 rfl rfl)
theorem dX9_init_180 : decode cX9_init 180 = .ok (.sipush 240, 3) := dk_17 0 240 (dk_at dksX9_init_7 17 rfl rfl)
theorem dX9_init_183 : decode cX9_init 183 = .ok (.newarray .int, 2) := dk_188_10 (dk_at dksX9_init_7 20 rfl rfl)
theorem dX9_init_185 : decode cX9_init 185 = .ok (.putfield 79, 3) := dk_181 0 79 (dk_at dksX9_init_8 0 rfl rfl)
theorem dX9_init_188 : decode cX9_init 188 = .ok (.return_, 1) := dk_177 (dk_at dksX9_init_8 3 rfl rfl)
abbrev cX9_thrown : ByteArray := prog_25_method_2_code
def yX9_thrown : MethodName := ⟨RX9, "thrown", "()I"⟩
theorem dX9_thrown_0 : decode cX9_thrown 0 = .ok (.aload_n 0, 1) := by decide +kernel
theorem dX9_thrown_1 : decode cX9_thrown 1 = .ok (.getfield 82, 3) := by decide +kernel
theorem dX9_thrown_4 : decode cX9_thrown 4 = .ok (.ireturn, 1) := by decide +kernel
abbrev cX9_feed : ByteArray := prog_25_method_5_code
def yX9_feed : MethodName := ⟨RX9, "feed", "(IIIII)I"⟩
def dkwX9_feed_2 : List UInt8 := [182, 0, 88, 42, 180, 0, 85, 172]
abbrev dktX9_feed_2 : List UInt8 := dkwX9_feed_2 ++ []
def dkwX9_feed_1 : List UInt8 := [182, 0, 88, 42, 28, 182, 0, 88, 42, 29, 182, 0, 88, 42, 21, 4, 182, 0, 88, 42, 21, 5]
abbrev dktX9_feed_1 : List UInt8 := dkwX9_feed_1 ++ dktX9_feed_2
def dkwX9_feed_0 : List UInt8 := [42, 3, 181, 0, 82, 42, 180, 0, 85, 16, 20, 96, 17, 3, 172, 164, 0, 5, 2, 172, 42, 27]
abbrev dktX9_feed_0 : List UInt8 := dkwX9_feed_0 ++ dktX9_feed_1
theorem dksX9_feed_0 : cX9_feed.data.toList.drop 0 = dktX9_feed_0 := by decide +kernel
theorem dksX9_feed_1 : cX9_feed.data.toList.drop 22 = dktX9_feed_1 := dk_seg dksX9_feed_0 22 rfl rfl
theorem dksX9_feed_2 : cX9_feed.data.toList.drop 44 = dktX9_feed_2 := dk_seg dksX9_feed_1 22 rfl rfl
theorem dX9_feed_0 : decode cX9_feed 0 = .ok (.aload_n 0, 1) := dk_42 (dk_at dksX9_feed_0 0 rfl rfl)
theorem dX9_feed_1 : decode cX9_feed 1 = .ok (.iconst 0, 1) := dk_3 (dk_at dksX9_feed_0 1 rfl rfl)
theorem dX9_feed_2 : decode cX9_feed 2 = .ok (.putfield 82, 3) := dk_181 0 82 (dk_at dksX9_feed_0 2 rfl rfl)
theorem dX9_feed_5 : decode cX9_feed 5 = .ok (.aload_n 0, 1) := dk_42 (dk_at dksX9_feed_0 5 rfl rfl)
theorem dX9_feed_6 : decode cX9_feed 6 = .ok (.getfield 85, 3) := dk_180 0 85 (dk_at dksX9_feed_0 6 rfl rfl)
theorem dX9_feed_9 : decode cX9_feed 9 = .ok (.bipush 20, 2) := dk_16 20 (dk_at dksX9_feed_0 9 rfl rfl)
theorem dX9_feed_11 : decode cX9_feed 11 = .ok (.iadd, 1) := dk_96 (dk_at dksX9_feed_0 11 rfl rfl)
theorem dX9_feed_12 : decode cX9_feed 12 = .ok (.sipush 940, 3) := dk_17 3 172 (dk_at dksX9_feed_0 12 rfl rfl)
theorem dX9_feed_15 : decode cX9_feed 15 = .ok (.if_icmp .le 5, 3) := dk_164 0 5 (dk_at dksX9_feed_0 15 rfl rfl)
theorem dX9_feed_18 : decode cX9_feed 18 = .ok (.iconst (-1), 1) := dk_2 (dk_at dksX9_feed_0 18 rfl rfl)
theorem dX9_feed_19 : decode cX9_feed 19 = .ok (.ireturn, 1) := dk_172 (dk_at dksX9_feed_0 19 rfl rfl)
theorem dX9_feed_20 : decode cX9_feed 20 = .ok (.aload_n 0, 1) := dk_42 (dk_at dksX9_feed_0 20 rfl rfl)
theorem dX9_feed_21 : decode cX9_feed 21 = .ok (.iload_n 1, 1) := dk_27 (dk_at dksX9_feed_0 21 rfl rfl)
theorem dX9_feed_22 : decode cX9_feed 22 = .ok (.invokevirtual 88, 3) := dk_182 0 88 (dk_at dksX9_feed_1 0 rfl rfl)
theorem dX9_feed_25 : decode cX9_feed 25 = .ok (.aload_n 0, 1) := dk_42 (dk_at dksX9_feed_1 3 rfl rfl)
theorem dX9_feed_26 : decode cX9_feed 26 = .ok (.iload_n 2, 1) := dk_28 (dk_at dksX9_feed_1 4 rfl rfl)
theorem dX9_feed_27 : decode cX9_feed 27 = .ok (.invokevirtual 88, 3) := dk_182 0 88 (dk_at dksX9_feed_1 5 rfl rfl)
theorem dX9_feed_30 : decode cX9_feed 30 = .ok (.aload_n 0, 1) := dk_42 (dk_at dksX9_feed_1 8 rfl rfl)
theorem dX9_feed_31 : decode cX9_feed 31 = .ok (.iload_n 3, 1) := dk_29 (dk_at dksX9_feed_1 9 rfl rfl)
theorem dX9_feed_32 : decode cX9_feed 32 = .ok (.invokevirtual 88, 3) := dk_182 0 88 (dk_at dksX9_feed_1 10 rfl rfl)
theorem dX9_feed_35 : decode cX9_feed 35 = .ok (.aload_n 0, 1) := dk_42 (dk_at dksX9_feed_1 13 rfl rfl)
theorem dX9_feed_36 : decode cX9_feed 36 = .ok (.iload 4, 2) := dk_21 4 (dk_at dksX9_feed_1 14 rfl rfl)
theorem dX9_feed_38 : decode cX9_feed 38 = .ok (.invokevirtual 88, 3) := dk_182 0 88 (dk_at dksX9_feed_1 16 rfl rfl)
theorem dX9_feed_41 : decode cX9_feed 41 = .ok (.aload_n 0, 1) := dk_42 (dk_at dksX9_feed_1 19 rfl rfl)
theorem dX9_feed_42 : decode cX9_feed 42 = .ok (.iload 5, 2) := dk_21 5 (dk_at dksX9_feed_1 20 rfl rfl)
theorem dX9_feed_44 : decode cX9_feed 44 = .ok (.invokevirtual 88, 3) := dk_182 0 88 (dk_at dksX9_feed_2 0 rfl rfl)
theorem dX9_feed_47 : decode cX9_feed 47 = .ok (.aload_n 0, 1) := dk_42 (dk_at dksX9_feed_2 3 rfl rfl)
theorem dX9_feed_48 : decode cX9_feed 48 = .ok (.getfield 85, 3) := dk_180 0 85 (dk_at dksX9_feed_2 4 rfl rfl)
theorem dX9_feed_51 : decode cX9_feed 51 = .ok (.ireturn, 1) := dk_172 (dk_at dksX9_feed_2 7 rfl rfl)
abbrev cX9_come : ByteArray := prog_25_method_4_code
def yX9_come : MethodName := ⟨RX9, "come", "(I)V"⟩
def dkwX9_come_1 : List UInt8 := [89, 180, 0, 85, 4, 96, 181, 0, 85, 132, 2, 248, 167, 255, 223, 177]
abbrev dktX9_come_1 : List UInt8 := dkwX9_come_1 ++ []
def dkwX9_come_0 : List UInt8 := [16, 24, 61, 28, 155, 0, 35, 42, 180, 0, 7, 42, 180, 0, 85, 27, 28, 124, 17, 0, 255, 126, 79, 42]
abbrev dktX9_come_0 : List UInt8 := dkwX9_come_0 ++ dktX9_come_1
theorem dksX9_come_0 : cX9_come.data.toList.drop 0 = dktX9_come_0 := by decide +kernel
theorem dksX9_come_1 : cX9_come.data.toList.drop 24 = dktX9_come_1 := dk_seg dksX9_come_0 24 rfl rfl
theorem dX9_come_0 : decode cX9_come 0 = .ok (.bipush 24, 2) := dk_16 24 (dk_at dksX9_come_0 0 rfl rfl)
theorem dX9_come_2 : decode cX9_come 2 = .ok (.istore_n 2, 1) := dk_61 (dk_at dksX9_come_0 2 rfl rfl)
theorem dX9_come_3 : decode cX9_come 3 = .ok (.iload_n 2, 1) := dk_28 (dk_at dksX9_come_0 3 rfl rfl)
theorem dX9_come_4 : decode cX9_come 4 = .ok (.ifCond .lt 35, 3) := dk_155 0 35 (dk_at dksX9_come_0 4 rfl rfl)
theorem dX9_come_7 : decode cX9_come 7 = .ok (.aload_n 0, 1) := dk_42 (dk_at dksX9_come_0 7 rfl rfl)
theorem dX9_come_8 : decode cX9_come 8 = .ok (.getfield 7, 3) := dk_180 0 7 (dk_at dksX9_come_0 8 rfl rfl)
theorem dX9_come_11 : decode cX9_come 11 = .ok (.aload_n 0, 1) := dk_42 (dk_at dksX9_come_0 11 rfl rfl)
theorem dX9_come_12 : decode cX9_come 12 = .ok (.getfield 85, 3) := dk_180 0 85 (dk_at dksX9_come_0 12 rfl rfl)
theorem dX9_come_15 : decode cX9_come 15 = .ok (.iload_n 1, 1) := dk_27 (dk_at dksX9_come_0 15 rfl rfl)
theorem dX9_come_16 : decode cX9_come 16 = .ok (.iload_n 2, 1) := dk_28 (dk_at dksX9_come_0 16 rfl rfl)
theorem dX9_come_17 : decode cX9_come 17 = .ok (.iushr, 1) := dk_124 (dk_at dksX9_come_0 17 rfl rfl)
theorem dX9_come_18 : decode cX9_come 18 = .ok (.sipush 255, 3) := dk_17 0 255 (dk_at dksX9_come_0 18 rfl rfl)
theorem dX9_come_21 : decode cX9_come 21 = .ok (.iand, 1) := dk_126 (dk_at dksX9_come_0 21 rfl rfl)
theorem dX9_come_22 : decode cX9_come 22 = .ok (.iastore, 1) := dk_79 (dk_at dksX9_come_0 22 rfl rfl)
theorem dX9_come_23 : decode cX9_come 23 = .ok (.aload_n 0, 1) := dk_42 (dk_at dksX9_come_0 23 rfl rfl)
theorem dX9_come_24 : decode cX9_come 24 = .ok (.dup, 1) := dk_89 (dk_at dksX9_come_1 0 rfl rfl)
theorem dX9_come_25 : decode cX9_come 25 = .ok (.getfield 85, 3) := dk_180 0 85 (dk_at dksX9_come_1 1 rfl rfl)
theorem dX9_come_28 : decode cX9_come 28 = .ok (.iconst 1, 1) := dk_4 (dk_at dksX9_come_1 4 rfl rfl)
theorem dX9_come_29 : decode cX9_come 29 = .ok (.iadd, 1) := dk_96 (dk_at dksX9_come_1 5 rfl rfl)
theorem dX9_come_30 : decode cX9_come 30 = .ok (.putfield 85, 3) := dk_181 0 85 (dk_at dksX9_come_1 6 rfl rfl)
theorem dX9_come_33 : decode cX9_come 33 = .ok (.iinc 2 (-8), 3) := dk_132 2 248 (dk_at dksX9_come_1 9 rfl rfl)
theorem dX9_come_36 : decode cX9_come 36 = .ok (.goto (-33), 3) := dk_167 255 223 (dk_at dksX9_come_1 12 rfl rfl)
theorem dX9_come_39 : decode cX9_come 39 = .ok (.return_, 1) := dk_177 (dk_at dksX9_come_1 15 rfl rfl)
abbrev cX9_end : ByteArray := prog_25_method_6_code
def yX9_end : MethodName := ⟨RX9, "end", "(I)Z"⟩
def dkwX9_end_1 : List UInt8 := [4, 172]
abbrev dktX9_end_1 : List UInt8 := dkwX9_end_1 ++ []
def dkwX9_end_0 : List UInt8 := [42, 3, 181, 0, 82, 27, 155, 0, 11, 27, 42, 180, 0, 85, 164, 0, 5, 3, 172, 42, 27, 181, 0, 85]
abbrev dktX9_end_0 : List UInt8 := dkwX9_end_0 ++ dktX9_end_1
theorem dksX9_end_0 : cX9_end.data.toList.drop 0 = dktX9_end_0 := by decide +kernel
theorem dksX9_end_1 : cX9_end.data.toList.drop 24 = dktX9_end_1 := dk_seg dksX9_end_0 24 rfl rfl
theorem dX9_end_0 : decode cX9_end 0 = .ok (.aload_n 0, 1) := dk_42 (dk_at dksX9_end_0 0 rfl rfl)
theorem dX9_end_1 : decode cX9_end 1 = .ok (.iconst 0, 1) := dk_3 (dk_at dksX9_end_0 1 rfl rfl)
theorem dX9_end_2 : decode cX9_end 2 = .ok (.putfield 82, 3) := dk_181 0 82 (dk_at dksX9_end_0 2 rfl rfl)
theorem dX9_end_5 : decode cX9_end 5 = .ok (.iload_n 1, 1) := dk_27 (dk_at dksX9_end_0 5 rfl rfl)
theorem dX9_end_6 : decode cX9_end 6 = .ok (.ifCond .lt 11, 3) := dk_155 0 11 (dk_at dksX9_end_0 6 rfl rfl)
theorem dX9_end_9 : decode cX9_end 9 = .ok (.iload_n 1, 1) := dk_27 (dk_at dksX9_end_0 9 rfl rfl)
theorem dX9_end_10 : decode cX9_end 10 = .ok (.aload_n 0, 1) := dk_42 (dk_at dksX9_end_0 10 rfl rfl)
theorem dX9_end_11 : decode cX9_end 11 = .ok (.getfield 85, 3) := dk_180 0 85 (dk_at dksX9_end_0 11 rfl rfl)
theorem dX9_end_14 : decode cX9_end 14 = .ok (.if_icmp .le 5, 3) := dk_164 0 5 (dk_at dksX9_end_0 14 rfl rfl)
theorem dX9_end_17 : decode cX9_end 17 = .ok (.iconst 0, 1) := dk_3 (dk_at dksX9_end_0 17 rfl rfl)
theorem dX9_end_18 : decode cX9_end 18 = .ok (.ireturn, 1) := dk_172 (dk_at dksX9_end_0 18 rfl rfl)
theorem dX9_end_19 : decode cX9_end 19 = .ok (.aload_n 0, 1) := dk_42 (dk_at dksX9_end_0 19 rfl rfl)
theorem dX9_end_20 : decode cX9_end 20 = .ok (.iload_n 1, 1) := dk_27 (dk_at dksX9_end_0 20 rfl rfl)
theorem dX9_end_21 : decode cX9_end 21 = .ok (.putfield 85, 3) := dk_181 0 85 (dk_at dksX9_end_0 21 rfl rfl)
theorem dX9_end_24 : decode cX9_end 24 = .ok (.iconst 1, 1) := dk_4 (dk_at dksX9_end_1 0 rfl rfl)
theorem dX9_end_25 : decode cX9_end 25 = .ok (.ireturn, 1) := dk_172 (dk_at dksX9_end_1 1 rfl rfl)
abbrev cX9_table : ByteArray := prog_25_method_39_code
def yX9_table : MethodName := ⟨RX9, "table", "()I"⟩
def dkwX9_table_5 : List UInt8 := [180, 0, 32, 28, 47, 80, 132, 2, 1, 167, 255, 235, 42, 182, 0, 225, 42, 3, 181, 0, 228, 27, 172]
abbrev dktX9_table_5 : List UInt8 := dkwX9_table_5 ++ []
def dkwX9_table_4 : List UInt8 := [46, 79, 132, 2, 1, 167, 255, 235, 3, 61, 28, 16, 13, 162, 0, 21, 42, 180, 0, 28, 28, 42]
abbrev dktX9_table_4 : List UInt8 := dkwX9_table_4 ++ dktX9_table_5
def dkwX9_table_3 : List UInt8 := [132, 1, 1, 167, 255, 225, 3, 61, 28, 16, 72, 162, 0, 21, 42, 180, 0, 13, 28, 42, 180, 0, 16, 28]
abbrev dktX9_table_3 : List UInt8 := dkwX9_table_3 ++ dktX9_table_4
def dkwX9_table_2 : List UInt8 := [153, 0, 30, 42, 182, 0, 219, 153, 0, 10, 42, 182, 0, 222, 154, 0, 10, 2, 42, 180, 0, 143, 100, 172]
abbrev dktX9_table_2 : List UInt8 := dkwX9_table_2 ++ dktX9_table_3
def dkwX9_table_1 : List UInt8 := [132, 1, 1, 167, 255, 240, 42, 3, 181, 0, 197, 42, 3, 181, 0, 213, 3, 60, 42, 180, 0, 104]
abbrev dktX9_table_1 : List UInt8 := dkwX9_table_1 ++ dktX9_table_2
def dkwX9_table_0 : List UInt8 := [42, 17, 3, 132, 182, 0, 216, 3, 60, 27, 16, 72, 162, 0, 16, 42, 180, 0, 16, 27, 3, 79]
abbrev dktX9_table_0 : List UInt8 := dkwX9_table_0 ++ dktX9_table_1
theorem dksX9_table_0 : cX9_table.data.toList.drop 0 = dktX9_table_0 := by decide +kernel
theorem dksX9_table_1 : cX9_table.data.toList.drop 22 = dktX9_table_1 := dk_seg dksX9_table_0 22 rfl rfl
theorem dksX9_table_2 : cX9_table.data.toList.drop 44 = dktX9_table_2 := dk_seg dksX9_table_1 22 rfl rfl
theorem dksX9_table_3 : cX9_table.data.toList.drop 68 = dktX9_table_3 := dk_seg dksX9_table_2 24 rfl rfl
theorem dksX9_table_4 : cX9_table.data.toList.drop 92 = dktX9_table_4 := dk_seg dksX9_table_3 24 rfl rfl
theorem dksX9_table_5 : cX9_table.data.toList.drop 114 = dktX9_table_5 := dk_seg dksX9_table_4 22 rfl rfl
theorem dX9_table_0 : decode cX9_table 0 = .ok (.aload_n 0, 1) := dk_42 (dk_at dksX9_table_0 0 rfl rfl)
theorem dX9_table_1 : decode cX9_table 1 = .ok (.sipush 900, 3) := dk_17 3 132 (dk_at dksX9_table_0 1 rfl rfl)
theorem dX9_table_4 : decode cX9_table 4 = .ok (.invokevirtual 216, 3) := dk_182 0 216 (dk_at dksX9_table_0 4 rfl rfl)
theorem dX9_table_7 : decode cX9_table 7 = .ok (.iconst 0, 1) := dk_3 (dk_at dksX9_table_0 7 rfl rfl)
theorem dX9_table_8 : decode cX9_table 8 = .ok (.istore_n 1, 1) := dk_60 (dk_at dksX9_table_0 8 rfl rfl)
theorem dX9_table_9 : decode cX9_table 9 = .ok (.iload_n 1, 1) := dk_27 (dk_at dksX9_table_0 9 rfl rfl)
theorem dX9_table_10 : decode cX9_table 10 = .ok (.bipush 72, 2) := dk_16 72 (dk_at dksX9_table_0 10 rfl rfl)
theorem dX9_table_12 : decode cX9_table 12 = .ok (.if_icmp .ge 16, 3) := dk_162 0 16 (dk_at dksX9_table_0 12 rfl rfl)
theorem dX9_table_15 : decode cX9_table 15 = .ok (.aload_n 0, 1) := dk_42 (dk_at dksX9_table_0 15 rfl rfl)
theorem dX9_table_16 : decode cX9_table 16 = .ok (.getfield 16, 3) := dk_180 0 16 (dk_at dksX9_table_0 16 rfl rfl)
theorem dX9_table_19 : decode cX9_table 19 = .ok (.iload_n 1, 1) := dk_27 (dk_at dksX9_table_0 19 rfl rfl)
theorem dX9_table_20 : decode cX9_table 20 = .ok (.iconst 0, 1) := dk_3 (dk_at dksX9_table_0 20 rfl rfl)
theorem dX9_table_21 : decode cX9_table 21 = .ok (.iastore, 1) := dk_79 (dk_at dksX9_table_0 21 rfl rfl)
theorem dX9_table_22 : decode cX9_table 22 = .ok (.iinc 1 1, 3) := dk_132 1 1 (dk_at dksX9_table_1 0 rfl rfl)
theorem dX9_table_25 : decode cX9_table 25 = .ok (.goto (-16), 3) := dk_167 255 240 (dk_at dksX9_table_1 3 rfl rfl)
theorem dX9_table_28 : decode cX9_table 28 = .ok (.aload_n 0, 1) := dk_42 (dk_at dksX9_table_1 6 rfl rfl)
theorem dX9_table_29 : decode cX9_table 29 = .ok (.iconst 0, 1) := dk_3 (dk_at dksX9_table_1 7 rfl rfl)
theorem dX9_table_30 : decode cX9_table 30 = .ok (.putfield 197, 3) := dk_181 0 197 (dk_at dksX9_table_1 8 rfl rfl)
theorem dX9_table_33 : decode cX9_table 33 = .ok (.aload_n 0, 1) := dk_42 (dk_at dksX9_table_1 11 rfl rfl)
theorem dX9_table_34 : decode cX9_table 34 = .ok (.iconst 0, 1) := dk_3 (dk_at dksX9_table_1 12 rfl rfl)
theorem dX9_table_35 : decode cX9_table 35 = .ok (.putfield 213, 3) := dk_181 0 213 (dk_at dksX9_table_1 13 rfl rfl)
theorem dX9_table_38 : decode cX9_table 38 = .ok (.iconst 0, 1) := dk_3 (dk_at dksX9_table_1 16 rfl rfl)
theorem dX9_table_39 : decode cX9_table 39 = .ok (.istore_n 1, 1) := dk_60 (dk_at dksX9_table_1 17 rfl rfl)
theorem dX9_table_40 : decode cX9_table 40 = .ok (.aload_n 0, 1) := dk_42 (dk_at dksX9_table_1 18 rfl rfl)
theorem dX9_table_41 : decode cX9_table 41 = .ok (.getfield 104, 3) := dk_180 0 104 (dk_at dksX9_table_1 19 rfl rfl)
theorem dX9_table_44 : decode cX9_table 44 = .ok (.ifCond .eq 30, 3) := dk_153 0 30 (dk_at dksX9_table_2 0 rfl rfl)
theorem dX9_table_47 : decode cX9_table 47 = .ok (.aload_n 0, 1) := dk_42 (dk_at dksX9_table_2 3 rfl rfl)
theorem dX9_table_48 : decode cX9_table 48 = .ok (.invokevirtual 219, 3) := dk_182 0 219 (dk_at dksX9_table_2 4 rfl rfl)
theorem dX9_table_51 : decode cX9_table 51 = .ok (.ifCond .eq 10, 3) := dk_153 0 10 (dk_at dksX9_table_2 7 rfl rfl)
theorem dX9_table_54 : decode cX9_table 54 = .ok (.aload_n 0, 1) := dk_42 (dk_at dksX9_table_2 10 rfl rfl)
theorem dX9_table_55 : decode cX9_table 55 = .ok (.invokevirtual 222, 3) := dk_182 0 222 (dk_at dksX9_table_2 11 rfl rfl)
theorem dX9_table_58 : decode cX9_table 58 = .ok (.ifCond .ne 10, 3) := dk_154 0 10 (dk_at dksX9_table_2 14 rfl rfl)
theorem dX9_table_61 : decode cX9_table 61 = .ok (.iconst (-1), 1) := dk_2 (dk_at dksX9_table_2 17 rfl rfl)
theorem dX9_table_62 : decode cX9_table 62 = .ok (.aload_n 0, 1) := dk_42 (dk_at dksX9_table_2 18 rfl rfl)
theorem dX9_table_63 : decode cX9_table 63 = .ok (.getfield 143, 3) := dk_180 0 143 (dk_at dksX9_table_2 19 rfl rfl)
theorem dX9_table_66 : decode cX9_table 66 = .ok (.isub, 1) := dk_100 (dk_at dksX9_table_2 22 rfl rfl)
theorem dX9_table_67 : decode cX9_table 67 = .ok (.ireturn, 1) := dk_172 (dk_at dksX9_table_2 23 rfl rfl)
theorem dX9_table_68 : decode cX9_table 68 = .ok (.iinc 1 1, 3) := dk_132 1 1 (dk_at dksX9_table_3 0 rfl rfl)
theorem dX9_table_71 : decode cX9_table 71 = .ok (.goto (-31), 3) := dk_167 255 225 (dk_at dksX9_table_3 3 rfl rfl)
theorem dX9_table_74 : decode cX9_table 74 = .ok (.iconst 0, 1) := dk_3 (dk_at dksX9_table_3 6 rfl rfl)
theorem dX9_table_75 : decode cX9_table 75 = .ok (.istore_n 2, 1) := dk_61 (dk_at dksX9_table_3 7 rfl rfl)
theorem dX9_table_76 : decode cX9_table 76 = .ok (.iload_n 2, 1) := dk_28 (dk_at dksX9_table_3 8 rfl rfl)
theorem dX9_table_77 : decode cX9_table 77 = .ok (.bipush 72, 2) := dk_16 72 (dk_at dksX9_table_3 9 rfl rfl)
theorem dX9_table_79 : decode cX9_table 79 = .ok (.if_icmp .ge 21, 3) := dk_162 0 21 (dk_at dksX9_table_3 11 rfl rfl)
theorem dX9_table_82 : decode cX9_table 82 = .ok (.aload_n 0, 1) := dk_42 (dk_at dksX9_table_3 14 rfl rfl)
theorem dX9_table_83 : decode cX9_table 83 = .ok (.getfield 13, 3) := dk_180 0 13 (dk_at dksX9_table_3 15 rfl rfl)
theorem dX9_table_86 : decode cX9_table 86 = .ok (.iload_n 2, 1) := dk_28 (dk_at dksX9_table_3 18 rfl rfl)
theorem dX9_table_87 : decode cX9_table 87 = .ok (.aload_n 0, 1) := dk_42 (dk_at dksX9_table_3 19 rfl rfl)
theorem dX9_table_88 : decode cX9_table 88 = .ok (.getfield 16, 3) := dk_180 0 16 (dk_at dksX9_table_3 20 rfl rfl)
theorem dX9_table_91 : decode cX9_table 91 = .ok (.iload_n 2, 1) := dk_28 (dk_at dksX9_table_3 23 rfl rfl)
theorem dX9_table_92 : decode cX9_table 92 = .ok (.iaload, 1) := dk_46 (dk_at dksX9_table_4 0 rfl rfl)
theorem dX9_table_93 : decode cX9_table 93 = .ok (.iastore, 1) := dk_79 (dk_at dksX9_table_4 1 rfl rfl)
theorem dX9_table_94 : decode cX9_table 94 = .ok (.iinc 2 1, 3) := dk_132 2 1 (dk_at dksX9_table_4 2 rfl rfl)
theorem dX9_table_97 : decode cX9_table 97 = .ok (.goto (-21), 3) := dk_167 255 235 (dk_at dksX9_table_4 5 rfl rfl)
theorem dX9_table_100 : decode cX9_table 100 = .ok (.iconst 0, 1) := dk_3 (dk_at dksX9_table_4 8 rfl rfl)
theorem dX9_table_101 : decode cX9_table 101 = .ok (.istore_n 2, 1) := dk_61 (dk_at dksX9_table_4 9 rfl rfl)
theorem dX9_table_102 : decode cX9_table 102 = .ok (.iload_n 2, 1) := dk_28 (dk_at dksX9_table_4 10 rfl rfl)
theorem dX9_table_103 : decode cX9_table 103 = .ok (.bipush 13, 2) := dk_16 13 (dk_at dksX9_table_4 11 rfl rfl)
theorem dX9_table_105 : decode cX9_table 105 = .ok (.if_icmp .ge 21, 3) := dk_162 0 21 (dk_at dksX9_table_4 13 rfl rfl)
theorem dX9_table_108 : decode cX9_table 108 = .ok (.aload_n 0, 1) := dk_42 (dk_at dksX9_table_4 16 rfl rfl)
theorem dX9_table_109 : decode cX9_table 109 = .ok (.getfield 28, 3) := dk_180 0 28 (dk_at dksX9_table_4 17 rfl rfl)
theorem dX9_table_112 : decode cX9_table 112 = .ok (.iload_n 2, 1) := dk_28 (dk_at dksX9_table_4 20 rfl rfl)
theorem dX9_table_113 : decode cX9_table 113 = .ok (.aload_n 0, 1) := dk_42 (dk_at dksX9_table_4 21 rfl rfl)
theorem dX9_table_114 : decode cX9_table 114 = .ok (.getfield 32, 3) := dk_180 0 32 (dk_at dksX9_table_5 0 rfl rfl)
theorem dX9_table_117 : decode cX9_table 117 = .ok (.iload_n 2, 1) := dk_28 (dk_at dksX9_table_5 3 rfl rfl)
theorem dX9_table_118 : decode cX9_table 118 = .ok (.laload, 1) := dk_47 (dk_at dksX9_table_5 4 rfl rfl)
theorem dX9_table_119 : decode cX9_table 119 = .ok (.lastore, 1) := dk_80 (dk_at dksX9_table_5 5 rfl rfl)
theorem dX9_table_120 : decode cX9_table 120 = .ok (.iinc 2 1, 3) := dk_132 2 1 (dk_at dksX9_table_5 6 rfl rfl)
theorem dX9_table_123 : decode cX9_table 123 = .ok (.goto (-21), 3) := dk_167 255 235 (dk_at dksX9_table_5 9 rfl rfl)
theorem dX9_table_126 : decode cX9_table 126 = .ok (.aload_n 0, 1) := dk_42 (dk_at dksX9_table_5 12 rfl rfl)
theorem dX9_table_127 : decode cX9_table 127 = .ok (.invokevirtual 225, 3) := dk_182 0 225 (dk_at dksX9_table_5 13 rfl rfl)
theorem dX9_table_130 : decode cX9_table 130 = .ok (.aload_n 0, 1) := dk_42 (dk_at dksX9_table_5 16 rfl rfl)
theorem dX9_table_131 : decode cX9_table 131 = .ok (.iconst 0, 1) := dk_3 (dk_at dksX9_table_5 17 rfl rfl)
theorem dX9_table_132 : decode cX9_table 132 = .ok (.putfield 228, 3) := dk_181 0 228 (dk_at dksX9_table_5 18 rfl rfl)
theorem dX9_table_135 : decode cX9_table 135 = .ok (.iload_n 1, 1) := dk_27 (dk_at dksX9_table_5 21 rfl rfl)
theorem dX9_table_136 : decode cX9_table 136 = .ok (.ireturn, 1) := dk_172 (dk_at dksX9_table_5 22 rfl rfl)
abbrev cX9_begin : ByteArray := prog_25_method_26_code
def yX9_begin : MethodName := ⟨RX9, "begin", "(I)V"⟩
def dkwX9_begin_1 : List UInt8 := [3, 181, 0, 95, 42, 182, 0, 156, 177]
abbrev dktX9_begin_1 : List UInt8 := dkwX9_begin_1 ++ []
def dkwX9_begin_0 : List UInt8 := [42, 3, 181, 0, 82, 42, 42, 182, 0, 162, 181, 0, 92, 42, 27, 181, 0, 101, 42, 3, 181, 0, 140, 42]
abbrev dktX9_begin_0 : List UInt8 := dkwX9_begin_0 ++ dktX9_begin_1
theorem dksX9_begin_0 : cX9_begin.data.toList.drop 0 = dktX9_begin_0 := by decide +kernel
theorem dksX9_begin_1 : cX9_begin.data.toList.drop 24 = dktX9_begin_1 := dk_seg dksX9_begin_0 24 rfl rfl
theorem dX9_begin_0 : decode cX9_begin 0 = .ok (.aload_n 0, 1) := dk_42 (dk_at dksX9_begin_0 0 rfl rfl)
theorem dX9_begin_1 : decode cX9_begin 1 = .ok (.iconst 0, 1) := dk_3 (dk_at dksX9_begin_0 1 rfl rfl)
theorem dX9_begin_2 : decode cX9_begin 2 = .ok (.putfield 82, 3) := dk_181 0 82 (dk_at dksX9_begin_0 2 rfl rfl)
theorem dX9_begin_5 : decode cX9_begin 5 = .ok (.aload_n 0, 1) := dk_42 (dk_at dksX9_begin_0 5 rfl rfl)
theorem dX9_begin_6 : decode cX9_begin 6 = .ok (.aload_n 0, 1) := dk_42 (dk_at dksX9_begin_0 6 rfl rfl)
theorem dX9_begin_7 : decode cX9_begin 7 = .ok (.invokevirtual 162, 3) := dk_182 0 162 (dk_at dksX9_begin_0 7 rfl rfl)
theorem dX9_begin_10 : decode cX9_begin 10 = .ok (.putfield 92, 3) := dk_181 0 92 (dk_at dksX9_begin_0 10 rfl rfl)
theorem dX9_begin_13 : decode cX9_begin 13 = .ok (.aload_n 0, 1) := dk_42 (dk_at dksX9_begin_0 13 rfl rfl)
theorem dX9_begin_14 : decode cX9_begin 14 = .ok (.iload_n 1, 1) := dk_27 (dk_at dksX9_begin_0 14 rfl rfl)
theorem dX9_begin_15 : decode cX9_begin 15 = .ok (.putfield 101, 3) := dk_181 0 101 (dk_at dksX9_begin_0 15 rfl rfl)
theorem dX9_begin_18 : decode cX9_begin 18 = .ok (.aload_n 0, 1) := dk_42 (dk_at dksX9_begin_0 18 rfl rfl)
theorem dX9_begin_19 : decode cX9_begin 19 = .ok (.iconst 0, 1) := dk_3 (dk_at dksX9_begin_0 19 rfl rfl)
theorem dX9_begin_20 : decode cX9_begin 20 = .ok (.putfield 140, 3) := dk_181 0 140 (dk_at dksX9_begin_0 20 rfl rfl)
theorem dX9_begin_23 : decode cX9_begin 23 = .ok (.aload_n 0, 1) := dk_42 (dk_at dksX9_begin_0 23 rfl rfl)
theorem dX9_begin_24 : decode cX9_begin 24 = .ok (.iconst 0, 1) := dk_3 (dk_at dksX9_begin_1 0 rfl rfl)
theorem dX9_begin_25 : decode cX9_begin 25 = .ok (.putfield 95, 3) := dk_181 0 95 (dk_at dksX9_begin_1 1 rfl rfl)
theorem dX9_begin_28 : decode cX9_begin 28 = .ok (.aload_n 0, 1) := dk_42 (dk_at dksX9_begin_1 4 rfl rfl)
theorem dX9_begin_29 : decode cX9_begin 29 = .ok (.invokevirtual 156, 3) := dk_182 0 156 (dk_at dksX9_begin_1 5 rfl rfl)
theorem dX9_begin_32 : decode cX9_begin 32 = .ok (.return_, 1) := dk_177 (dk_at dksX9_begin_1 8 rfl rfl)
abbrev cX9_take : ByteArray := prog_25_method_7_code
def yX9_take : MethodName := ⟨RX9, "take", "()I"⟩
def dkwX9_take_0 : List UInt8 := [42, 180, 0, 85, 60, 42, 3, 181, 0, 85, 27, 172]
abbrev dktX9_take_0 : List UInt8 := dkwX9_take_0 ++ []
theorem dksX9_take_0 : cX9_take.data.toList.drop 0 = dktX9_take_0 := by decide +kernel
theorem dX9_take_0 : decode cX9_take 0 = .ok (.aload_n 0, 1) := dk_42 (dk_at dksX9_take_0 0 rfl rfl)
theorem dX9_take_1 : decode cX9_take 1 = .ok (.getfield 85, 3) := dk_180 0 85 (dk_at dksX9_take_0 1 rfl rfl)
theorem dX9_take_4 : decode cX9_take 4 = .ok (.istore_n 1, 1) := dk_60 (dk_at dksX9_take_0 4 rfl rfl)
theorem dX9_take_5 : decode cX9_take 5 = .ok (.aload_n 0, 1) := dk_42 (dk_at dksX9_take_0 5 rfl rfl)
theorem dX9_take_6 : decode cX9_take 6 = .ok (.iconst 0, 1) := dk_3 (dk_at dksX9_take_0 6 rfl rfl)
theorem dX9_take_7 : decode cX9_take 7 = .ok (.putfield 85, 3) := dk_181 0 85 (dk_at dksX9_take_0 7 rfl rfl)
theorem dX9_take_10 : decode cX9_take 10 = .ok (.iload_n 1, 1) := dk_27 (dk_at dksX9_take_0 10 rfl rfl)
theorem dX9_take_11 : decode cX9_take 11 = .ok (.ireturn, 1) := dk_172 (dk_at dksX9_take_0 11 rfl rfl)
abbrev cX9_go : ByteArray := prog_25_method_17_code
def yX9_go : MethodName := ⟨RX9, "go", "()V"⟩
def dkwX9_go_16 : List UInt8 := [167, 0, 4, 6, 164, 0, 7, 4, 167, 0, 12, 28, 153, 0, 7, 5, 167, 0, 4, 6, 181, 0, 104, 177]
abbrev dktX9_go_16 : List UInt8 := dkwX9_go_16 ++ []
def dkwX9_go_15 : List UInt8 := [167, 255, 124, 42, 29, 153, 0, 25, 42, 180, 0, 95, 42, 180, 0, 98, 100, 28, 153, 0, 8, 16, 7]
abbrev dktX9_go_15 : List UInt8 := dkwX9_go_15 ++ dktX9_go_16
def dkwX9_go_14 : List UInt8 := [180, 0, 121, 104, 21, 4, 96, 16, 48, 100, 181, 0, 121, 42, 89, 180, 0, 95, 4, 96, 181, 0, 95]
abbrev dktX9_go_14 : List UInt8 := dkwX9_go_14 ++ dktX9_go_15
def dkwX9_go_13 : List UInt8 := [20, 0, 130, 101, 181, 0, 117, 42, 180, 0, 95, 42, 180, 0, 98, 100, 6, 162, 0, 20, 42, 16, 10, 42]
abbrev dktX9_go_13 : List UInt8 := dkwX9_go_13 ++ dktX9_go_14
def dkwX9_go_12 : List UInt8 := [180, 0, 98, 100, 16, 7, 162, 0, 23, 42, 20, 0, 128, 42, 180, 0, 117, 105, 21, 4, 133, 97]
abbrev dktX9_go_12 : List UInt8 := dkwX9_go_12 ++ dktX9_go_13
def dkwX9_go_11 : List UInt8 := [153, 0, 16, 21, 4, 184, 0, 107, 28, 160, 0, 7, 4, 167, 0, 4, 3, 62, 42, 180, 0, 95, 42]
abbrev dktX9_go_11 : List UInt8 := dkwX9_go_11 ++ dktX9_go_12
def dkwX9_go_10 : List UInt8 := [180, 0, 95, 182, 0, 124, 184, 0, 111, 153, 0, 110, 42, 180, 0, 7, 42, 180, 0, 95, 46, 54, 4, 29]
abbrev dktX9_go_10 : List UInt8 := dkwX9_go_10 ++ dktX9_go_11
def dkwX9_go_9 : List UInt8 := [181, 0, 117, 42, 3, 181, 0, 121, 42, 42, 180, 0, 95, 182, 0, 124, 184, 0, 107, 154, 0, 17, 42, 42]
abbrev dktX9_go_9 : List UInt8 := dkwX9_go_9 ++ dktX9_go_10
def dkwX9_go_8 : List UInt8 := [181, 0, 114, 42, 89, 180, 0, 95, 4, 96, 181, 0, 95, 177, 27, 184, 0, 107, 61, 4, 62, 42, 9]
abbrev dktX9_go_8 : List UInt8 := dkwX9_go_8 ++ dktX9_go_9
def dkwX9_go_7 : List UInt8 := [27, 16, 40, 159, 0, 9, 27, 16, 41, 160, 0, 7, 7, 167, 0, 4, 4, 181, 0, 104, 42, 27]
abbrev dktX9_go_7 : List UInt8 := dkwX9_go_7 ++ dktX9_go_8
def dkwX9_go_6 : List UInt8 := [27, 16, 59, 159, 0, 33, 27, 16, 60, 159, 0, 27, 27, 16, 61, 159, 0, 21, 27, 16, 62, 159, 0, 15]
abbrev dktX9_go_6 : List UInt8 := dkwX9_go_6 ++ dktX9_go_7
def dkwX9_go_5 : List UInt8 := [180, 0, 7, 42, 180, 0, 95, 46, 60, 27, 184, 0, 107, 154, 0, 71, 27, 184, 0, 111, 154, 0, 64, 42]
abbrev dktX9_go_5 : List UInt8 := dkwX9_go_5 ++ dktX9_go_6
def dkwX9_go_4 : List UInt8 := [181, 0, 104, 177, 42, 180, 0, 95, 42, 180, 0, 92, 161, 0, 9, 42, 3, 181, 0, 104, 177, 42]
abbrev dktX9_go_4 : List UInt8 := dkwX9_go_4 ++ dktX9_go_5
def dkwX9_go_3 : List UInt8 := [164, 0, 28, 42, 180, 0, 98, 42, 180, 0, 101, 161, 0, 17, 42, 42, 180, 0, 101, 181, 0, 98, 42, 4]
abbrev dktX9_go_3 : List UInt8 := dkwX9_go_3 ++ dktX9_go_4
def dkwX9_go_2 : List UInt8 := [181, 0, 95, 167, 255, 207, 42, 42, 180, 0, 95, 181, 0, 98, 42, 180, 0, 92, 42, 180, 0, 101]
abbrev dktX9_go_2 : List UInt8 := dkwX9_go_2 ++ dktX9_go_3
def dkwX9_go_1 : List UInt8 := [159, 0, 17, 42, 180, 0, 7, 42, 180, 0, 95, 46, 16, 10, 160, 0, 16, 42, 89, 180, 0, 95, 4, 96]
abbrev dktX9_go_1 : List UInt8 := dkwX9_go_1 ++ dktX9_go_2
def dkwX9_go_0 : List UInt8 := [42, 180, 0, 95, 42, 180, 0, 92, 162, 0, 44, 42, 180, 0, 7, 42, 180, 0, 95, 46, 16, 32]
abbrev dktX9_go_0 : List UInt8 := dkwX9_go_0 ++ dktX9_go_1
theorem dksX9_go_0 : cX9_go.data.toList.drop 0 = dktX9_go_0 := by decide +kernel
theorem dksX9_go_1 : cX9_go.data.toList.drop 22 = dktX9_go_1 := dk_seg dksX9_go_0 22 rfl rfl
theorem dksX9_go_2 : cX9_go.data.toList.drop 46 = dktX9_go_2 := dk_seg dksX9_go_1 24 rfl rfl
theorem dksX9_go_3 : cX9_go.data.toList.drop 68 = dktX9_go_3 := dk_seg dksX9_go_2 22 rfl rfl
theorem dksX9_go_4 : cX9_go.data.toList.drop 92 = dktX9_go_4 := dk_seg dksX9_go_3 24 rfl rfl
theorem dksX9_go_5 : cX9_go.data.toList.drop 114 = dktX9_go_5 := dk_seg dksX9_go_4 22 rfl rfl
theorem dksX9_go_6 : cX9_go.data.toList.drop 138 = dktX9_go_6 := dk_seg dksX9_go_5 24 rfl rfl
theorem dksX9_go_7 : cX9_go.data.toList.drop 162 = dktX9_go_7 := dk_seg dksX9_go_6 24 rfl rfl
theorem dksX9_go_8 : cX9_go.data.toList.drop 184 = dktX9_go_8 := dk_seg dksX9_go_7 22 rfl rfl
theorem dksX9_go_9 : cX9_go.data.toList.drop 207 = dktX9_go_9 := dk_seg dksX9_go_8 23 rfl rfl
theorem dksX9_go_10 : cX9_go.data.toList.drop 231 = dktX9_go_10 := dk_seg dksX9_go_9 24 rfl rfl
theorem dksX9_go_11 : cX9_go.data.toList.drop 255 = dktX9_go_11 := dk_seg dksX9_go_10 24 rfl rfl
theorem dksX9_go_12 : cX9_go.data.toList.drop 278 = dktX9_go_12 := dk_seg dksX9_go_11 23 rfl rfl
theorem dksX9_go_13 : cX9_go.data.toList.drop 300 = dktX9_go_13 := dk_seg dksX9_go_12 22 rfl rfl
theorem dksX9_go_14 : cX9_go.data.toList.drop 324 = dktX9_go_14 := dk_seg dksX9_go_13 24 rfl rfl
theorem dksX9_go_15 : cX9_go.data.toList.drop 347 = dktX9_go_15 := dk_seg dksX9_go_14 23 rfl rfl
theorem dksX9_go_16 : cX9_go.data.toList.drop 370 = dktX9_go_16 := dk_seg dksX9_go_15 23 rfl rfl
theorem dX9_go_0 : decode cX9_go 0 = .ok (.aload_n 0, 1) := dk_42 (dk_at dksX9_go_0 0 rfl rfl)
theorem dX9_go_1 : decode cX9_go 1 = .ok (.getfield 95, 3) := dk_180 0 95 (dk_at dksX9_go_0 1 rfl rfl)
theorem dX9_go_4 : decode cX9_go 4 = .ok (.aload_n 0, 1) := dk_42 (dk_at dksX9_go_0 4 rfl rfl)
theorem dX9_go_5 : decode cX9_go 5 = .ok (.getfield 92, 3) := dk_180 0 92 (dk_at dksX9_go_0 5 rfl rfl)
theorem dX9_go_8 : decode cX9_go 8 = .ok (.if_icmp .ge 44, 3) := dk_162 0 44 (dk_at dksX9_go_0 8 rfl rfl)
theorem dX9_go_11 : decode cX9_go 11 = .ok (.aload_n 0, 1) := dk_42 (dk_at dksX9_go_0 11 rfl rfl)
theorem dX9_go_12 : decode cX9_go 12 = .ok (.getfield 7, 3) := dk_180 0 7 (dk_at dksX9_go_0 12 rfl rfl)
theorem dX9_go_15 : decode cX9_go 15 = .ok (.aload_n 0, 1) := dk_42 (dk_at dksX9_go_0 15 rfl rfl)
theorem dX9_go_16 : decode cX9_go 16 = .ok (.getfield 95, 3) := dk_180 0 95 (dk_at dksX9_go_0 16 rfl rfl)
theorem dX9_go_19 : decode cX9_go 19 = .ok (.iaload, 1) := dk_46 (dk_at dksX9_go_0 19 rfl rfl)
theorem dX9_go_20 : decode cX9_go 20 = .ok (.bipush 32, 2) := dk_16 32 (dk_at dksX9_go_0 20 rfl rfl)
theorem dX9_go_22 : decode cX9_go 22 = .ok (.if_icmp .eq 17, 3) := dk_159 0 17 (dk_at dksX9_go_1 0 rfl rfl)
theorem dX9_go_25 : decode cX9_go 25 = .ok (.aload_n 0, 1) := dk_42 (dk_at dksX9_go_1 3 rfl rfl)
theorem dX9_go_26 : decode cX9_go 26 = .ok (.getfield 7, 3) := dk_180 0 7 (dk_at dksX9_go_1 4 rfl rfl)
theorem dX9_go_29 : decode cX9_go 29 = .ok (.aload_n 0, 1) := dk_42 (dk_at dksX9_go_1 7 rfl rfl)
theorem dX9_go_30 : decode cX9_go 30 = .ok (.getfield 95, 3) := dk_180 0 95 (dk_at dksX9_go_1 8 rfl rfl)
theorem dX9_go_33 : decode cX9_go 33 = .ok (.iaload, 1) := dk_46 (dk_at dksX9_go_1 11 rfl rfl)
theorem dX9_go_34 : decode cX9_go 34 = .ok (.bipush 10, 2) := dk_16 10 (dk_at dksX9_go_1 12 rfl rfl)
theorem dX9_go_36 : decode cX9_go 36 = .ok (.if_icmp .ne 16, 3) := dk_160 0 16 (dk_at dksX9_go_1 14 rfl rfl)
theorem dX9_go_39 : decode cX9_go 39 = .ok (.aload_n 0, 1) := dk_42 (dk_at dksX9_go_1 17 rfl rfl)
theorem dX9_go_40 : decode cX9_go 40 = .ok (.dup, 1) := dk_89 (dk_at dksX9_go_1 18 rfl rfl)
theorem dX9_go_41 : decode cX9_go 41 = .ok (.getfield 95, 3) := dk_180 0 95 (dk_at dksX9_go_1 19 rfl rfl)
theorem dX9_go_44 : decode cX9_go 44 = .ok (.iconst 1, 1) := dk_4 (dk_at dksX9_go_1 22 rfl rfl)
theorem dX9_go_45 : decode cX9_go 45 = .ok (.iadd, 1) := dk_96 (dk_at dksX9_go_1 23 rfl rfl)
theorem dX9_go_46 : decode cX9_go 46 = .ok (.putfield 95, 3) := dk_181 0 95 (dk_at dksX9_go_2 0 rfl rfl)
theorem dX9_go_49 : decode cX9_go 49 = .ok (.goto (-49), 3) := dk_167 255 207 (dk_at dksX9_go_2 3 rfl rfl)
theorem dX9_go_52 : decode cX9_go 52 = .ok (.aload_n 0, 1) := dk_42 (dk_at dksX9_go_2 6 rfl rfl)
theorem dX9_go_53 : decode cX9_go 53 = .ok (.aload_n 0, 1) := dk_42 (dk_at dksX9_go_2 7 rfl rfl)
theorem dX9_go_54 : decode cX9_go 54 = .ok (.getfield 95, 3) := dk_180 0 95 (dk_at dksX9_go_2 8 rfl rfl)
theorem dX9_go_57 : decode cX9_go 57 = .ok (.putfield 98, 3) := dk_181 0 98 (dk_at dksX9_go_2 11 rfl rfl)
theorem dX9_go_60 : decode cX9_go 60 = .ok (.aload_n 0, 1) := dk_42 (dk_at dksX9_go_2 14 rfl rfl)
theorem dX9_go_61 : decode cX9_go 61 = .ok (.getfield 92, 3) := dk_180 0 92 (dk_at dksX9_go_2 15 rfl rfl)
theorem dX9_go_64 : decode cX9_go 64 = .ok (.aload_n 0, 1) := dk_42 (dk_at dksX9_go_2 18 rfl rfl)
theorem dX9_go_65 : decode cX9_go 65 = .ok (.getfield 101, 3) := dk_180 0 101 (dk_at dksX9_go_2 19 rfl rfl)
theorem dX9_go_68 : decode cX9_go 68 = .ok (.if_icmp .le 28, 3) := dk_164 0 28 (dk_at dksX9_go_3 0 rfl rfl)
theorem dX9_go_71 : decode cX9_go 71 = .ok (.aload_n 0, 1) := dk_42 (dk_at dksX9_go_3 3 rfl rfl)
theorem dX9_go_72 : decode cX9_go 72 = .ok (.getfield 98, 3) := dk_180 0 98 (dk_at dksX9_go_3 4 rfl rfl)
theorem dX9_go_75 : decode cX9_go 75 = .ok (.aload_n 0, 1) := dk_42 (dk_at dksX9_go_3 7 rfl rfl)
theorem dX9_go_76 : decode cX9_go 76 = .ok (.getfield 101, 3) := dk_180 0 101 (dk_at dksX9_go_3 8 rfl rfl)
theorem dX9_go_79 : decode cX9_go 79 = .ok (.if_icmp .lt 17, 3) := dk_161 0 17 (dk_at dksX9_go_3 11 rfl rfl)
theorem dX9_go_82 : decode cX9_go 82 = .ok (.aload_n 0, 1) := dk_42 (dk_at dksX9_go_3 14 rfl rfl)
theorem dX9_go_83 : decode cX9_go 83 = .ok (.aload_n 0, 1) := dk_42 (dk_at dksX9_go_3 15 rfl rfl)
theorem dX9_go_84 : decode cX9_go 84 = .ok (.getfield 101, 3) := dk_180 0 101 (dk_at dksX9_go_3 16 rfl rfl)
theorem dX9_go_87 : decode cX9_go 87 = .ok (.putfield 98, 3) := dk_181 0 98 (dk_at dksX9_go_3 19 rfl rfl)
theorem dX9_go_90 : decode cX9_go 90 = .ok (.aload_n 0, 1) := dk_42 (dk_at dksX9_go_3 22 rfl rfl)
theorem dX9_go_91 : decode cX9_go 91 = .ok (.iconst 1, 1) := dk_4 (dk_at dksX9_go_3 23 rfl rfl)
theorem dX9_go_92 : decode cX9_go 92 = .ok (.putfield 104, 3) := dk_181 0 104 (dk_at dksX9_go_4 0 rfl rfl)
theorem dX9_go_95 : decode cX9_go 95 = .ok (.return_, 1) := dk_177 (dk_at dksX9_go_4 3 rfl rfl)
theorem dX9_go_96 : decode cX9_go 96 = .ok (.aload_n 0, 1) := dk_42 (dk_at dksX9_go_4 4 rfl rfl)
theorem dX9_go_97 : decode cX9_go 97 = .ok (.getfield 95, 3) := dk_180 0 95 (dk_at dksX9_go_4 5 rfl rfl)
theorem dX9_go_100 : decode cX9_go 100 = .ok (.aload_n 0, 1) := dk_42 (dk_at dksX9_go_4 8 rfl rfl)
theorem dX9_go_101 : decode cX9_go 101 = .ok (.getfield 92, 3) := dk_180 0 92 (dk_at dksX9_go_4 9 rfl rfl)
theorem dX9_go_104 : decode cX9_go 104 = .ok (.if_icmp .lt 9, 3) := dk_161 0 9 (dk_at dksX9_go_4 12 rfl rfl)
theorem dX9_go_107 : decode cX9_go 107 = .ok (.aload_n 0, 1) := dk_42 (dk_at dksX9_go_4 15 rfl rfl)
theorem dX9_go_108 : decode cX9_go 108 = .ok (.iconst 0, 1) := dk_3 (dk_at dksX9_go_4 16 rfl rfl)
theorem dX9_go_109 : decode cX9_go 109 = .ok (.putfield 104, 3) := dk_181 0 104 (dk_at dksX9_go_4 17 rfl rfl)
theorem dX9_go_112 : decode cX9_go 112 = .ok (.return_, 1) := dk_177 (dk_at dksX9_go_4 20 rfl rfl)
theorem dX9_go_113 : decode cX9_go 113 = .ok (.aload_n 0, 1) := dk_42 (dk_at dksX9_go_4 21 rfl rfl)
theorem dX9_go_114 : decode cX9_go 114 = .ok (.getfield 7, 3) := dk_180 0 7 (dk_at dksX9_go_5 0 rfl rfl)
theorem dX9_go_117 : decode cX9_go 117 = .ok (.aload_n 0, 1) := dk_42 (dk_at dksX9_go_5 3 rfl rfl)
theorem dX9_go_118 : decode cX9_go 118 = .ok (.getfield 95, 3) := dk_180 0 95 (dk_at dksX9_go_5 4 rfl rfl)
theorem dX9_go_121 : decode cX9_go 121 = .ok (.iaload, 1) := dk_46 (dk_at dksX9_go_5 7 rfl rfl)
theorem dX9_go_122 : decode cX9_go 122 = .ok (.istore_n 1, 1) := dk_60 (dk_at dksX9_go_5 8 rfl rfl)
theorem dX9_go_123 : decode cX9_go 123 = .ok (.iload_n 1, 1) := dk_27 (dk_at dksX9_go_5 9 rfl rfl)
theorem dX9_go_124 : decode cX9_go 124 = .ok (.invokestatic 107, 3) := dk_184 0 107 (dk_at dksX9_go_5 10 rfl rfl)
theorem dX9_go_127 : decode cX9_go 127 = .ok (.ifCond .ne 71, 3) := dk_154 0 71 (dk_at dksX9_go_5 13 rfl rfl)
theorem dX9_go_130 : decode cX9_go 130 = .ok (.iload_n 1, 1) := dk_27 (dk_at dksX9_go_5 16 rfl rfl)
theorem dX9_go_131 : decode cX9_go 131 = .ok (.invokestatic 111, 3) := dk_184 0 111 (dk_at dksX9_go_5 17 rfl rfl)
theorem dX9_go_134 : decode cX9_go 134 = .ok (.ifCond .ne 64, 3) := dk_154 0 64 (dk_at dksX9_go_5 20 rfl rfl)
theorem dX9_go_137 : decode cX9_go 137 = .ok (.aload_n 0, 1) := dk_42 (dk_at dksX9_go_5 23 rfl rfl)
theorem dX9_go_138 : decode cX9_go 138 = .ok (.iload_n 1, 1) := dk_27 (dk_at dksX9_go_6 0 rfl rfl)
theorem dX9_go_139 : decode cX9_go 139 = .ok (.bipush 59, 2) := dk_16 59 (dk_at dksX9_go_6 1 rfl rfl)
theorem dX9_go_141 : decode cX9_go 141 = .ok (.if_icmp .eq 33, 3) := dk_159 0 33 (dk_at dksX9_go_6 3 rfl rfl)
theorem dX9_go_144 : decode cX9_go 144 = .ok (.iload_n 1, 1) := dk_27 (dk_at dksX9_go_6 6 rfl rfl)
theorem dX9_go_145 : decode cX9_go 145 = .ok (.bipush 60, 2) := dk_16 60 (dk_at dksX9_go_6 7 rfl rfl)
theorem dX9_go_147 : decode cX9_go 147 = .ok (.if_icmp .eq 27, 3) := dk_159 0 27 (dk_at dksX9_go_6 9 rfl rfl)
theorem dX9_go_150 : decode cX9_go 150 = .ok (.iload_n 1, 1) := dk_27 (dk_at dksX9_go_6 12 rfl rfl)
theorem dX9_go_151 : decode cX9_go 151 = .ok (.bipush 61, 2) := dk_16 61 (dk_at dksX9_go_6 13 rfl rfl)
theorem dX9_go_153 : decode cX9_go 153 = .ok (.if_icmp .eq 21, 3) := dk_159 0 21 (dk_at dksX9_go_6 15 rfl rfl)
theorem dX9_go_156 : decode cX9_go 156 = .ok (.iload_n 1, 1) := dk_27 (dk_at dksX9_go_6 18 rfl rfl)
theorem dX9_go_157 : decode cX9_go 157 = .ok (.bipush 62, 2) := dk_16 62 (dk_at dksX9_go_6 19 rfl rfl)
theorem dX9_go_159 : decode cX9_go 159 = .ok (.if_icmp .eq 15, 3) := dk_159 0 15 (dk_at dksX9_go_6 21 rfl rfl)
theorem dX9_go_162 : decode cX9_go 162 = .ok (.iload_n 1, 1) := dk_27 (dk_at dksX9_go_7 0 rfl rfl)
theorem dX9_go_163 : decode cX9_go 163 = .ok (.bipush 40, 2) := dk_16 40 (dk_at dksX9_go_7 1 rfl rfl)
theorem dX9_go_165 : decode cX9_go 165 = .ok (.if_icmp .eq 9, 3) := dk_159 0 9 (dk_at dksX9_go_7 3 rfl rfl)
theorem dX9_go_168 : decode cX9_go 168 = .ok (.iload_n 1, 1) := dk_27 (dk_at dksX9_go_7 6 rfl rfl)
theorem dX9_go_169 : decode cX9_go 169 = .ok (.bipush 41, 2) := dk_16 41 (dk_at dksX9_go_7 7 rfl rfl)
theorem dX9_go_171 : decode cX9_go 171 = .ok (.if_icmp .ne 7, 3) := dk_160 0 7 (dk_at dksX9_go_7 9 rfl rfl)
theorem dX9_go_174 : decode cX9_go 174 = .ok (.iconst 4, 1) := dk_7 (dk_at dksX9_go_7 12 rfl rfl)
theorem dX9_go_175 : decode cX9_go 175 = .ok (.goto 4, 3) := dk_167 0 4 (dk_at dksX9_go_7 13 rfl rfl)
theorem dX9_go_178 : decode cX9_go 178 = .ok (.iconst 1, 1) := dk_4 (dk_at dksX9_go_7 16 rfl rfl)
theorem dX9_go_179 : decode cX9_go 179 = .ok (.putfield 104, 3) := dk_181 0 104 (dk_at dksX9_go_7 17 rfl rfl)
theorem dX9_go_182 : decode cX9_go 182 = .ok (.aload_n 0, 1) := dk_42 (dk_at dksX9_go_7 20 rfl rfl)
theorem dX9_go_183 : decode cX9_go 183 = .ok (.iload_n 1, 1) := dk_27 (dk_at dksX9_go_7 21 rfl rfl)
theorem dX9_go_184 : decode cX9_go 184 = .ok (.putfield 114, 3) := dk_181 0 114 (dk_at dksX9_go_8 0 rfl rfl)
theorem dX9_go_187 : decode cX9_go 187 = .ok (.aload_n 0, 1) := dk_42 (dk_at dksX9_go_8 3 rfl rfl)
theorem dX9_go_188 : decode cX9_go 188 = .ok (.dup, 1) := dk_89 (dk_at dksX9_go_8 4 rfl rfl)
theorem dX9_go_189 : decode cX9_go 189 = .ok (.getfield 95, 3) := dk_180 0 95 (dk_at dksX9_go_8 5 rfl rfl)
theorem dX9_go_192 : decode cX9_go 192 = .ok (.iconst 1, 1) := dk_4 (dk_at dksX9_go_8 8 rfl rfl)
theorem dX9_go_193 : decode cX9_go 193 = .ok (.iadd, 1) := dk_96 (dk_at dksX9_go_8 9 rfl rfl)
theorem dX9_go_194 : decode cX9_go 194 = .ok (.putfield 95, 3) := dk_181 0 95 (dk_at dksX9_go_8 10 rfl rfl)
theorem dX9_go_197 : decode cX9_go 197 = .ok (.return_, 1) := dk_177 (dk_at dksX9_go_8 13 rfl rfl)
theorem dX9_go_198 : decode cX9_go 198 = .ok (.iload_n 1, 1) := dk_27 (dk_at dksX9_go_8 14 rfl rfl)
theorem dX9_go_199 : decode cX9_go 199 = .ok (.invokestatic 107, 3) := dk_184 0 107 (dk_at dksX9_go_8 15 rfl rfl)
theorem dX9_go_202 : decode cX9_go 202 = .ok (.istore_n 2, 1) := dk_61 (dk_at dksX9_go_8 18 rfl rfl)
theorem dX9_go_203 : decode cX9_go 203 = .ok (.iconst 1, 1) := dk_4 (dk_at dksX9_go_8 19 rfl rfl)
theorem dX9_go_204 : decode cX9_go 204 = .ok (.istore_n 3, 1) := dk_62 (dk_at dksX9_go_8 20 rfl rfl)
theorem dX9_go_205 : decode cX9_go 205 = .ok (.aload_n 0, 1) := dk_42 (dk_at dksX9_go_8 21 rfl rfl)
theorem dX9_go_206 : decode cX9_go 206 = .ok (.lconst 0, 1) := dk_9 (dk_at dksX9_go_8 22 rfl rfl)
theorem dX9_go_207 : decode cX9_go 207 = .ok (.putfield 117, 3) := dk_181 0 117 (dk_at dksX9_go_9 0 rfl rfl)
theorem dX9_go_210 : decode cX9_go 210 = .ok (.aload_n 0, 1) := dk_42 (dk_at dksX9_go_9 3 rfl rfl)
theorem dX9_go_211 : decode cX9_go 211 = .ok (.iconst 0, 1) := dk_3 (dk_at dksX9_go_9 4 rfl rfl)
theorem dX9_go_212 : decode cX9_go 212 = .ok (.putfield 121, 3) := dk_181 0 121 (dk_at dksX9_go_9 5 rfl rfl)
theorem dX9_go_215 : decode cX9_go 215 = .ok (.aload_n 0, 1) := dk_42 (dk_at dksX9_go_9 8 rfl rfl)
theorem dX9_go_216 : decode cX9_go 216 = .ok (.aload_n 0, 1) := dk_42 (dk_at dksX9_go_9 9 rfl rfl)
theorem dX9_go_217 : decode cX9_go 217 = .ok (.getfield 95, 3) := dk_180 0 95 (dk_at dksX9_go_9 10 rfl rfl)
theorem dX9_go_220 : decode cX9_go 220 = .ok (.invokevirtual 124, 3) := dk_182 0 124 (dk_at dksX9_go_9 13 rfl rfl)
theorem dX9_go_223 : decode cX9_go 223 = .ok (.invokestatic 107, 3) := dk_184 0 107 (dk_at dksX9_go_9 16 rfl rfl)
theorem dX9_go_226 : decode cX9_go 226 = .ok (.ifCond .ne 17, 3) := dk_154 0 17 (dk_at dksX9_go_9 19 rfl rfl)
theorem dX9_go_229 : decode cX9_go 229 = .ok (.aload_n 0, 1) := dk_42 (dk_at dksX9_go_9 22 rfl rfl)
theorem dX9_go_230 : decode cX9_go 230 = .ok (.aload_n 0, 1) := dk_42 (dk_at dksX9_go_9 23 rfl rfl)
theorem dX9_go_231 : decode cX9_go 231 = .ok (.getfield 95, 3) := dk_180 0 95 (dk_at dksX9_go_10 0 rfl rfl)
theorem dX9_go_234 : decode cX9_go 234 = .ok (.invokevirtual 124, 3) := dk_182 0 124 (dk_at dksX9_go_10 3 rfl rfl)
theorem dX9_go_237 : decode cX9_go 237 = .ok (.invokestatic 111, 3) := dk_184 0 111 (dk_at dksX9_go_10 6 rfl rfl)
theorem dX9_go_240 : decode cX9_go 240 = .ok (.ifCond .eq 110, 3) := dk_153 0 110 (dk_at dksX9_go_10 9 rfl rfl)
theorem dX9_go_243 : decode cX9_go 243 = .ok (.aload_n 0, 1) := dk_42 (dk_at dksX9_go_10 12 rfl rfl)
theorem dX9_go_244 : decode cX9_go 244 = .ok (.getfield 7, 3) := dk_180 0 7 (dk_at dksX9_go_10 13 rfl rfl)
theorem dX9_go_247 : decode cX9_go 247 = .ok (.aload_n 0, 1) := dk_42 (dk_at dksX9_go_10 16 rfl rfl)
theorem dX9_go_248 : decode cX9_go 248 = .ok (.getfield 95, 3) := dk_180 0 95 (dk_at dksX9_go_10 17 rfl rfl)
theorem dX9_go_251 : decode cX9_go 251 = .ok (.iaload, 1) := dk_46 (dk_at dksX9_go_10 20 rfl rfl)
theorem dX9_go_252 : decode cX9_go 252 = .ok (.istore 4, 2) := dk_54 4 (dk_at dksX9_go_10 21 rfl rfl)
theorem dX9_go_254 : decode cX9_go 254 = .ok (.iload_n 3, 1) := dk_29 (dk_at dksX9_go_10 23 rfl rfl)
theorem dX9_go_255 : decode cX9_go 255 = .ok (.ifCond .eq 16, 3) := dk_153 0 16 (dk_at dksX9_go_11 0 rfl rfl)
theorem dX9_go_258 : decode cX9_go 258 = .ok (.iload 4, 2) := dk_21 4 (dk_at dksX9_go_11 3 rfl rfl)
theorem dX9_go_260 : decode cX9_go 260 = .ok (.invokestatic 107, 3) := dk_184 0 107 (dk_at dksX9_go_11 5 rfl rfl)
theorem dX9_go_263 : decode cX9_go 263 = .ok (.iload_n 2, 1) := dk_28 (dk_at dksX9_go_11 8 rfl rfl)
theorem dX9_go_264 : decode cX9_go 264 = .ok (.if_icmp .ne 7, 3) := dk_160 0 7 (dk_at dksX9_go_11 9 rfl rfl)
theorem dX9_go_267 : decode cX9_go 267 = .ok (.iconst 1, 1) := dk_4 (dk_at dksX9_go_11 12 rfl rfl)
theorem dX9_go_268 : decode cX9_go 268 = .ok (.goto 4, 3) := dk_167 0 4 (dk_at dksX9_go_11 13 rfl rfl)
theorem dX9_go_271 : decode cX9_go 271 = .ok (.iconst 0, 1) := dk_3 (dk_at dksX9_go_11 16 rfl rfl)
theorem dX9_go_272 : decode cX9_go 272 = .ok (.istore_n 3, 1) := dk_62 (dk_at dksX9_go_11 17 rfl rfl)
theorem dX9_go_273 : decode cX9_go 273 = .ok (.aload_n 0, 1) := dk_42 (dk_at dksX9_go_11 18 rfl rfl)
theorem dX9_go_274 : decode cX9_go 274 = .ok (.getfield 95, 3) := dk_180 0 95 (dk_at dksX9_go_11 19 rfl rfl)
theorem dX9_go_277 : decode cX9_go 277 = .ok (.aload_n 0, 1) := dk_42 (dk_at dksX9_go_11 22 rfl rfl)
theorem dX9_go_278 : decode cX9_go 278 = .ok (.getfield 98, 3) := dk_180 0 98 (dk_at dksX9_go_12 0 rfl rfl)
theorem dX9_go_281 : decode cX9_go 281 = .ok (.isub, 1) := dk_100 (dk_at dksX9_go_12 3 rfl rfl)
theorem dX9_go_282 : decode cX9_go 282 = .ok (.bipush 7, 2) := dk_16 7 (dk_at dksX9_go_12 4 rfl rfl)
theorem dX9_go_284 : decode cX9_go 284 = .ok (.if_icmp .ge 23, 3) := dk_162 0 23 (dk_at dksX9_go_12 6 rfl rfl)
theorem dX9_go_287 : decode cX9_go 287 = .ok (.aload_n 0, 1) := dk_42 (dk_at dksX9_go_12 9 rfl rfl)
theorem dX9_go_288 : decode cX9_go 288 = .ok (.ldc2_w 128, 3) := dk_20 0 128 (dk_at dksX9_go_12 10 rfl rfl)
theorem dX9_go_291 : decode cX9_go 291 = .ok (.aload_n 0, 1) := dk_42 (dk_at dksX9_go_12 13 rfl rfl)
theorem dX9_go_292 : decode cX9_go 292 = .ok (.getfield 117, 3) := dk_180 0 117 (dk_at dksX9_go_12 14 rfl rfl)
theorem dX9_go_295 : decode cX9_go 295 = .ok (.lmul, 1) := dk_105 (dk_at dksX9_go_12 17 rfl rfl)
theorem dX9_go_296 : decode cX9_go 296 = .ok (.iload 4, 2) := dk_21 4 (dk_at dksX9_go_12 18 rfl rfl)
theorem dX9_go_298 : decode cX9_go 298 = .ok (.i2l, 1) := dk_133 (dk_at dksX9_go_12 20 rfl rfl)
theorem dX9_go_299 : decode cX9_go 299 = .ok (.ladd, 1) := dk_97 (dk_at dksX9_go_12 21 rfl rfl)
theorem dX9_go_300 : decode cX9_go 300 = .ok (.ldc2_w 130, 3) := dk_20 0 130 (dk_at dksX9_go_13 0 rfl rfl)
theorem dX9_go_303 : decode cX9_go 303 = .ok (.lsub, 1) := dk_101 (dk_at dksX9_go_13 3 rfl rfl)
theorem dX9_go_304 : decode cX9_go 304 = .ok (.putfield 117, 3) := dk_181 0 117 (dk_at dksX9_go_13 4 rfl rfl)
theorem dX9_go_307 : decode cX9_go 307 = .ok (.aload_n 0, 1) := dk_42 (dk_at dksX9_go_13 7 rfl rfl)
theorem dX9_go_308 : decode cX9_go 308 = .ok (.getfield 95, 3) := dk_180 0 95 (dk_at dksX9_go_13 8 rfl rfl)
theorem dX9_go_311 : decode cX9_go 311 = .ok (.aload_n 0, 1) := dk_42 (dk_at dksX9_go_13 11 rfl rfl)
theorem dX9_go_312 : decode cX9_go 312 = .ok (.getfield 98, 3) := dk_180 0 98 (dk_at dksX9_go_13 12 rfl rfl)
theorem dX9_go_315 : decode cX9_go 315 = .ok (.isub, 1) := dk_100 (dk_at dksX9_go_13 15 rfl rfl)
theorem dX9_go_316 : decode cX9_go 316 = .ok (.iconst 3, 1) := dk_6 (dk_at dksX9_go_13 16 rfl rfl)
theorem dX9_go_317 : decode cX9_go 317 = .ok (.if_icmp .ge 20, 3) := dk_162 0 20 (dk_at dksX9_go_13 17 rfl rfl)
theorem dX9_go_320 : decode cX9_go 320 = .ok (.aload_n 0, 1) := dk_42 (dk_at dksX9_go_13 20 rfl rfl)
theorem dX9_go_321 : decode cX9_go 321 = .ok (.bipush 10, 2) := dk_16 10 (dk_at dksX9_go_13 21 rfl rfl)
theorem dX9_go_323 : decode cX9_go 323 = .ok (.aload_n 0, 1) := dk_42 (dk_at dksX9_go_13 23 rfl rfl)
theorem dX9_go_324 : decode cX9_go 324 = .ok (.getfield 121, 3) := dk_180 0 121 (dk_at dksX9_go_14 0 rfl rfl)
theorem dX9_go_327 : decode cX9_go 327 = .ok (.imul, 1) := dk_104 (dk_at dksX9_go_14 3 rfl rfl)
theorem dX9_go_328 : decode cX9_go 328 = .ok (.iload 4, 2) := dk_21 4 (dk_at dksX9_go_14 4 rfl rfl)
theorem dX9_go_330 : decode cX9_go 330 = .ok (.iadd, 1) := dk_96 (dk_at dksX9_go_14 6 rfl rfl)
theorem dX9_go_331 : decode cX9_go 331 = .ok (.bipush 48, 2) := dk_16 48 (dk_at dksX9_go_14 7 rfl rfl)
theorem dX9_go_333 : decode cX9_go 333 = .ok (.isub, 1) := dk_100 (dk_at dksX9_go_14 9 rfl rfl)
theorem dX9_go_334 : decode cX9_go 334 = .ok (.putfield 121, 3) := dk_181 0 121 (dk_at dksX9_go_14 10 rfl rfl)
theorem dX9_go_337 : decode cX9_go 337 = .ok (.aload_n 0, 1) := dk_42 (dk_at dksX9_go_14 13 rfl rfl)
theorem dX9_go_338 : decode cX9_go 338 = .ok (.dup, 1) := dk_89 (dk_at dksX9_go_14 14 rfl rfl)
theorem dX9_go_339 : decode cX9_go 339 = .ok (.getfield 95, 3) := dk_180 0 95 (dk_at dksX9_go_14 15 rfl rfl)
theorem dX9_go_342 : decode cX9_go 342 = .ok (.iconst 1, 1) := dk_4 (dk_at dksX9_go_14 18 rfl rfl)
theorem dX9_go_343 : decode cX9_go 343 = .ok (.iadd, 1) := dk_96 (dk_at dksX9_go_14 19 rfl rfl)
theorem dX9_go_344 : decode cX9_go 344 = .ok (.putfield 95, 3) := dk_181 0 95 (dk_at dksX9_go_14 20 rfl rfl)
theorem dX9_go_347 : decode cX9_go 347 = .ok (.goto (-132), 3) := dk_167 255 124 (dk_at dksX9_go_15 0 rfl rfl)
theorem dX9_go_350 : decode cX9_go 350 = .ok (.aload_n 0, 1) := dk_42 (dk_at dksX9_go_15 3 rfl rfl)
theorem dX9_go_351 : decode cX9_go 351 = .ok (.iload_n 3, 1) := dk_29 (dk_at dksX9_go_15 4 rfl rfl)
theorem dX9_go_352 : decode cX9_go 352 = .ok (.ifCond .eq 25, 3) := dk_153 0 25 (dk_at dksX9_go_15 5 rfl rfl)
theorem dX9_go_355 : decode cX9_go 355 = .ok (.aload_n 0, 1) := dk_42 (dk_at dksX9_go_15 8 rfl rfl)
theorem dX9_go_356 : decode cX9_go 356 = .ok (.getfield 95, 3) := dk_180 0 95 (dk_at dksX9_go_15 9 rfl rfl)
theorem dX9_go_359 : decode cX9_go 359 = .ok (.aload_n 0, 1) := dk_42 (dk_at dksX9_go_15 12 rfl rfl)
theorem dX9_go_360 : decode cX9_go 360 = .ok (.getfield 98, 3) := dk_180 0 98 (dk_at dksX9_go_15 13 rfl rfl)
theorem dX9_go_363 : decode cX9_go 363 = .ok (.isub, 1) := dk_100 (dk_at dksX9_go_15 16 rfl rfl)
theorem dX9_go_364 : decode cX9_go 364 = .ok (.iload_n 2, 1) := dk_28 (dk_at dksX9_go_15 17 rfl rfl)
theorem dX9_go_365 : decode cX9_go 365 = .ok (.ifCond .eq 8, 3) := dk_153 0 8 (dk_at dksX9_go_15 18 rfl rfl)
theorem dX9_go_368 : decode cX9_go 368 = .ok (.bipush 7, 2) := dk_16 7 (dk_at dksX9_go_15 21 rfl rfl)
theorem dX9_go_370 : decode cX9_go 370 = .ok (.goto 4, 3) := dk_167 0 4 (dk_at dksX9_go_16 0 rfl rfl)
theorem dX9_go_373 : decode cX9_go 373 = .ok (.iconst 3, 1) := dk_6 (dk_at dksX9_go_16 3 rfl rfl)
theorem dX9_go_374 : decode cX9_go 374 = .ok (.if_icmp .le 7, 3) := dk_164 0 7 (dk_at dksX9_go_16 4 rfl rfl)
theorem dX9_go_377 : decode cX9_go 377 = .ok (.iconst 1, 1) := dk_4 (dk_at dksX9_go_16 7 rfl rfl)
theorem dX9_go_378 : decode cX9_go 378 = .ok (.goto 12, 3) := dk_167 0 12 (dk_at dksX9_go_16 8 rfl rfl)
theorem dX9_go_381 : decode cX9_go 381 = .ok (.iload_n 2, 1) := dk_28 (dk_at dksX9_go_16 11 rfl rfl)
theorem dX9_go_382 : decode cX9_go 382 = .ok (.ifCond .eq 7, 3) := dk_153 0 7 (dk_at dksX9_go_16 12 rfl rfl)
theorem dX9_go_385 : decode cX9_go 385 = .ok (.iconst 2, 1) := dk_5 (dk_at dksX9_go_16 15 rfl rfl)
theorem dX9_go_386 : decode cX9_go 386 = .ok (.goto 4, 3) := dk_167 0 4 (dk_at dksX9_go_16 16 rfl rfl)
theorem dX9_go_389 : decode cX9_go 389 = .ok (.iconst 3, 1) := dk_6 (dk_at dksX9_go_16 19 rfl rfl)
theorem dX9_go_390 : decode cX9_go 390 = .ok (.putfield 104, 3) := dk_181 0 104 (dk_at dksX9_go_16 20 rfl rfl)
theorem dX9_go_393 : decode cX9_go 393 = .ok (.return_, 1) := dk_177 (dk_at dksX9_go_16 23 rfl rfl)
abbrev cX9_isLetter : ByteArray := prog_25_method_16_code
def yX9_isLetter : MethodName := ⟨RX9, "isLetter", "(I)Z"⟩
def dkwX9_isLetter_0 : List UInt8 := [26, 16, 97, 161, 0, 13, 26, 16, 122, 163, 0, 7, 4, 167, 0, 4, 3, 172]
abbrev dktX9_isLetter_0 : List UInt8 := dkwX9_isLetter_0 ++ []
theorem dksX9_isLetter_0 : cX9_isLetter.data.toList.drop 0 = dktX9_isLetter_0 := by decide +kernel
theorem dX9_isLetter_0 : decode cX9_isLetter 0 = .ok (.iload_n 0, 1) := dk_26 (dk_at dksX9_isLetter_0 0 rfl rfl)
theorem dX9_isLetter_1 : decode cX9_isLetter 1 = .ok (.bipush 97, 2) := dk_16 97 (dk_at dksX9_isLetter_0 1 rfl rfl)
theorem dX9_isLetter_3 : decode cX9_isLetter 3 = .ok (.if_icmp .lt 13, 3) := dk_161 0 13 (dk_at dksX9_isLetter_0 3 rfl rfl)
theorem dX9_isLetter_6 : decode cX9_isLetter 6 = .ok (.iload_n 0, 1) := dk_26 (dk_at dksX9_isLetter_0 6 rfl rfl)
theorem dX9_isLetter_7 : decode cX9_isLetter 7 = .ok (.bipush 122, 2) := dk_16 122 (dk_at dksX9_isLetter_0 7 rfl rfl)
theorem dX9_isLetter_9 : decode cX9_isLetter 9 = .ok (.if_icmp .gt 7, 3) := dk_163 0 7 (dk_at dksX9_isLetter_0 9 rfl rfl)
theorem dX9_isLetter_12 : decode cX9_isLetter 12 = .ok (.iconst 1, 1) := dk_4 (dk_at dksX9_isLetter_0 12 rfl rfl)
theorem dX9_isLetter_13 : decode cX9_isLetter 13 = .ok (.goto 4, 3) := dk_167 0 4 (dk_at dksX9_isLetter_0 13 rfl rfl)
theorem dX9_isLetter_16 : decode cX9_isLetter 16 = .ok (.iconst 0, 1) := dk_3 (dk_at dksX9_isLetter_0 16 rfl rfl)
theorem dX9_isLetter_17 : decode cX9_isLetter 17 = .ok (.ireturn, 1) := dk_172 (dk_at dksX9_isLetter_0 17 rfl rfl)
abbrev cX9_isDigit : ByteArray := prog_25_method_15_code
def yX9_isDigit : MethodName := ⟨RX9, "isDigit", "(I)Z"⟩
def dkwX9_isDigit_0 : List UInt8 := [26, 16, 48, 161, 0, 13, 26, 16, 57, 163, 0, 7, 4, 167, 0, 4, 3, 172]
abbrev dktX9_isDigit_0 : List UInt8 := dkwX9_isDigit_0 ++ []
theorem dksX9_isDigit_0 : cX9_isDigit.data.toList.drop 0 = dktX9_isDigit_0 := by decide +kernel
theorem dX9_isDigit_0 : decode cX9_isDigit 0 = .ok (.iload_n 0, 1) := dk_26 (dk_at dksX9_isDigit_0 0 rfl rfl)
theorem dX9_isDigit_1 : decode cX9_isDigit 1 = .ok (.bipush 48, 2) := dk_16 48 (dk_at dksX9_isDigit_0 1 rfl rfl)
theorem dX9_isDigit_3 : decode cX9_isDigit 3 = .ok (.if_icmp .lt 13, 3) := dk_161 0 13 (dk_at dksX9_isDigit_0 3 rfl rfl)
theorem dX9_isDigit_6 : decode cX9_isDigit 6 = .ok (.iload_n 0, 1) := dk_26 (dk_at dksX9_isDigit_0 6 rfl rfl)
theorem dX9_isDigit_7 : decode cX9_isDigit 7 = .ok (.bipush 57, 2) := dk_16 57 (dk_at dksX9_isDigit_0 7 rfl rfl)
theorem dX9_isDigit_9 : decode cX9_isDigit 9 = .ok (.if_icmp .gt 7, 3) := dk_163 0 7 (dk_at dksX9_isDigit_0 9 rfl rfl)
theorem dX9_isDigit_12 : decode cX9_isDigit 12 = .ok (.iconst 1, 1) := dk_4 (dk_at dksX9_isDigit_0 12 rfl rfl)
theorem dX9_isDigit_13 : decode cX9_isDigit 13 = .ok (.goto 4, 3) := dk_167 0 4 (dk_at dksX9_isDigit_0 13 rfl rfl)
theorem dX9_isDigit_16 : decode cX9_isDigit 16 = .ok (.iconst 0, 1) := dk_3 (dk_at dksX9_isDigit_0 16 rfl rfl)
theorem dX9_isDigit_17 : decode cX9_isDigit 17 = .ok (.ireturn, 1) := dk_172 (dk_at dksX9_isDigit_0 17 rfl rfl)
abbrev cX9_tapeAt : ByteArray := prog_25_method_14_code
def yX9_tapeAt : MethodName := ⟨RX9, "tapeAt", "(I)I"⟩
def dkwX9_tapeAt_0 : List UInt8 := [27, 42, 180, 0, 92, 162, 0, 12, 42, 180, 0, 7, 27, 46, 167, 0, 4, 3, 172]
abbrev dktX9_tapeAt_0 : List UInt8 := dkwX9_tapeAt_0 ++ []
theorem dksX9_tapeAt_0 : cX9_tapeAt.data.toList.drop 0 = dktX9_tapeAt_0 := by decide +kernel
theorem dX9_tapeAt_0 : decode cX9_tapeAt 0 = .ok (.iload_n 1, 1) := dk_27 (dk_at dksX9_tapeAt_0 0 rfl rfl)
theorem dX9_tapeAt_1 : decode cX9_tapeAt 1 = .ok (.aload_n 0, 1) := dk_42 (dk_at dksX9_tapeAt_0 1 rfl rfl)
theorem dX9_tapeAt_2 : decode cX9_tapeAt 2 = .ok (.getfield 92, 3) := dk_180 0 92 (dk_at dksX9_tapeAt_0 2 rfl rfl)
theorem dX9_tapeAt_5 : decode cX9_tapeAt 5 = .ok (.if_icmp .ge 12, 3) := dk_162 0 12 (dk_at dksX9_tapeAt_0 5 rfl rfl)
theorem dX9_tapeAt_8 : decode cX9_tapeAt 8 = .ok (.aload_n 0, 1) := dk_42 (dk_at dksX9_tapeAt_0 8 rfl rfl)
theorem dX9_tapeAt_9 : decode cX9_tapeAt 9 = .ok (.getfield 7, 3) := dk_180 0 7 (dk_at dksX9_tapeAt_0 9 rfl rfl)
theorem dX9_tapeAt_12 : decode cX9_tapeAt 12 = .ok (.iload_n 1, 1) := dk_27 (dk_at dksX9_tapeAt_0 12 rfl rfl)
theorem dX9_tapeAt_13 : decode cX9_tapeAt 13 = .ok (.iaload, 1) := dk_46 (dk_at dksX9_tapeAt_0 13 rfl rfl)
theorem dX9_tapeAt_14 : decode cX9_tapeAt 14 = .ok (.goto 4, 3) := dk_167 0 4 (dk_at dksX9_tapeAt_0 14 rfl rfl)
theorem dX9_tapeAt_17 : decode cX9_tapeAt 17 = .ok (.iconst 0, 1) := dk_3 (dk_at dksX9_tapeAt_0 17 rfl rfl)
theorem dX9_tapeAt_18 : decode cX9_tapeAt 18 = .ok (.ireturn, 1) := dk_172 (dk_at dksX9_tapeAt_0 18 rfl rfl)
abbrev cX9_readLine : ByteArray := prog_25_method_38_code
def yX9_readLine : MethodName := ⟨RX9, "readLine", "()Z"⟩
def dkwX9_readLine_4 : List UInt8 := [3, 16, 9, 182, 0, 184, 182, 0, 187, 172]
abbrev dktX9_readLine_4 : List UInt8 := dkwX9_readLine_4 ++ []
def dkwX9_readLine_3 : List UInt8 := [180, 0, 213, 153, 0, 9, 42, 6, 182, 0, 146, 172, 42, 4, 181, 0, 213, 42, 182, 0, 156, 42, 6, 42]
abbrev dktX9_readLine_3 : List UInt8 := dkwX9_readLine_3 ++ dktX9_readLine_4
def dkwX9_readLine_2 : List UInt8 := [153, 0, 8, 42, 182, 0, 210, 172, 42, 16, 8, 182, 0, 191, 154, 0, 9, 42, 4, 182, 0, 146, 172, 42]
abbrev dktX9_readLine_2 : List UInt8 := dkwX9_readLine_2 ++ dktX9_readLine_3
def dkwX9_readLine_1 : List UInt8 := [182, 0, 204, 172, 42, 6, 182, 0, 191, 153, 0, 8, 42, 182, 0, 207, 172, 42, 7, 182, 0, 191]
abbrev dktX9_readLine_1 : List UInt8 := dkwX9_readLine_1 ++ dktX9_readLine_2
def dkwX9_readLine_0 : List UInt8 := [42, 3, 182, 0, 191, 153, 0, 8, 42, 182, 0, 201, 172, 42, 4, 182, 0, 191, 153, 0, 8, 42]
abbrev dktX9_readLine_0 : List UInt8 := dkwX9_readLine_0 ++ dktX9_readLine_1
theorem dksX9_readLine_0 : cX9_readLine.data.toList.drop 0 = dktX9_readLine_0 := by decide +kernel
theorem dksX9_readLine_1 : cX9_readLine.data.toList.drop 22 = dktX9_readLine_1 := dk_seg dksX9_readLine_0 22 rfl rfl
theorem dksX9_readLine_2 : cX9_readLine.data.toList.drop 44 = dktX9_readLine_2 := dk_seg dksX9_readLine_1 22 rfl rfl
theorem dksX9_readLine_3 : cX9_readLine.data.toList.drop 68 = dktX9_readLine_3 := dk_seg dksX9_readLine_2 24 rfl rfl
theorem dksX9_readLine_4 : cX9_readLine.data.toList.drop 92 = dktX9_readLine_4 := dk_seg dksX9_readLine_3 24 rfl rfl
theorem dX9_readLine_0 : decode cX9_readLine 0 = .ok (.aload_n 0, 1) := dk_42 (dk_at dksX9_readLine_0 0 rfl rfl)
theorem dX9_readLine_1 : decode cX9_readLine 1 = .ok (.iconst 0, 1) := dk_3 (dk_at dksX9_readLine_0 1 rfl rfl)
theorem dX9_readLine_2 : decode cX9_readLine 2 = .ok (.invokevirtual 191, 3) := dk_182 0 191 (dk_at dksX9_readLine_0 2 rfl rfl)
theorem dX9_readLine_5 : decode cX9_readLine 5 = .ok (.ifCond .eq 8, 3) := dk_153 0 8 (dk_at dksX9_readLine_0 5 rfl rfl)
theorem dX9_readLine_8 : decode cX9_readLine 8 = .ok (.aload_n 0, 1) := dk_42 (dk_at dksX9_readLine_0 8 rfl rfl)
theorem dX9_readLine_9 : decode cX9_readLine 9 = .ok (.invokevirtual 201, 3) := dk_182 0 201 (dk_at dksX9_readLine_0 9 rfl rfl)
theorem dX9_readLine_12 : decode cX9_readLine 12 = .ok (.ireturn, 1) := dk_172 (dk_at dksX9_readLine_0 12 rfl rfl)
theorem dX9_readLine_13 : decode cX9_readLine 13 = .ok (.aload_n 0, 1) := dk_42 (dk_at dksX9_readLine_0 13 rfl rfl)
theorem dX9_readLine_14 : decode cX9_readLine 14 = .ok (.iconst 1, 1) := dk_4 (dk_at dksX9_readLine_0 14 rfl rfl)
theorem dX9_readLine_15 : decode cX9_readLine 15 = .ok (.invokevirtual 191, 3) := dk_182 0 191 (dk_at dksX9_readLine_0 15 rfl rfl)
theorem dX9_readLine_18 : decode cX9_readLine 18 = .ok (.ifCond .eq 8, 3) := dk_153 0 8 (dk_at dksX9_readLine_0 18 rfl rfl)
theorem dX9_readLine_21 : decode cX9_readLine 21 = .ok (.aload_n 0, 1) := dk_42 (dk_at dksX9_readLine_0 21 rfl rfl)
theorem dX9_readLine_22 : decode cX9_readLine 22 = .ok (.invokevirtual 204, 3) := dk_182 0 204 (dk_at dksX9_readLine_1 0 rfl rfl)
theorem dX9_readLine_25 : decode cX9_readLine 25 = .ok (.ireturn, 1) := dk_172 (dk_at dksX9_readLine_1 3 rfl rfl)
theorem dX9_readLine_26 : decode cX9_readLine 26 = .ok (.aload_n 0, 1) := dk_42 (dk_at dksX9_readLine_1 4 rfl rfl)
theorem dX9_readLine_27 : decode cX9_readLine 27 = .ok (.iconst 3, 1) := dk_6 (dk_at dksX9_readLine_1 5 rfl rfl)
theorem dX9_readLine_28 : decode cX9_readLine 28 = .ok (.invokevirtual 191, 3) := dk_182 0 191 (dk_at dksX9_readLine_1 6 rfl rfl)
theorem dX9_readLine_31 : decode cX9_readLine 31 = .ok (.ifCond .eq 8, 3) := dk_153 0 8 (dk_at dksX9_readLine_1 9 rfl rfl)
theorem dX9_readLine_34 : decode cX9_readLine 34 = .ok (.aload_n 0, 1) := dk_42 (dk_at dksX9_readLine_1 12 rfl rfl)
theorem dX9_readLine_35 : decode cX9_readLine 35 = .ok (.invokevirtual 207, 3) := dk_182 0 207 (dk_at dksX9_readLine_1 13 rfl rfl)
theorem dX9_readLine_38 : decode cX9_readLine 38 = .ok (.ireturn, 1) := dk_172 (dk_at dksX9_readLine_1 16 rfl rfl)
theorem dX9_readLine_39 : decode cX9_readLine 39 = .ok (.aload_n 0, 1) := dk_42 (dk_at dksX9_readLine_1 17 rfl rfl)
theorem dX9_readLine_40 : decode cX9_readLine 40 = .ok (.iconst 4, 1) := dk_7 (dk_at dksX9_readLine_1 18 rfl rfl)
theorem dX9_readLine_41 : decode cX9_readLine 41 = .ok (.invokevirtual 191, 3) := dk_182 0 191 (dk_at dksX9_readLine_1 19 rfl rfl)
theorem dX9_readLine_44 : decode cX9_readLine 44 = .ok (.ifCond .eq 8, 3) := dk_153 0 8 (dk_at dksX9_readLine_2 0 rfl rfl)
theorem dX9_readLine_47 : decode cX9_readLine 47 = .ok (.aload_n 0, 1) := dk_42 (dk_at dksX9_readLine_2 3 rfl rfl)
theorem dX9_readLine_48 : decode cX9_readLine 48 = .ok (.invokevirtual 210, 3) := dk_182 0 210 (dk_at dksX9_readLine_2 4 rfl rfl)
theorem dX9_readLine_51 : decode cX9_readLine 51 = .ok (.ireturn, 1) := dk_172 (dk_at dksX9_readLine_2 7 rfl rfl)
theorem dX9_readLine_52 : decode cX9_readLine 52 = .ok (.aload_n 0, 1) := dk_42 (dk_at dksX9_readLine_2 8 rfl rfl)
theorem dX9_readLine_53 : decode cX9_readLine 53 = .ok (.bipush 8, 2) := dk_16 8 (dk_at dksX9_readLine_2 9 rfl rfl)
theorem dX9_readLine_55 : decode cX9_readLine 55 = .ok (.invokevirtual 191, 3) := dk_182 0 191 (dk_at dksX9_readLine_2 11 rfl rfl)
theorem dX9_readLine_58 : decode cX9_readLine 58 = .ok (.ifCond .ne 9, 3) := dk_154 0 9 (dk_at dksX9_readLine_2 14 rfl rfl)
theorem dX9_readLine_61 : decode cX9_readLine 61 = .ok (.aload_n 0, 1) := dk_42 (dk_at dksX9_readLine_2 17 rfl rfl)
theorem dX9_readLine_62 : decode cX9_readLine 62 = .ok (.iconst 1, 1) := dk_4 (dk_at dksX9_readLine_2 18 rfl rfl)
theorem dX9_readLine_63 : decode cX9_readLine 63 = .ok (.invokevirtual 146, 3) := dk_182 0 146 (dk_at dksX9_readLine_2 19 rfl rfl)
theorem dX9_readLine_66 : decode cX9_readLine 66 = .ok (.ireturn, 1) := dk_172 (dk_at dksX9_readLine_2 22 rfl rfl)
theorem dX9_readLine_67 : decode cX9_readLine 67 = .ok (.aload_n 0, 1) := dk_42 (dk_at dksX9_readLine_2 23 rfl rfl)
theorem dX9_readLine_68 : decode cX9_readLine 68 = .ok (.getfield 213, 3) := dk_180 0 213 (dk_at dksX9_readLine_3 0 rfl rfl)
theorem dX9_readLine_71 : decode cX9_readLine 71 = .ok (.ifCond .eq 9, 3) := dk_153 0 9 (dk_at dksX9_readLine_3 3 rfl rfl)
theorem dX9_readLine_74 : decode cX9_readLine 74 = .ok (.aload_n 0, 1) := dk_42 (dk_at dksX9_readLine_3 6 rfl rfl)
theorem dX9_readLine_75 : decode cX9_readLine 75 = .ok (.iconst 3, 1) := dk_6 (dk_at dksX9_readLine_3 7 rfl rfl)
theorem dX9_readLine_76 : decode cX9_readLine 76 = .ok (.invokevirtual 146, 3) := dk_182 0 146 (dk_at dksX9_readLine_3 8 rfl rfl)
theorem dX9_readLine_79 : decode cX9_readLine 79 = .ok (.ireturn, 1) := dk_172 (dk_at dksX9_readLine_3 11 rfl rfl)
theorem dX9_readLine_80 : decode cX9_readLine 80 = .ok (.aload_n 0, 1) := dk_42 (dk_at dksX9_readLine_3 12 rfl rfl)
theorem dX9_readLine_81 : decode cX9_readLine 81 = .ok (.iconst 1, 1) := dk_4 (dk_at dksX9_readLine_3 13 rfl rfl)
theorem dX9_readLine_82 : decode cX9_readLine 82 = .ok (.putfield 213, 3) := dk_181 0 213 (dk_at dksX9_readLine_3 14 rfl rfl)
theorem dX9_readLine_85 : decode cX9_readLine 85 = .ok (.aload_n 0, 1) := dk_42 (dk_at dksX9_readLine_3 17 rfl rfl)
theorem dX9_readLine_86 : decode cX9_readLine 86 = .ok (.invokevirtual 156, 3) := dk_182 0 156 (dk_at dksX9_readLine_3 18 rfl rfl)
theorem dX9_readLine_89 : decode cX9_readLine 89 = .ok (.aload_n 0, 1) := dk_42 (dk_at dksX9_readLine_3 21 rfl rfl)
theorem dX9_readLine_90 : decode cX9_readLine 90 = .ok (.iconst 3, 1) := dk_6 (dk_at dksX9_readLine_3 22 rfl rfl)
theorem dX9_readLine_91 : decode cX9_readLine 91 = .ok (.aload_n 0, 1) := dk_42 (dk_at dksX9_readLine_3 23 rfl rfl)
theorem dX9_readLine_92 : decode cX9_readLine 92 = .ok (.iconst 0, 1) := dk_3 (dk_at dksX9_readLine_4 0 rfl rfl)
theorem dX9_readLine_93 : decode cX9_readLine 93 = .ok (.bipush 9, 2) := dk_16 9 (dk_at dksX9_readLine_4 1 rfl rfl)
theorem dX9_readLine_95 : decode cX9_readLine 95 = .ok (.invokevirtual 184, 3) := dk_182 0 184 (dk_at dksX9_readLine_4 3 rfl rfl)
theorem dX9_readLine_98 : decode cX9_readLine 98 = .ok (.invokevirtual 187, 3) := dk_182 0 187 (dk_at dksX9_readLine_4 6 rfl rfl)
theorem dX9_readLine_101 : decode cX9_readLine 101 = .ok (.ireturn, 1) := dk_172 (dk_at dksX9_readLine_4 9 rfl rfl)
abbrev cX9_isWord : ByteArray := prog_25_method_20_code
def yX9_isWord : MethodName := ⟨RX9, "isWord", "(I)Z"⟩
def dkwX9_isWord_1 : List UInt8 := [3, 172]
abbrev dktX9_isWord_1 : List UInt8 := dkwX9_isWord_1 ++ []
def dkwX9_isWord_0 : List UInt8 := [42, 180, 0, 104, 5, 160, 0, 19, 42, 180, 0, 117, 27, 184, 0, 136, 148, 154, 0, 7, 4, 167, 0, 4]
abbrev dktX9_isWord_0 : List UInt8 := dkwX9_isWord_0 ++ dktX9_isWord_1
theorem dksX9_isWord_0 : cX9_isWord.data.toList.drop 0 = dktX9_isWord_0 := by decide +kernel
theorem dksX9_isWord_1 : cX9_isWord.data.toList.drop 24 = dktX9_isWord_1 := dk_seg dksX9_isWord_0 24 rfl rfl
theorem dX9_isWord_0 : decode cX9_isWord 0 = .ok (.aload_n 0, 1) := dk_42 (dk_at dksX9_isWord_0 0 rfl rfl)
theorem dX9_isWord_1 : decode cX9_isWord 1 = .ok (.getfield 104, 3) := dk_180 0 104 (dk_at dksX9_isWord_0 1 rfl rfl)
theorem dX9_isWord_4 : decode cX9_isWord 4 = .ok (.iconst 2, 1) := dk_5 (dk_at dksX9_isWord_0 4 rfl rfl)
theorem dX9_isWord_5 : decode cX9_isWord 5 = .ok (.if_icmp .ne 19, 3) := dk_160 0 19 (dk_at dksX9_isWord_0 5 rfl rfl)
theorem dX9_isWord_8 : decode cX9_isWord 8 = .ok (.aload_n 0, 1) := dk_42 (dk_at dksX9_isWord_0 8 rfl rfl)
theorem dX9_isWord_9 : decode cX9_isWord 9 = .ok (.getfield 117, 3) := dk_180 0 117 (dk_at dksX9_isWord_0 9 rfl rfl)
theorem dX9_isWord_12 : decode cX9_isWord 12 = .ok (.iload_n 1, 1) := dk_27 (dk_at dksX9_isWord_0 12 rfl rfl)
theorem dX9_isWord_13 : decode cX9_isWord 13 = .ok (.invokestatic 136, 3) := dk_184 0 136 (dk_at dksX9_isWord_0 13 rfl rfl)
theorem dX9_isWord_16 : decode cX9_isWord 16 = .ok (.lcmp, 1) := dk_148 (dk_at dksX9_isWord_0 16 rfl rfl)
theorem dX9_isWord_17 : decode cX9_isWord 17 = .ok (.ifCond .ne 7, 3) := dk_154 0 7 (dk_at dksX9_isWord_0 17 rfl rfl)
theorem dX9_isWord_20 : decode cX9_isWord 20 = .ok (.iconst 1, 1) := dk_4 (dk_at dksX9_isWord_0 20 rfl rfl)
theorem dX9_isWord_21 : decode cX9_isWord 21 = .ok (.goto 4, 3) := dk_167 0 4 (dk_at dksX9_isWord_0 21 rfl rfl)
theorem dX9_isWord_24 : decode cX9_isWord 24 = .ok (.iconst 0, 1) := dk_3 (dk_at dksX9_isWord_1 0 rfl rfl)
theorem dX9_isWord_25 : decode cX9_isWord 25 = .ok (.ireturn, 1) := dk_172 (dk_at dksX9_isWord_1 1 rfl rfl)
abbrev cX9_wordOf : ByteArray := prog_25_method_19_code
def yX9_wordOf : MethodName := ⟨RX9, "wordOf", "(I)J"⟩
def dkwX9_wordOf_20 : List UInt8 := [16, 117, 16, 109, 16, 98, 16, 101, 16, 114, 3, 184, 0, 132, 173]
abbrev dktX9_wordOf_20 : List UInt8 := dkwX9_wordOf_20 ++ []
def dkwX9_wordOf_19 : List UInt8 := [184, 0, 132, 173, 16, 104, 16, 117, 16, 110, 16, 103, 16, 101, 16, 114, 3, 184, 0, 132, 173, 16, 110]
abbrev dktX9_wordOf_19 : List UInt8 := dkwX9_wordOf_19 ++ dktX9_wordOf_20
def dkwX9_wordOf_18 : List UInt8 := [16, 110, 16, 116, 16, 115, 3, 3, 184, 0, 132, 173, 16, 101, 16, 97, 16, 116, 16, 101, 16, 110, 3, 3]
abbrev dktX9_wordOf_18 : List UInt8 := dkwX9_wordOf_18 ++ dktX9_wordOf_19
def dkwX9_wordOf_17 : List UInt8 := [3, 184, 0, 132, 173, 16, 104, 16, 97, 16, 115, 3, 3, 3, 3, 184, 0, 132, 173, 16, 119, 16, 97]
abbrev dktX9_wordOf_17 : List UInt8 := dkwX9_wordOf_17 ++ dktX9_wordOf_18
def dkwX9_wordOf_16 : List UInt8 := [16, 99, 16, 108, 16, 101, 16, 97, 16, 110, 3, 3, 184, 0, 132, 173, 16, 111, 16, 102, 3, 3, 3, 3]
abbrev dktX9_wordOf_16 : List UInt8 := dkwX9_wordOf_16 ++ dktX9_wordOf_17
def dkwX9_wordOf_15 : List UInt8 := [3, 184, 0, 132, 173, 16, 114, 16, 101, 16, 102, 16, 117, 16, 115, 16, 101, 16, 100, 184, 0, 132, 173]
abbrev dktX9_wordOf_15 : List UInt8 := dkwX9_wordOf_15 ++ dktX9_wordOf_16
def dkwX9_wordOf_14 : List UInt8 := [16, 110, 16, 111, 16, 116, 3, 3, 3, 3, 184, 0, 132, 173, 16, 100, 16, 101, 16, 97, 16, 100, 3, 3]
abbrev dktX9_wordOf_14 : List UInt8 := dkwX9_wordOf_14 ++ dktX9_wordOf_15
def dkwX9_wordOf_13 : List UInt8 := [3, 3, 3, 3, 3, 184, 0, 132, 173, 16, 97, 16, 110, 16, 100, 3, 3, 3, 3, 184, 0, 132, 173]
abbrev dktX9_wordOf_13 : List UInt8 := dkwX9_wordOf_13 ++ dktX9_wordOf_14
def dkwX9_wordOf_12 : List UInt8 := [3, 184, 0, 132, 173, 16, 109, 16, 101, 16, 97, 16, 108, 3, 3, 3, 184, 0, 132, 173, 16, 111, 16, 114]
abbrev dktX9_wordOf_12 : List UInt8 := dkwX9_wordOf_12 ++ dktX9_wordOf_13
def dkwX9_wordOf_11 : List UInt8 := [16, 99, 16, 101, 16, 112, 16, 116, 16, 115, 184, 0, 132, 173, 16, 100, 16, 105, 16, 101, 16, 115, 3, 3]
abbrev dktX9_wordOf_11 : List UInt8 := dkwX9_wordOf_11 ++ dktX9_wordOf_12
def dkwX9_wordOf_10 : List UInt8 := [173, 16, 114, 16, 101, 16, 102, 16, 117, 16, 115, 16, 101, 16, 115, 184, 0, 132, 173, 16, 97, 16, 99]
abbrev dktX9_wordOf_10 : List UInt8 := dkwX9_wordOf_10 ++ dktX9_wordOf_11
def dkwX9_wordOf_9 : List UInt8 := [16, 101, 16, 100, 3, 184, 0, 132, 173, 16, 114, 16, 105, 16, 115, 16, 101, 16, 115, 3, 3, 184, 0, 132]
abbrev dktX9_wordOf_9 : List UInt8 := dkwX9_wordOf_9 ++ dktX9_wordOf_10
def dkwX9_wordOf_8 : List UInt8 := [173, 16, 101, 16, 97, 16, 116, 16, 115, 3, 3, 3, 184, 0, 132, 173, 16, 115, 16, 101, 16, 114, 16, 118]
abbrev dktX9_wordOf_8 : List UInt8 := dkwX9_wordOf_8 ++ dktX9_wordOf_9
def dkwX9_wordOf_7 : List UInt8 := [16, 115, 16, 116, 3, 3, 184, 0, 132, 173, 16, 100, 16, 111, 16, 103, 16, 115, 3, 3, 3, 184, 0, 132]
abbrev dktX9_wordOf_7 : List UInt8 := dkwX9_wordOf_7 ++ dktX9_wordOf_8
def dkwX9_wordOf_6 : List UInt8 := [173, 16, 99, 16, 104, 16, 105, 16, 108, 16, 100, 3, 3, 184, 0, 132, 173, 16, 108, 16, 101, 16, 97]
abbrev dktX9_wordOf_6 : List UInt8 := dkwX9_wordOf_6 ++ dktX9_wordOf_7
def dkwX9_wordOf_5 : List UInt8 := [16, 119, 3, 3, 3, 3, 184, 0, 132, 173, 16, 110, 16, 101, 16, 120, 16, 116, 3, 3, 3, 184, 0, 132]
abbrev dktX9_wordOf_5 : List UInt8 := dkwX9_wordOf_5 ++ dktX9_wordOf_6
def dkwX9_wordOf_4 : List UInt8 := [184, 0, 132, 173, 16, 112, 16, 108, 16, 97, 16, 116, 16, 101, 3, 3, 184, 0, 132, 173, 16, 108, 16, 97]
abbrev dktX9_wordOf_4 : List UInt8 := dkwX9_wordOf_4 ++ dktX9_wordOf_5
def dkwX9_wordOf_3 : List UInt8 := [16, 104, 3, 3, 3, 184, 0, 132, 173, 16, 115, 16, 112, 16, 111, 16, 105, 16, 108, 16, 115, 3]
abbrev dktX9_wordOf_3 : List UInt8 := dkwX9_wordOf_3 ++ dktX9_wordOf_4
def dkwX9_wordOf_2 : List UInt8 := [16, 112, 16, 101, 16, 114, 16, 115, 16, 111, 16, 110, 3, 184, 0, 132, 173, 16, 100, 16, 105, 16, 115]
abbrev dktX9_wordOf_2 : List UInt8 := dkwX9_wordOf_2 ++ dktX9_wordOf_3
def dkwX9_wordOf_1 : List UInt8 := [170, 0, 0, 0, 0, 2, 32, 0, 0, 0, 0, 0, 0, 0, 26, 0, 0, 0, 123, 0, 0, 0, 140, 0, 0, 0, 155, 0, 0, 0, 172, 0, 0, 0, 188, 0, 0, 0, 202, 0, 0, 0, 217, 0, 0, 0, 233, 0, 0, 0, 249, 0, 0, 1, 8, 0, 0, 1, 23, 0, 0, 1, 40, 0, 0, 1, 56, 0, 0, 1, 74, 0, 0, 1, 92, 0, 0, 1, 107, 0, 0, 1, 122, 0, 0, 1, 135, 0, 0, 1, 149, 0, 0, 1, 163, 0, 0, 1, 178, 0, 0, 1, 196, 0, 0, 1, 212, 0, 0, 1, 225, 0, 0, 1, 239, 0, 0, 1, 255, 0, 0, 2, 15]
abbrev dktX9_wordOf_1 : List UInt8 := dkwX9_wordOf_1 ++ dktX9_wordOf_2
def dkwX9_wordOf_0 : List UInt8 := [26]
abbrev dktX9_wordOf_0 : List UInt8 := dkwX9_wordOf_0 ++ dktX9_wordOf_1
theorem dksX9_wordOf_0 : cX9_wordOf.data.toList.drop 0 = dktX9_wordOf_0 := by decide +kernel
theorem dksX9_wordOf_1 : cX9_wordOf.data.toList.drop 1 = dktX9_wordOf_1 := dk_seg dksX9_wordOf_0 1 rfl rfl
theorem dksX9_wordOf_2 : cX9_wordOf.data.toList.drop 124 = dktX9_wordOf_2 := dk_seg dksX9_wordOf_1 123 rfl rfl
theorem dksX9_wordOf_3 : cX9_wordOf.data.toList.drop 147 = dktX9_wordOf_3 := dk_seg dksX9_wordOf_2 23 rfl rfl
theorem dksX9_wordOf_4 : cX9_wordOf.data.toList.drop 169 = dktX9_wordOf_4 := dk_seg dksX9_wordOf_3 22 rfl rfl
theorem dksX9_wordOf_5 : cX9_wordOf.data.toList.drop 193 = dktX9_wordOf_5 := dk_seg dksX9_wordOf_4 24 rfl rfl
theorem dksX9_wordOf_6 : cX9_wordOf.data.toList.drop 217 = dktX9_wordOf_6 := dk_seg dksX9_wordOf_5 24 rfl rfl
theorem dksX9_wordOf_7 : cX9_wordOf.data.toList.drop 240 = dktX9_wordOf_7 := dk_seg dksX9_wordOf_6 23 rfl rfl
theorem dksX9_wordOf_8 : cX9_wordOf.data.toList.drop 264 = dktX9_wordOf_8 := dk_seg dksX9_wordOf_7 24 rfl rfl
theorem dksX9_wordOf_9 : cX9_wordOf.data.toList.drop 288 = dktX9_wordOf_9 := dk_seg dksX9_wordOf_8 24 rfl rfl
theorem dksX9_wordOf_10 : cX9_wordOf.data.toList.drop 312 = dktX9_wordOf_10 := dk_seg dksX9_wordOf_9 24 rfl rfl
theorem dksX9_wordOf_11 : cX9_wordOf.data.toList.drop 335 = dktX9_wordOf_11 := dk_seg dksX9_wordOf_10 23 rfl rfl
theorem dksX9_wordOf_12 : cX9_wordOf.data.toList.drop 359 = dktX9_wordOf_12 := dk_seg dksX9_wordOf_11 24 rfl rfl
theorem dksX9_wordOf_13 : cX9_wordOf.data.toList.drop 383 = dktX9_wordOf_13 := dk_seg dksX9_wordOf_12 24 rfl rfl
theorem dksX9_wordOf_14 : cX9_wordOf.data.toList.drop 406 = dktX9_wordOf_14 := dk_seg dksX9_wordOf_13 23 rfl rfl
theorem dksX9_wordOf_15 : cX9_wordOf.data.toList.drop 430 = dktX9_wordOf_15 := dk_seg dksX9_wordOf_14 24 rfl rfl
theorem dksX9_wordOf_16 : cX9_wordOf.data.toList.drop 453 = dktX9_wordOf_16 := dk_seg dksX9_wordOf_15 23 rfl rfl
theorem dksX9_wordOf_17 : cX9_wordOf.data.toList.drop 477 = dktX9_wordOf_17 := dk_seg dksX9_wordOf_16 24 rfl rfl
theorem dksX9_wordOf_18 : cX9_wordOf.data.toList.drop 500 = dktX9_wordOf_18 := dk_seg dksX9_wordOf_17 23 rfl rfl
theorem dksX9_wordOf_19 : cX9_wordOf.data.toList.drop 524 = dktX9_wordOf_19 := dk_seg dksX9_wordOf_18 24 rfl rfl
theorem dksX9_wordOf_20 : cX9_wordOf.data.toList.drop 547 = dktX9_wordOf_20 := dk_seg dksX9_wordOf_19 23 rfl rfl
theorem dX9_wordOf_0 : decode cX9_wordOf 0 = .ok (.iload_n 0, 1) := dk_26 (dk_at dksX9_wordOf_0 0 rfl rfl)
theorem dX9_wordOf_1 : decode cX9_wordOf 1 = .ok (.tableswitch 544 0 26 #[123, 140, 155, 172, 188, 202, 217, 233, 249, 264, 279, 296, 312, 330, 348, 363, 378, 391, 405, 419, 434, 452, 468, 481, 495, 511, 527], 123) := by decide +kernel
theorem dX9_wordOf_124 : decode cX9_wordOf 124 = .ok (.bipush 112, 2) := dk_16 112 (dk_at dksX9_wordOf_2 0 rfl rfl)
theorem dX9_wordOf_126 : decode cX9_wordOf 126 = .ok (.bipush 101, 2) := dk_16 101 (dk_at dksX9_wordOf_2 2 rfl rfl)
theorem dX9_wordOf_128 : decode cX9_wordOf 128 = .ok (.bipush 114, 2) := dk_16 114 (dk_at dksX9_wordOf_2 4 rfl rfl)
theorem dX9_wordOf_130 : decode cX9_wordOf 130 = .ok (.bipush 115, 2) := dk_16 115 (dk_at dksX9_wordOf_2 6 rfl rfl)
theorem dX9_wordOf_132 : decode cX9_wordOf 132 = .ok (.bipush 111, 2) := dk_16 111 (dk_at dksX9_wordOf_2 8 rfl rfl)
theorem dX9_wordOf_134 : decode cX9_wordOf 134 = .ok (.bipush 110, 2) := dk_16 110 (dk_at dksX9_wordOf_2 10 rfl rfl)
theorem dX9_wordOf_136 : decode cX9_wordOf 136 = .ok (.iconst 0, 1) := dk_3 (dk_at dksX9_wordOf_2 12 rfl rfl)
theorem dX9_wordOf_137 : decode cX9_wordOf 137 = .ok (.invokestatic 132, 3) := dk_184 0 132 (dk_at dksX9_wordOf_2 13 rfl rfl)
theorem dX9_wordOf_140 : decode cX9_wordOf 140 = .ok (.lreturn, 1) := dk_173 (dk_at dksX9_wordOf_2 16 rfl rfl)
theorem dX9_wordOf_141 : decode cX9_wordOf 141 = .ok (.bipush 100, 2) := dk_16 100 (dk_at dksX9_wordOf_2 17 rfl rfl)
theorem dX9_wordOf_143 : decode cX9_wordOf 143 = .ok (.bipush 105, 2) := dk_16 105 (dk_at dksX9_wordOf_2 19 rfl rfl)
theorem dX9_wordOf_145 : decode cX9_wordOf 145 = .ok (.bipush 115, 2) := dk_16 115 (dk_at dksX9_wordOf_2 21 rfl rfl)
theorem dX9_wordOf_147 : decode cX9_wordOf 147 = .ok (.bipush 104, 2) := dk_16 104 (dk_at dksX9_wordOf_3 0 rfl rfl)
theorem dX9_wordOf_149 : decode cX9_wordOf 149 = .ok (.iconst 0, 1) := dk_3 (dk_at dksX9_wordOf_3 2 rfl rfl)
theorem dX9_wordOf_150 : decode cX9_wordOf 150 = .ok (.iconst 0, 1) := dk_3 (dk_at dksX9_wordOf_3 3 rfl rfl)
theorem dX9_wordOf_151 : decode cX9_wordOf 151 = .ok (.iconst 0, 1) := dk_3 (dk_at dksX9_wordOf_3 4 rfl rfl)
theorem dX9_wordOf_152 : decode cX9_wordOf 152 = .ok (.invokestatic 132, 3) := dk_184 0 132 (dk_at dksX9_wordOf_3 5 rfl rfl)
theorem dX9_wordOf_155 : decode cX9_wordOf 155 = .ok (.lreturn, 1) := dk_173 (dk_at dksX9_wordOf_3 8 rfl rfl)
theorem dX9_wordOf_156 : decode cX9_wordOf 156 = .ok (.bipush 115, 2) := dk_16 115 (dk_at dksX9_wordOf_3 9 rfl rfl)
theorem dX9_wordOf_158 : decode cX9_wordOf 158 = .ok (.bipush 112, 2) := dk_16 112 (dk_at dksX9_wordOf_3 11 rfl rfl)
theorem dX9_wordOf_160 : decode cX9_wordOf 160 = .ok (.bipush 111, 2) := dk_16 111 (dk_at dksX9_wordOf_3 13 rfl rfl)
theorem dX9_wordOf_162 : decode cX9_wordOf 162 = .ok (.bipush 105, 2) := dk_16 105 (dk_at dksX9_wordOf_3 15 rfl rfl)
theorem dX9_wordOf_164 : decode cX9_wordOf 164 = .ok (.bipush 108, 2) := dk_16 108 (dk_at dksX9_wordOf_3 17 rfl rfl)
theorem dX9_wordOf_166 : decode cX9_wordOf 166 = .ok (.bipush 115, 2) := dk_16 115 (dk_at dksX9_wordOf_3 19 rfl rfl)
theorem dX9_wordOf_168 : decode cX9_wordOf 168 = .ok (.iconst 0, 1) := dk_3 (dk_at dksX9_wordOf_3 21 rfl rfl)
theorem dX9_wordOf_169 : decode cX9_wordOf 169 = .ok (.invokestatic 132, 3) := dk_184 0 132 (dk_at dksX9_wordOf_4 0 rfl rfl)
theorem dX9_wordOf_172 : decode cX9_wordOf 172 = .ok (.lreturn, 1) := dk_173 (dk_at dksX9_wordOf_4 3 rfl rfl)
theorem dX9_wordOf_173 : decode cX9_wordOf 173 = .ok (.bipush 112, 2) := dk_16 112 (dk_at dksX9_wordOf_4 4 rfl rfl)
theorem dX9_wordOf_175 : decode cX9_wordOf 175 = .ok (.bipush 108, 2) := dk_16 108 (dk_at dksX9_wordOf_4 6 rfl rfl)
theorem dX9_wordOf_177 : decode cX9_wordOf 177 = .ok (.bipush 97, 2) := dk_16 97 (dk_at dksX9_wordOf_4 8 rfl rfl)
theorem dX9_wordOf_179 : decode cX9_wordOf 179 = .ok (.bipush 116, 2) := dk_16 116 (dk_at dksX9_wordOf_4 10 rfl rfl)
theorem dX9_wordOf_181 : decode cX9_wordOf 181 = .ok (.bipush 101, 2) := dk_16 101 (dk_at dksX9_wordOf_4 12 rfl rfl)
theorem dX9_wordOf_183 : decode cX9_wordOf 183 = .ok (.iconst 0, 1) := dk_3 (dk_at dksX9_wordOf_4 14 rfl rfl)
theorem dX9_wordOf_184 : decode cX9_wordOf 184 = .ok (.iconst 0, 1) := dk_3 (dk_at dksX9_wordOf_4 15 rfl rfl)
theorem dX9_wordOf_185 : decode cX9_wordOf 185 = .ok (.invokestatic 132, 3) := dk_184 0 132 (dk_at dksX9_wordOf_4 16 rfl rfl)
theorem dX9_wordOf_188 : decode cX9_wordOf 188 = .ok (.lreturn, 1) := dk_173 (dk_at dksX9_wordOf_4 19 rfl rfl)
theorem dX9_wordOf_189 : decode cX9_wordOf 189 = .ok (.bipush 108, 2) := dk_16 108 (dk_at dksX9_wordOf_4 20 rfl rfl)
theorem dX9_wordOf_191 : decode cX9_wordOf 191 = .ok (.bipush 97, 2) := dk_16 97 (dk_at dksX9_wordOf_4 22 rfl rfl)
theorem dX9_wordOf_193 : decode cX9_wordOf 193 = .ok (.bipush 119, 2) := dk_16 119 (dk_at dksX9_wordOf_5 0 rfl rfl)
theorem dX9_wordOf_195 : decode cX9_wordOf 195 = .ok (.iconst 0, 1) := dk_3 (dk_at dksX9_wordOf_5 2 rfl rfl)
theorem dX9_wordOf_196 : decode cX9_wordOf 196 = .ok (.iconst 0, 1) := dk_3 (dk_at dksX9_wordOf_5 3 rfl rfl)
theorem dX9_wordOf_197 : decode cX9_wordOf 197 = .ok (.iconst 0, 1) := dk_3 (dk_at dksX9_wordOf_5 4 rfl rfl)
theorem dX9_wordOf_198 : decode cX9_wordOf 198 = .ok (.iconst 0, 1) := dk_3 (dk_at dksX9_wordOf_5 5 rfl rfl)
theorem dX9_wordOf_199 : decode cX9_wordOf 199 = .ok (.invokestatic 132, 3) := dk_184 0 132 (dk_at dksX9_wordOf_5 6 rfl rfl)
theorem dX9_wordOf_202 : decode cX9_wordOf 202 = .ok (.lreturn, 1) := dk_173 (dk_at dksX9_wordOf_5 9 rfl rfl)
theorem dX9_wordOf_203 : decode cX9_wordOf 203 = .ok (.bipush 110, 2) := dk_16 110 (dk_at dksX9_wordOf_5 10 rfl rfl)
theorem dX9_wordOf_205 : decode cX9_wordOf 205 = .ok (.bipush 101, 2) := dk_16 101 (dk_at dksX9_wordOf_5 12 rfl rfl)
theorem dX9_wordOf_207 : decode cX9_wordOf 207 = .ok (.bipush 120, 2) := dk_16 120 (dk_at dksX9_wordOf_5 14 rfl rfl)
theorem dX9_wordOf_209 : decode cX9_wordOf 209 = .ok (.bipush 116, 2) := dk_16 116 (dk_at dksX9_wordOf_5 16 rfl rfl)
theorem dX9_wordOf_211 : decode cX9_wordOf 211 = .ok (.iconst 0, 1) := dk_3 (dk_at dksX9_wordOf_5 18 rfl rfl)
theorem dX9_wordOf_212 : decode cX9_wordOf 212 = .ok (.iconst 0, 1) := dk_3 (dk_at dksX9_wordOf_5 19 rfl rfl)
theorem dX9_wordOf_213 : decode cX9_wordOf 213 = .ok (.iconst 0, 1) := dk_3 (dk_at dksX9_wordOf_5 20 rfl rfl)
theorem dX9_wordOf_214 : decode cX9_wordOf 214 = .ok (.invokestatic 132, 3) := dk_184 0 132 (dk_at dksX9_wordOf_5 21 rfl rfl)
theorem dX9_wordOf_217 : decode cX9_wordOf 217 = .ok (.lreturn, 1) := dk_173 (dk_at dksX9_wordOf_6 0 rfl rfl)
theorem dX9_wordOf_218 : decode cX9_wordOf 218 = .ok (.bipush 99, 2) := dk_16 99 (dk_at dksX9_wordOf_6 1 rfl rfl)
theorem dX9_wordOf_220 : decode cX9_wordOf 220 = .ok (.bipush 104, 2) := dk_16 104 (dk_at dksX9_wordOf_6 3 rfl rfl)
theorem dX9_wordOf_222 : decode cX9_wordOf 222 = .ok (.bipush 105, 2) := dk_16 105 (dk_at dksX9_wordOf_6 5 rfl rfl)
theorem dX9_wordOf_224 : decode cX9_wordOf 224 = .ok (.bipush 108, 2) := dk_16 108 (dk_at dksX9_wordOf_6 7 rfl rfl)
theorem dX9_wordOf_226 : decode cX9_wordOf 226 = .ok (.bipush 100, 2) := dk_16 100 (dk_at dksX9_wordOf_6 9 rfl rfl)
theorem dX9_wordOf_228 : decode cX9_wordOf 228 = .ok (.iconst 0, 1) := dk_3 (dk_at dksX9_wordOf_6 11 rfl rfl)
theorem dX9_wordOf_229 : decode cX9_wordOf 229 = .ok (.iconst 0, 1) := dk_3 (dk_at dksX9_wordOf_6 12 rfl rfl)
theorem dX9_wordOf_230 : decode cX9_wordOf 230 = .ok (.invokestatic 132, 3) := dk_184 0 132 (dk_at dksX9_wordOf_6 13 rfl rfl)
theorem dX9_wordOf_233 : decode cX9_wordOf 233 = .ok (.lreturn, 1) := dk_173 (dk_at dksX9_wordOf_6 16 rfl rfl)
theorem dX9_wordOf_234 : decode cX9_wordOf 234 = .ok (.bipush 108, 2) := dk_16 108 (dk_at dksX9_wordOf_6 17 rfl rfl)
theorem dX9_wordOf_236 : decode cX9_wordOf 236 = .ok (.bipush 101, 2) := dk_16 101 (dk_at dksX9_wordOf_6 19 rfl rfl)
theorem dX9_wordOf_238 : decode cX9_wordOf 238 = .ok (.bipush 97, 2) := dk_16 97 (dk_at dksX9_wordOf_6 21 rfl rfl)
theorem dX9_wordOf_240 : decode cX9_wordOf 240 = .ok (.bipush 115, 2) := dk_16 115 (dk_at dksX9_wordOf_7 0 rfl rfl)
theorem dX9_wordOf_242 : decode cX9_wordOf 242 = .ok (.bipush 116, 2) := dk_16 116 (dk_at dksX9_wordOf_7 2 rfl rfl)
theorem dX9_wordOf_244 : decode cX9_wordOf 244 = .ok (.iconst 0, 1) := dk_3 (dk_at dksX9_wordOf_7 4 rfl rfl)
theorem dX9_wordOf_245 : decode cX9_wordOf 245 = .ok (.iconst 0, 1) := dk_3 (dk_at dksX9_wordOf_7 5 rfl rfl)
theorem dX9_wordOf_246 : decode cX9_wordOf 246 = .ok (.invokestatic 132, 3) := dk_184 0 132 (dk_at dksX9_wordOf_7 6 rfl rfl)
theorem dX9_wordOf_249 : decode cX9_wordOf 249 = .ok (.lreturn, 1) := dk_173 (dk_at dksX9_wordOf_7 9 rfl rfl)
theorem dX9_wordOf_250 : decode cX9_wordOf 250 = .ok (.bipush 100, 2) := dk_16 100 (dk_at dksX9_wordOf_7 10 rfl rfl)
theorem dX9_wordOf_252 : decode cX9_wordOf 252 = .ok (.bipush 111, 2) := dk_16 111 (dk_at dksX9_wordOf_7 12 rfl rfl)
theorem dX9_wordOf_254 : decode cX9_wordOf 254 = .ok (.bipush 103, 2) := dk_16 103 (dk_at dksX9_wordOf_7 14 rfl rfl)
theorem dX9_wordOf_256 : decode cX9_wordOf 256 = .ok (.bipush 115, 2) := dk_16 115 (dk_at dksX9_wordOf_7 16 rfl rfl)
theorem dX9_wordOf_258 : decode cX9_wordOf 258 = .ok (.iconst 0, 1) := dk_3 (dk_at dksX9_wordOf_7 18 rfl rfl)
theorem dX9_wordOf_259 : decode cX9_wordOf 259 = .ok (.iconst 0, 1) := dk_3 (dk_at dksX9_wordOf_7 19 rfl rfl)
theorem dX9_wordOf_260 : decode cX9_wordOf 260 = .ok (.iconst 0, 1) := dk_3 (dk_at dksX9_wordOf_7 20 rfl rfl)
theorem dX9_wordOf_261 : decode cX9_wordOf 261 = .ok (.invokestatic 132, 3) := dk_184 0 132 (dk_at dksX9_wordOf_7 21 rfl rfl)
theorem dX9_wordOf_264 : decode cX9_wordOf 264 = .ok (.lreturn, 1) := dk_173 (dk_at dksX9_wordOf_8 0 rfl rfl)
theorem dX9_wordOf_265 : decode cX9_wordOf 265 = .ok (.bipush 101, 2) := dk_16 101 (dk_at dksX9_wordOf_8 1 rfl rfl)
theorem dX9_wordOf_267 : decode cX9_wordOf 267 = .ok (.bipush 97, 2) := dk_16 97 (dk_at dksX9_wordOf_8 3 rfl rfl)
theorem dX9_wordOf_269 : decode cX9_wordOf 269 = .ok (.bipush 116, 2) := dk_16 116 (dk_at dksX9_wordOf_8 5 rfl rfl)
theorem dX9_wordOf_271 : decode cX9_wordOf 271 = .ok (.bipush 115, 2) := dk_16 115 (dk_at dksX9_wordOf_8 7 rfl rfl)
theorem dX9_wordOf_273 : decode cX9_wordOf 273 = .ok (.iconst 0, 1) := dk_3 (dk_at dksX9_wordOf_8 9 rfl rfl)
theorem dX9_wordOf_274 : decode cX9_wordOf 274 = .ok (.iconst 0, 1) := dk_3 (dk_at dksX9_wordOf_8 10 rfl rfl)
theorem dX9_wordOf_275 : decode cX9_wordOf 275 = .ok (.iconst 0, 1) := dk_3 (dk_at dksX9_wordOf_8 11 rfl rfl)
theorem dX9_wordOf_276 : decode cX9_wordOf 276 = .ok (.invokestatic 132, 3) := dk_184 0 132 (dk_at dksX9_wordOf_8 12 rfl rfl)
theorem dX9_wordOf_279 : decode cX9_wordOf 279 = .ok (.lreturn, 1) := dk_173 (dk_at dksX9_wordOf_8 15 rfl rfl)
theorem dX9_wordOf_280 : decode cX9_wordOf 280 = .ok (.bipush 115, 2) := dk_16 115 (dk_at dksX9_wordOf_8 16 rfl rfl)
theorem dX9_wordOf_282 : decode cX9_wordOf 282 = .ok (.bipush 101, 2) := dk_16 101 (dk_at dksX9_wordOf_8 18 rfl rfl)
theorem dX9_wordOf_284 : decode cX9_wordOf 284 = .ok (.bipush 114, 2) := dk_16 114 (dk_at dksX9_wordOf_8 20 rfl rfl)
theorem dX9_wordOf_286 : decode cX9_wordOf 286 = .ok (.bipush 118, 2) := dk_16 118 (dk_at dksX9_wordOf_8 22 rfl rfl)
theorem dX9_wordOf_288 : decode cX9_wordOf 288 = .ok (.bipush 101, 2) := dk_16 101 (dk_at dksX9_wordOf_9 0 rfl rfl)
theorem dX9_wordOf_290 : decode cX9_wordOf 290 = .ok (.bipush 100, 2) := dk_16 100 (dk_at dksX9_wordOf_9 2 rfl rfl)
theorem dX9_wordOf_292 : decode cX9_wordOf 292 = .ok (.iconst 0, 1) := dk_3 (dk_at dksX9_wordOf_9 4 rfl rfl)
theorem dX9_wordOf_293 : decode cX9_wordOf 293 = .ok (.invokestatic 132, 3) := dk_184 0 132 (dk_at dksX9_wordOf_9 5 rfl rfl)
theorem dX9_wordOf_296 : decode cX9_wordOf 296 = .ok (.lreturn, 1) := dk_173 (dk_at dksX9_wordOf_9 8 rfl rfl)
theorem dX9_wordOf_297 : decode cX9_wordOf 297 = .ok (.bipush 114, 2) := dk_16 114 (dk_at dksX9_wordOf_9 9 rfl rfl)
theorem dX9_wordOf_299 : decode cX9_wordOf 299 = .ok (.bipush 105, 2) := dk_16 105 (dk_at dksX9_wordOf_9 11 rfl rfl)
theorem dX9_wordOf_301 : decode cX9_wordOf 301 = .ok (.bipush 115, 2) := dk_16 115 (dk_at dksX9_wordOf_9 13 rfl rfl)
theorem dX9_wordOf_303 : decode cX9_wordOf 303 = .ok (.bipush 101, 2) := dk_16 101 (dk_at dksX9_wordOf_9 15 rfl rfl)
theorem dX9_wordOf_305 : decode cX9_wordOf 305 = .ok (.bipush 115, 2) := dk_16 115 (dk_at dksX9_wordOf_9 17 rfl rfl)
theorem dX9_wordOf_307 : decode cX9_wordOf 307 = .ok (.iconst 0, 1) := dk_3 (dk_at dksX9_wordOf_9 19 rfl rfl)
theorem dX9_wordOf_308 : decode cX9_wordOf 308 = .ok (.iconst 0, 1) := dk_3 (dk_at dksX9_wordOf_9 20 rfl rfl)
theorem dX9_wordOf_309 : decode cX9_wordOf 309 = .ok (.invokestatic 132, 3) := dk_184 0 132 (dk_at dksX9_wordOf_9 21 rfl rfl)
theorem dX9_wordOf_312 : decode cX9_wordOf 312 = .ok (.lreturn, 1) := dk_173 (dk_at dksX9_wordOf_10 0 rfl rfl)
theorem dX9_wordOf_313 : decode cX9_wordOf 313 = .ok (.bipush 114, 2) := dk_16 114 (dk_at dksX9_wordOf_10 1 rfl rfl)
theorem dX9_wordOf_315 : decode cX9_wordOf 315 = .ok (.bipush 101, 2) := dk_16 101 (dk_at dksX9_wordOf_10 3 rfl rfl)
theorem dX9_wordOf_317 : decode cX9_wordOf 317 = .ok (.bipush 102, 2) := dk_16 102 (dk_at dksX9_wordOf_10 5 rfl rfl)
theorem dX9_wordOf_319 : decode cX9_wordOf 319 = .ok (.bipush 117, 2) := dk_16 117 (dk_at dksX9_wordOf_10 7 rfl rfl)
theorem dX9_wordOf_321 : decode cX9_wordOf 321 = .ok (.bipush 115, 2) := dk_16 115 (dk_at dksX9_wordOf_10 9 rfl rfl)
theorem dX9_wordOf_323 : decode cX9_wordOf 323 = .ok (.bipush 101, 2) := dk_16 101 (dk_at dksX9_wordOf_10 11 rfl rfl)
theorem dX9_wordOf_325 : decode cX9_wordOf 325 = .ok (.bipush 115, 2) := dk_16 115 (dk_at dksX9_wordOf_10 13 rfl rfl)
theorem dX9_wordOf_327 : decode cX9_wordOf 327 = .ok (.invokestatic 132, 3) := dk_184 0 132 (dk_at dksX9_wordOf_10 15 rfl rfl)
theorem dX9_wordOf_330 : decode cX9_wordOf 330 = .ok (.lreturn, 1) := dk_173 (dk_at dksX9_wordOf_10 18 rfl rfl)
theorem dX9_wordOf_331 : decode cX9_wordOf 331 = .ok (.bipush 97, 2) := dk_16 97 (dk_at dksX9_wordOf_10 19 rfl rfl)
theorem dX9_wordOf_333 : decode cX9_wordOf 333 = .ok (.bipush 99, 2) := dk_16 99 (dk_at dksX9_wordOf_10 21 rfl rfl)
theorem dX9_wordOf_335 : decode cX9_wordOf 335 = .ok (.bipush 99, 2) := dk_16 99 (dk_at dksX9_wordOf_11 0 rfl rfl)
theorem dX9_wordOf_337 : decode cX9_wordOf 337 = .ok (.bipush 101, 2) := dk_16 101 (dk_at dksX9_wordOf_11 2 rfl rfl)
theorem dX9_wordOf_339 : decode cX9_wordOf 339 = .ok (.bipush 112, 2) := dk_16 112 (dk_at dksX9_wordOf_11 4 rfl rfl)
theorem dX9_wordOf_341 : decode cX9_wordOf 341 = .ok (.bipush 116, 2) := dk_16 116 (dk_at dksX9_wordOf_11 6 rfl rfl)
theorem dX9_wordOf_343 : decode cX9_wordOf 343 = .ok (.bipush 115, 2) := dk_16 115 (dk_at dksX9_wordOf_11 8 rfl rfl)
theorem dX9_wordOf_345 : decode cX9_wordOf 345 = .ok (.invokestatic 132, 3) := dk_184 0 132 (dk_at dksX9_wordOf_11 10 rfl rfl)
theorem dX9_wordOf_348 : decode cX9_wordOf 348 = .ok (.lreturn, 1) := dk_173 (dk_at dksX9_wordOf_11 13 rfl rfl)
theorem dX9_wordOf_349 : decode cX9_wordOf 349 = .ok (.bipush 100, 2) := dk_16 100 (dk_at dksX9_wordOf_11 14 rfl rfl)
theorem dX9_wordOf_351 : decode cX9_wordOf 351 = .ok (.bipush 105, 2) := dk_16 105 (dk_at dksX9_wordOf_11 16 rfl rfl)
theorem dX9_wordOf_353 : decode cX9_wordOf 353 = .ok (.bipush 101, 2) := dk_16 101 (dk_at dksX9_wordOf_11 18 rfl rfl)
theorem dX9_wordOf_355 : decode cX9_wordOf 355 = .ok (.bipush 115, 2) := dk_16 115 (dk_at dksX9_wordOf_11 20 rfl rfl)
theorem dX9_wordOf_357 : decode cX9_wordOf 357 = .ok (.iconst 0, 1) := dk_3 (dk_at dksX9_wordOf_11 22 rfl rfl)
theorem dX9_wordOf_358 : decode cX9_wordOf 358 = .ok (.iconst 0, 1) := dk_3 (dk_at dksX9_wordOf_11 23 rfl rfl)
theorem dX9_wordOf_359 : decode cX9_wordOf 359 = .ok (.iconst 0, 1) := dk_3 (dk_at dksX9_wordOf_12 0 rfl rfl)
theorem dX9_wordOf_360 : decode cX9_wordOf 360 = .ok (.invokestatic 132, 3) := dk_184 0 132 (dk_at dksX9_wordOf_12 1 rfl rfl)
theorem dX9_wordOf_363 : decode cX9_wordOf 363 = .ok (.lreturn, 1) := dk_173 (dk_at dksX9_wordOf_12 4 rfl rfl)
theorem dX9_wordOf_364 : decode cX9_wordOf 364 = .ok (.bipush 109, 2) := dk_16 109 (dk_at dksX9_wordOf_12 5 rfl rfl)
theorem dX9_wordOf_366 : decode cX9_wordOf 366 = .ok (.bipush 101, 2) := dk_16 101 (dk_at dksX9_wordOf_12 7 rfl rfl)
theorem dX9_wordOf_368 : decode cX9_wordOf 368 = .ok (.bipush 97, 2) := dk_16 97 (dk_at dksX9_wordOf_12 9 rfl rfl)
theorem dX9_wordOf_370 : decode cX9_wordOf 370 = .ok (.bipush 108, 2) := dk_16 108 (dk_at dksX9_wordOf_12 11 rfl rfl)
theorem dX9_wordOf_372 : decode cX9_wordOf 372 = .ok (.iconst 0, 1) := dk_3 (dk_at dksX9_wordOf_12 13 rfl rfl)
theorem dX9_wordOf_373 : decode cX9_wordOf 373 = .ok (.iconst 0, 1) := dk_3 (dk_at dksX9_wordOf_12 14 rfl rfl)
theorem dX9_wordOf_374 : decode cX9_wordOf 374 = .ok (.iconst 0, 1) := dk_3 (dk_at dksX9_wordOf_12 15 rfl rfl)
theorem dX9_wordOf_375 : decode cX9_wordOf 375 = .ok (.invokestatic 132, 3) := dk_184 0 132 (dk_at dksX9_wordOf_12 16 rfl rfl)
theorem dX9_wordOf_378 : decode cX9_wordOf 378 = .ok (.lreturn, 1) := dk_173 (dk_at dksX9_wordOf_12 19 rfl rfl)
theorem dX9_wordOf_379 : decode cX9_wordOf 379 = .ok (.bipush 111, 2) := dk_16 111 (dk_at dksX9_wordOf_12 20 rfl rfl)
theorem dX9_wordOf_381 : decode cX9_wordOf 381 = .ok (.bipush 114, 2) := dk_16 114 (dk_at dksX9_wordOf_12 22 rfl rfl)
theorem dX9_wordOf_383 : decode cX9_wordOf 383 = .ok (.iconst 0, 1) := dk_3 (dk_at dksX9_wordOf_13 0 rfl rfl)
theorem dX9_wordOf_384 : decode cX9_wordOf 384 = .ok (.iconst 0, 1) := dk_3 (dk_at dksX9_wordOf_13 1 rfl rfl)
theorem dX9_wordOf_385 : decode cX9_wordOf 385 = .ok (.iconst 0, 1) := dk_3 (dk_at dksX9_wordOf_13 2 rfl rfl)
theorem dX9_wordOf_386 : decode cX9_wordOf 386 = .ok (.iconst 0, 1) := dk_3 (dk_at dksX9_wordOf_13 3 rfl rfl)
theorem dX9_wordOf_387 : decode cX9_wordOf 387 = .ok (.iconst 0, 1) := dk_3 (dk_at dksX9_wordOf_13 4 rfl rfl)
theorem dX9_wordOf_388 : decode cX9_wordOf 388 = .ok (.invokestatic 132, 3) := dk_184 0 132 (dk_at dksX9_wordOf_13 5 rfl rfl)
theorem dX9_wordOf_391 : decode cX9_wordOf 391 = .ok (.lreturn, 1) := dk_173 (dk_at dksX9_wordOf_13 8 rfl rfl)
theorem dX9_wordOf_392 : decode cX9_wordOf 392 = .ok (.bipush 97, 2) := dk_16 97 (dk_at dksX9_wordOf_13 9 rfl rfl)
theorem dX9_wordOf_394 : decode cX9_wordOf 394 = .ok (.bipush 110, 2) := dk_16 110 (dk_at dksX9_wordOf_13 11 rfl rfl)
theorem dX9_wordOf_396 : decode cX9_wordOf 396 = .ok (.bipush 100, 2) := dk_16 100 (dk_at dksX9_wordOf_13 13 rfl rfl)
theorem dX9_wordOf_398 : decode cX9_wordOf 398 = .ok (.iconst 0, 1) := dk_3 (dk_at dksX9_wordOf_13 15 rfl rfl)
theorem dX9_wordOf_399 : decode cX9_wordOf 399 = .ok (.iconst 0, 1) := dk_3 (dk_at dksX9_wordOf_13 16 rfl rfl)
theorem dX9_wordOf_400 : decode cX9_wordOf 400 = .ok (.iconst 0, 1) := dk_3 (dk_at dksX9_wordOf_13 17 rfl rfl)
theorem dX9_wordOf_401 : decode cX9_wordOf 401 = .ok (.iconst 0, 1) := dk_3 (dk_at dksX9_wordOf_13 18 rfl rfl)
theorem dX9_wordOf_402 : decode cX9_wordOf 402 = .ok (.invokestatic 132, 3) := dk_184 0 132 (dk_at dksX9_wordOf_13 19 rfl rfl)
theorem dX9_wordOf_405 : decode cX9_wordOf 405 = .ok (.lreturn, 1) := dk_173 (dk_at dksX9_wordOf_13 22 rfl rfl)
theorem dX9_wordOf_406 : decode cX9_wordOf 406 = .ok (.bipush 110, 2) := dk_16 110 (dk_at dksX9_wordOf_14 0 rfl rfl)
theorem dX9_wordOf_408 : decode cX9_wordOf 408 = .ok (.bipush 111, 2) := dk_16 111 (dk_at dksX9_wordOf_14 2 rfl rfl)
theorem dX9_wordOf_410 : decode cX9_wordOf 410 = .ok (.bipush 116, 2) := dk_16 116 (dk_at dksX9_wordOf_14 4 rfl rfl)
theorem dX9_wordOf_412 : decode cX9_wordOf 412 = .ok (.iconst 0, 1) := dk_3 (dk_at dksX9_wordOf_14 6 rfl rfl)
theorem dX9_wordOf_413 : decode cX9_wordOf 413 = .ok (.iconst 0, 1) := dk_3 (dk_at dksX9_wordOf_14 7 rfl rfl)
theorem dX9_wordOf_414 : decode cX9_wordOf 414 = .ok (.iconst 0, 1) := dk_3 (dk_at dksX9_wordOf_14 8 rfl rfl)
theorem dX9_wordOf_415 : decode cX9_wordOf 415 = .ok (.iconst 0, 1) := dk_3 (dk_at dksX9_wordOf_14 9 rfl rfl)
theorem dX9_wordOf_416 : decode cX9_wordOf 416 = .ok (.invokestatic 132, 3) := dk_184 0 132 (dk_at dksX9_wordOf_14 10 rfl rfl)
theorem dX9_wordOf_419 : decode cX9_wordOf 419 = .ok (.lreturn, 1) := dk_173 (dk_at dksX9_wordOf_14 13 rfl rfl)
theorem dX9_wordOf_420 : decode cX9_wordOf 420 = .ok (.bipush 100, 2) := dk_16 100 (dk_at dksX9_wordOf_14 14 rfl rfl)
theorem dX9_wordOf_422 : decode cX9_wordOf 422 = .ok (.bipush 101, 2) := dk_16 101 (dk_at dksX9_wordOf_14 16 rfl rfl)
theorem dX9_wordOf_424 : decode cX9_wordOf 424 = .ok (.bipush 97, 2) := dk_16 97 (dk_at dksX9_wordOf_14 18 rfl rfl)
theorem dX9_wordOf_426 : decode cX9_wordOf 426 = .ok (.bipush 100, 2) := dk_16 100 (dk_at dksX9_wordOf_14 20 rfl rfl)
theorem dX9_wordOf_428 : decode cX9_wordOf 428 = .ok (.iconst 0, 1) := dk_3 (dk_at dksX9_wordOf_14 22 rfl rfl)
theorem dX9_wordOf_429 : decode cX9_wordOf 429 = .ok (.iconst 0, 1) := dk_3 (dk_at dksX9_wordOf_14 23 rfl rfl)
theorem dX9_wordOf_430 : decode cX9_wordOf 430 = .ok (.iconst 0, 1) := dk_3 (dk_at dksX9_wordOf_15 0 rfl rfl)
theorem dX9_wordOf_431 : decode cX9_wordOf 431 = .ok (.invokestatic 132, 3) := dk_184 0 132 (dk_at dksX9_wordOf_15 1 rfl rfl)
theorem dX9_wordOf_434 : decode cX9_wordOf 434 = .ok (.lreturn, 1) := dk_173 (dk_at dksX9_wordOf_15 4 rfl rfl)
theorem dX9_wordOf_435 : decode cX9_wordOf 435 = .ok (.bipush 114, 2) := dk_16 114 (dk_at dksX9_wordOf_15 5 rfl rfl)
theorem dX9_wordOf_437 : decode cX9_wordOf 437 = .ok (.bipush 101, 2) := dk_16 101 (dk_at dksX9_wordOf_15 7 rfl rfl)
theorem dX9_wordOf_439 : decode cX9_wordOf 439 = .ok (.bipush 102, 2) := dk_16 102 (dk_at dksX9_wordOf_15 9 rfl rfl)
theorem dX9_wordOf_441 : decode cX9_wordOf 441 = .ok (.bipush 117, 2) := dk_16 117 (dk_at dksX9_wordOf_15 11 rfl rfl)
theorem dX9_wordOf_443 : decode cX9_wordOf 443 = .ok (.bipush 115, 2) := dk_16 115 (dk_at dksX9_wordOf_15 13 rfl rfl)
theorem dX9_wordOf_445 : decode cX9_wordOf 445 = .ok (.bipush 101, 2) := dk_16 101 (dk_at dksX9_wordOf_15 15 rfl rfl)
theorem dX9_wordOf_447 : decode cX9_wordOf 447 = .ok (.bipush 100, 2) := dk_16 100 (dk_at dksX9_wordOf_15 17 rfl rfl)
theorem dX9_wordOf_449 : decode cX9_wordOf 449 = .ok (.invokestatic 132, 3) := dk_184 0 132 (dk_at dksX9_wordOf_15 19 rfl rfl)
theorem dX9_wordOf_452 : decode cX9_wordOf 452 = .ok (.lreturn, 1) := dk_173 (dk_at dksX9_wordOf_15 22 rfl rfl)
theorem dX9_wordOf_453 : decode cX9_wordOf 453 = .ok (.bipush 99, 2) := dk_16 99 (dk_at dksX9_wordOf_16 0 rfl rfl)
theorem dX9_wordOf_455 : decode cX9_wordOf 455 = .ok (.bipush 108, 2) := dk_16 108 (dk_at dksX9_wordOf_16 2 rfl rfl)
theorem dX9_wordOf_457 : decode cX9_wordOf 457 = .ok (.bipush 101, 2) := dk_16 101 (dk_at dksX9_wordOf_16 4 rfl rfl)
theorem dX9_wordOf_459 : decode cX9_wordOf 459 = .ok (.bipush 97, 2) := dk_16 97 (dk_at dksX9_wordOf_16 6 rfl rfl)
theorem dX9_wordOf_461 : decode cX9_wordOf 461 = .ok (.bipush 110, 2) := dk_16 110 (dk_at dksX9_wordOf_16 8 rfl rfl)
theorem dX9_wordOf_463 : decode cX9_wordOf 463 = .ok (.iconst 0, 1) := dk_3 (dk_at dksX9_wordOf_16 10 rfl rfl)
theorem dX9_wordOf_464 : decode cX9_wordOf 464 = .ok (.iconst 0, 1) := dk_3 (dk_at dksX9_wordOf_16 11 rfl rfl)
theorem dX9_wordOf_465 : decode cX9_wordOf 465 = .ok (.invokestatic 132, 3) := dk_184 0 132 (dk_at dksX9_wordOf_16 12 rfl rfl)
theorem dX9_wordOf_468 : decode cX9_wordOf 468 = .ok (.lreturn, 1) := dk_173 (dk_at dksX9_wordOf_16 15 rfl rfl)
theorem dX9_wordOf_469 : decode cX9_wordOf 469 = .ok (.bipush 111, 2) := dk_16 111 (dk_at dksX9_wordOf_16 16 rfl rfl)
theorem dX9_wordOf_471 : decode cX9_wordOf 471 = .ok (.bipush 102, 2) := dk_16 102 (dk_at dksX9_wordOf_16 18 rfl rfl)
theorem dX9_wordOf_473 : decode cX9_wordOf 473 = .ok (.iconst 0, 1) := dk_3 (dk_at dksX9_wordOf_16 20 rfl rfl)
theorem dX9_wordOf_474 : decode cX9_wordOf 474 = .ok (.iconst 0, 1) := dk_3 (dk_at dksX9_wordOf_16 21 rfl rfl)
theorem dX9_wordOf_475 : decode cX9_wordOf 475 = .ok (.iconst 0, 1) := dk_3 (dk_at dksX9_wordOf_16 22 rfl rfl)
theorem dX9_wordOf_476 : decode cX9_wordOf 476 = .ok (.iconst 0, 1) := dk_3 (dk_at dksX9_wordOf_16 23 rfl rfl)
theorem dX9_wordOf_477 : decode cX9_wordOf 477 = .ok (.iconst 0, 1) := dk_3 (dk_at dksX9_wordOf_17 0 rfl rfl)
theorem dX9_wordOf_478 : decode cX9_wordOf 478 = .ok (.invokestatic 132, 3) := dk_184 0 132 (dk_at dksX9_wordOf_17 1 rfl rfl)
theorem dX9_wordOf_481 : decode cX9_wordOf 481 = .ok (.lreturn, 1) := dk_173 (dk_at dksX9_wordOf_17 4 rfl rfl)
theorem dX9_wordOf_482 : decode cX9_wordOf 482 = .ok (.bipush 104, 2) := dk_16 104 (dk_at dksX9_wordOf_17 5 rfl rfl)
theorem dX9_wordOf_484 : decode cX9_wordOf 484 = .ok (.bipush 97, 2) := dk_16 97 (dk_at dksX9_wordOf_17 7 rfl rfl)
theorem dX9_wordOf_486 : decode cX9_wordOf 486 = .ok (.bipush 115, 2) := dk_16 115 (dk_at dksX9_wordOf_17 9 rfl rfl)
theorem dX9_wordOf_488 : decode cX9_wordOf 488 = .ok (.iconst 0, 1) := dk_3 (dk_at dksX9_wordOf_17 11 rfl rfl)
theorem dX9_wordOf_489 : decode cX9_wordOf 489 = .ok (.iconst 0, 1) := dk_3 (dk_at dksX9_wordOf_17 12 rfl rfl)
theorem dX9_wordOf_490 : decode cX9_wordOf 490 = .ok (.iconst 0, 1) := dk_3 (dk_at dksX9_wordOf_17 13 rfl rfl)
theorem dX9_wordOf_491 : decode cX9_wordOf 491 = .ok (.iconst 0, 1) := dk_3 (dk_at dksX9_wordOf_17 14 rfl rfl)
theorem dX9_wordOf_492 : decode cX9_wordOf 492 = .ok (.invokestatic 132, 3) := dk_184 0 132 (dk_at dksX9_wordOf_17 15 rfl rfl)
theorem dX9_wordOf_495 : decode cX9_wordOf 495 = .ok (.lreturn, 1) := dk_173 (dk_at dksX9_wordOf_17 18 rfl rfl)
theorem dX9_wordOf_496 : decode cX9_wordOf 496 = .ok (.bipush 119, 2) := dk_16 119 (dk_at dksX9_wordOf_17 19 rfl rfl)
theorem dX9_wordOf_498 : decode cX9_wordOf 498 = .ok (.bipush 97, 2) := dk_16 97 (dk_at dksX9_wordOf_17 21 rfl rfl)
theorem dX9_wordOf_500 : decode cX9_wordOf 500 = .ok (.bipush 110, 2) := dk_16 110 (dk_at dksX9_wordOf_18 0 rfl rfl)
theorem dX9_wordOf_502 : decode cX9_wordOf 502 = .ok (.bipush 116, 2) := dk_16 116 (dk_at dksX9_wordOf_18 2 rfl rfl)
theorem dX9_wordOf_504 : decode cX9_wordOf 504 = .ok (.bipush 115, 2) := dk_16 115 (dk_at dksX9_wordOf_18 4 rfl rfl)
theorem dX9_wordOf_506 : decode cX9_wordOf 506 = .ok (.iconst 0, 1) := dk_3 (dk_at dksX9_wordOf_18 6 rfl rfl)
theorem dX9_wordOf_507 : decode cX9_wordOf 507 = .ok (.iconst 0, 1) := dk_3 (dk_at dksX9_wordOf_18 7 rfl rfl)
theorem dX9_wordOf_508 : decode cX9_wordOf 508 = .ok (.invokestatic 132, 3) := dk_184 0 132 (dk_at dksX9_wordOf_18 8 rfl rfl)
theorem dX9_wordOf_511 : decode cX9_wordOf 511 = .ok (.lreturn, 1) := dk_173 (dk_at dksX9_wordOf_18 11 rfl rfl)
theorem dX9_wordOf_512 : decode cX9_wordOf 512 = .ok (.bipush 101, 2) := dk_16 101 (dk_at dksX9_wordOf_18 12 rfl rfl)
theorem dX9_wordOf_514 : decode cX9_wordOf 514 = .ok (.bipush 97, 2) := dk_16 97 (dk_at dksX9_wordOf_18 14 rfl rfl)
theorem dX9_wordOf_516 : decode cX9_wordOf 516 = .ok (.bipush 116, 2) := dk_16 116 (dk_at dksX9_wordOf_18 16 rfl rfl)
theorem dX9_wordOf_518 : decode cX9_wordOf 518 = .ok (.bipush 101, 2) := dk_16 101 (dk_at dksX9_wordOf_18 18 rfl rfl)
theorem dX9_wordOf_520 : decode cX9_wordOf 520 = .ok (.bipush 110, 2) := dk_16 110 (dk_at dksX9_wordOf_18 20 rfl rfl)
theorem dX9_wordOf_522 : decode cX9_wordOf 522 = .ok (.iconst 0, 1) := dk_3 (dk_at dksX9_wordOf_18 22 rfl rfl)
theorem dX9_wordOf_523 : decode cX9_wordOf 523 = .ok (.iconst 0, 1) := dk_3 (dk_at dksX9_wordOf_18 23 rfl rfl)
theorem dX9_wordOf_524 : decode cX9_wordOf 524 = .ok (.invokestatic 132, 3) := dk_184 0 132 (dk_at dksX9_wordOf_19 0 rfl rfl)
theorem dX9_wordOf_527 : decode cX9_wordOf 527 = .ok (.lreturn, 1) := dk_173 (dk_at dksX9_wordOf_19 3 rfl rfl)
theorem dX9_wordOf_528 : decode cX9_wordOf 528 = .ok (.bipush 104, 2) := dk_16 104 (dk_at dksX9_wordOf_19 4 rfl rfl)
theorem dX9_wordOf_530 : decode cX9_wordOf 530 = .ok (.bipush 117, 2) := dk_16 117 (dk_at dksX9_wordOf_19 6 rfl rfl)
theorem dX9_wordOf_532 : decode cX9_wordOf 532 = .ok (.bipush 110, 2) := dk_16 110 (dk_at dksX9_wordOf_19 8 rfl rfl)
theorem dX9_wordOf_534 : decode cX9_wordOf 534 = .ok (.bipush 103, 2) := dk_16 103 (dk_at dksX9_wordOf_19 10 rfl rfl)
theorem dX9_wordOf_536 : decode cX9_wordOf 536 = .ok (.bipush 101, 2) := dk_16 101 (dk_at dksX9_wordOf_19 12 rfl rfl)
theorem dX9_wordOf_538 : decode cX9_wordOf 538 = .ok (.bipush 114, 2) := dk_16 114 (dk_at dksX9_wordOf_19 14 rfl rfl)
theorem dX9_wordOf_540 : decode cX9_wordOf 540 = .ok (.iconst 0, 1) := dk_3 (dk_at dksX9_wordOf_19 16 rfl rfl)
theorem dX9_wordOf_541 : decode cX9_wordOf 541 = .ok (.invokestatic 132, 3) := dk_184 0 132 (dk_at dksX9_wordOf_19 17 rfl rfl)
theorem dX9_wordOf_544 : decode cX9_wordOf 544 = .ok (.lreturn, 1) := dk_173 (dk_at dksX9_wordOf_19 20 rfl rfl)
theorem dX9_wordOf_545 : decode cX9_wordOf 545 = .ok (.bipush 110, 2) := dk_16 110 (dk_at dksX9_wordOf_19 21 rfl rfl)
theorem dX9_wordOf_547 : decode cX9_wordOf 547 = .ok (.bipush 117, 2) := dk_16 117 (dk_at dksX9_wordOf_20 0 rfl rfl)
theorem dX9_wordOf_549 : decode cX9_wordOf 549 = .ok (.bipush 109, 2) := dk_16 109 (dk_at dksX9_wordOf_20 2 rfl rfl)
theorem dX9_wordOf_551 : decode cX9_wordOf 551 = .ok (.bipush 98, 2) := dk_16 98 (dk_at dksX9_wordOf_20 4 rfl rfl)
theorem dX9_wordOf_553 : decode cX9_wordOf 553 = .ok (.bipush 101, 2) := dk_16 101 (dk_at dksX9_wordOf_20 6 rfl rfl)
theorem dX9_wordOf_555 : decode cX9_wordOf 555 = .ok (.bipush 114, 2) := dk_16 114 (dk_at dksX9_wordOf_20 8 rfl rfl)
theorem dX9_wordOf_557 : decode cX9_wordOf 557 = .ok (.iconst 0, 1) := dk_3 (dk_at dksX9_wordOf_20 10 rfl rfl)
theorem dX9_wordOf_558 : decode cX9_wordOf 558 = .ok (.invokestatic 132, 3) := dk_184 0 132 (dk_at dksX9_wordOf_20 11 rfl rfl)
theorem dX9_wordOf_561 : decode cX9_wordOf 561 = .ok (.lreturn, 1) := dk_173 (dk_at dksX9_wordOf_20 14 rfl rfl)
abbrev cX9_spelt : ByteArray := prog_25_method_18_code
def yX9_spelt : MethodName := ⟨RX9, "spelt", "(IIIIIII)J"⟩
def dkwX9_spelt_5 : List UInt8 := [101, 55, 7, 22, 7, 173]
abbrev dktX9_spelt_5 : List UInt8 := dkwX9_spelt_5 ++ []
def dkwX9_spelt_4 : List UInt8 := [20, 0, 130, 101, 55, 7, 21, 6, 158, 0, 19, 20, 0, 128, 22, 7, 105, 21, 6, 133, 97, 20, 0, 130]
abbrev dktX9_spelt_4 : List UInt8 := dkwX9_spelt_4 ++ dktX9_spelt_5
def dkwX9_spelt_3 : List UInt8 := [97, 20, 0, 130, 101, 55, 7, 21, 5, 158, 0, 19, 20, 0, 128, 22, 7, 105, 21, 5, 133, 97]
abbrev dktX9_spelt_3 : List UInt8 := dkwX9_spelt_3 ++ dktX9_spelt_4
def dkwX9_spelt_2 : List UInt8 := [105, 29, 133, 97, 20, 0, 130, 101, 55, 7, 21, 4, 158, 0, 19, 20, 0, 128, 22, 7, 105, 21, 4, 133]
abbrev dktX9_spelt_2 : List UInt8 := dkwX9_spelt_2 ++ dktX9_spelt_3
def dkwX9_spelt_1 : List UInt8 := [20, 0, 128, 22, 7, 105, 28, 133, 97, 20, 0, 130, 101, 55, 7, 29, 158, 0, 18, 20, 0, 128, 22, 7]
abbrev dktX9_spelt_1 : List UInt8 := dkwX9_spelt_1 ++ dktX9_spelt_2
def dkwX9_spelt_0 : List UInt8 := [20, 0, 128, 26, 133, 20, 0, 130, 101, 105, 27, 133, 97, 20, 0, 130, 101, 55, 7, 28, 158, 0, 18]
abbrev dktX9_spelt_0 : List UInt8 := dkwX9_spelt_0 ++ dktX9_spelt_1
theorem dksX9_spelt_0 : cX9_spelt.data.toList.drop 0 = dktX9_spelt_0 := by decide +kernel
theorem dksX9_spelt_1 : cX9_spelt.data.toList.drop 23 = dktX9_spelt_1 := dk_seg dksX9_spelt_0 23 rfl rfl
theorem dksX9_spelt_2 : cX9_spelt.data.toList.drop 47 = dktX9_spelt_2 := dk_seg dksX9_spelt_1 24 rfl rfl
theorem dksX9_spelt_3 : cX9_spelt.data.toList.drop 71 = dktX9_spelt_3 := dk_seg dksX9_spelt_2 24 rfl rfl
theorem dksX9_spelt_4 : cX9_spelt.data.toList.drop 93 = dktX9_spelt_4 := dk_seg dksX9_spelt_3 22 rfl rfl
theorem dksX9_spelt_5 : cX9_spelt.data.toList.drop 117 = dktX9_spelt_5 := dk_seg dksX9_spelt_4 24 rfl rfl
theorem dX9_spelt_0 : decode cX9_spelt 0 = .ok (.ldc2_w 128, 3) := dk_20 0 128 (dk_at dksX9_spelt_0 0 rfl rfl)
theorem dX9_spelt_3 : decode cX9_spelt 3 = .ok (.iload_n 0, 1) := dk_26 (dk_at dksX9_spelt_0 3 rfl rfl)
theorem dX9_spelt_4 : decode cX9_spelt 4 = .ok (.i2l, 1) := dk_133 (dk_at dksX9_spelt_0 4 rfl rfl)
theorem dX9_spelt_5 : decode cX9_spelt 5 = .ok (.ldc2_w 130, 3) := dk_20 0 130 (dk_at dksX9_spelt_0 5 rfl rfl)
theorem dX9_spelt_8 : decode cX9_spelt 8 = .ok (.lsub, 1) := dk_101 (dk_at dksX9_spelt_0 8 rfl rfl)
theorem dX9_spelt_9 : decode cX9_spelt 9 = .ok (.lmul, 1) := dk_105 (dk_at dksX9_spelt_0 9 rfl rfl)
theorem dX9_spelt_10 : decode cX9_spelt 10 = .ok (.iload_n 1, 1) := dk_27 (dk_at dksX9_spelt_0 10 rfl rfl)
theorem dX9_spelt_11 : decode cX9_spelt 11 = .ok (.i2l, 1) := dk_133 (dk_at dksX9_spelt_0 11 rfl rfl)
theorem dX9_spelt_12 : decode cX9_spelt 12 = .ok (.ladd, 1) := dk_97 (dk_at dksX9_spelt_0 12 rfl rfl)
theorem dX9_spelt_13 : decode cX9_spelt 13 = .ok (.ldc2_w 130, 3) := dk_20 0 130 (dk_at dksX9_spelt_0 13 rfl rfl)
theorem dX9_spelt_16 : decode cX9_spelt 16 = .ok (.lsub, 1) := dk_101 (dk_at dksX9_spelt_0 16 rfl rfl)
theorem dX9_spelt_17 : decode cX9_spelt 17 = .ok (.lstore 7, 2) := dk_55 7 (dk_at dksX9_spelt_0 17 rfl rfl)
theorem dX9_spelt_19 : decode cX9_spelt 19 = .ok (.iload_n 2, 1) := dk_28 (dk_at dksX9_spelt_0 19 rfl rfl)
theorem dX9_spelt_20 : decode cX9_spelt 20 = .ok (.ifCond .le 18, 3) := dk_158 0 18 (dk_at dksX9_spelt_0 20 rfl rfl)
theorem dX9_spelt_23 : decode cX9_spelt 23 = .ok (.ldc2_w 128, 3) := dk_20 0 128 (dk_at dksX9_spelt_1 0 rfl rfl)
theorem dX9_spelt_26 : decode cX9_spelt 26 = .ok (.lload 7, 2) := dk_22 7 (dk_at dksX9_spelt_1 3 rfl rfl)
theorem dX9_spelt_28 : decode cX9_spelt 28 = .ok (.lmul, 1) := dk_105 (dk_at dksX9_spelt_1 5 rfl rfl)
theorem dX9_spelt_29 : decode cX9_spelt 29 = .ok (.iload_n 2, 1) := dk_28 (dk_at dksX9_spelt_1 6 rfl rfl)
theorem dX9_spelt_30 : decode cX9_spelt 30 = .ok (.i2l, 1) := dk_133 (dk_at dksX9_spelt_1 7 rfl rfl)
theorem dX9_spelt_31 : decode cX9_spelt 31 = .ok (.ladd, 1) := dk_97 (dk_at dksX9_spelt_1 8 rfl rfl)
theorem dX9_spelt_32 : decode cX9_spelt 32 = .ok (.ldc2_w 130, 3) := dk_20 0 130 (dk_at dksX9_spelt_1 9 rfl rfl)
theorem dX9_spelt_35 : decode cX9_spelt 35 = .ok (.lsub, 1) := dk_101 (dk_at dksX9_spelt_1 12 rfl rfl)
theorem dX9_spelt_36 : decode cX9_spelt 36 = .ok (.lstore 7, 2) := dk_55 7 (dk_at dksX9_spelt_1 13 rfl rfl)
theorem dX9_spelt_38 : decode cX9_spelt 38 = .ok (.iload_n 3, 1) := dk_29 (dk_at dksX9_spelt_1 15 rfl rfl)
theorem dX9_spelt_39 : decode cX9_spelt 39 = .ok (.ifCond .le 18, 3) := dk_158 0 18 (dk_at dksX9_spelt_1 16 rfl rfl)
theorem dX9_spelt_42 : decode cX9_spelt 42 = .ok (.ldc2_w 128, 3) := dk_20 0 128 (dk_at dksX9_spelt_1 19 rfl rfl)
theorem dX9_spelt_45 : decode cX9_spelt 45 = .ok (.lload 7, 2) := dk_22 7 (dk_at dksX9_spelt_1 22 rfl rfl)
theorem dX9_spelt_47 : decode cX9_spelt 47 = .ok (.lmul, 1) := dk_105 (dk_at dksX9_spelt_2 0 rfl rfl)
theorem dX9_spelt_48 : decode cX9_spelt 48 = .ok (.iload_n 3, 1) := dk_29 (dk_at dksX9_spelt_2 1 rfl rfl)
theorem dX9_spelt_49 : decode cX9_spelt 49 = .ok (.i2l, 1) := dk_133 (dk_at dksX9_spelt_2 2 rfl rfl)
theorem dX9_spelt_50 : decode cX9_spelt 50 = .ok (.ladd, 1) := dk_97 (dk_at dksX9_spelt_2 3 rfl rfl)
theorem dX9_spelt_51 : decode cX9_spelt 51 = .ok (.ldc2_w 130, 3) := dk_20 0 130 (dk_at dksX9_spelt_2 4 rfl rfl)
theorem dX9_spelt_54 : decode cX9_spelt 54 = .ok (.lsub, 1) := dk_101 (dk_at dksX9_spelt_2 7 rfl rfl)
theorem dX9_spelt_55 : decode cX9_spelt 55 = .ok (.lstore 7, 2) := dk_55 7 (dk_at dksX9_spelt_2 8 rfl rfl)
theorem dX9_spelt_57 : decode cX9_spelt 57 = .ok (.iload 4, 2) := dk_21 4 (dk_at dksX9_spelt_2 10 rfl rfl)
theorem dX9_spelt_59 : decode cX9_spelt 59 = .ok (.ifCond .le 19, 3) := dk_158 0 19 (dk_at dksX9_spelt_2 12 rfl rfl)
theorem dX9_spelt_62 : decode cX9_spelt 62 = .ok (.ldc2_w 128, 3) := dk_20 0 128 (dk_at dksX9_spelt_2 15 rfl rfl)
theorem dX9_spelt_65 : decode cX9_spelt 65 = .ok (.lload 7, 2) := dk_22 7 (dk_at dksX9_spelt_2 18 rfl rfl)
theorem dX9_spelt_67 : decode cX9_spelt 67 = .ok (.lmul, 1) := dk_105 (dk_at dksX9_spelt_2 20 rfl rfl)
theorem dX9_spelt_68 : decode cX9_spelt 68 = .ok (.iload 4, 2) := dk_21 4 (dk_at dksX9_spelt_2 21 rfl rfl)
theorem dX9_spelt_70 : decode cX9_spelt 70 = .ok (.i2l, 1) := dk_133 (dk_at dksX9_spelt_2 23 rfl rfl)
theorem dX9_spelt_71 : decode cX9_spelt 71 = .ok (.ladd, 1) := dk_97 (dk_at dksX9_spelt_3 0 rfl rfl)
theorem dX9_spelt_72 : decode cX9_spelt 72 = .ok (.ldc2_w 130, 3) := dk_20 0 130 (dk_at dksX9_spelt_3 1 rfl rfl)
theorem dX9_spelt_75 : decode cX9_spelt 75 = .ok (.lsub, 1) := dk_101 (dk_at dksX9_spelt_3 4 rfl rfl)
theorem dX9_spelt_76 : decode cX9_spelt 76 = .ok (.lstore 7, 2) := dk_55 7 (dk_at dksX9_spelt_3 5 rfl rfl)
theorem dX9_spelt_78 : decode cX9_spelt 78 = .ok (.iload 5, 2) := dk_21 5 (dk_at dksX9_spelt_3 7 rfl rfl)
theorem dX9_spelt_80 : decode cX9_spelt 80 = .ok (.ifCond .le 19, 3) := dk_158 0 19 (dk_at dksX9_spelt_3 9 rfl rfl)
theorem dX9_spelt_83 : decode cX9_spelt 83 = .ok (.ldc2_w 128, 3) := dk_20 0 128 (dk_at dksX9_spelt_3 12 rfl rfl)
theorem dX9_spelt_86 : decode cX9_spelt 86 = .ok (.lload 7, 2) := dk_22 7 (dk_at dksX9_spelt_3 15 rfl rfl)
theorem dX9_spelt_88 : decode cX9_spelt 88 = .ok (.lmul, 1) := dk_105 (dk_at dksX9_spelt_3 17 rfl rfl)
theorem dX9_spelt_89 : decode cX9_spelt 89 = .ok (.iload 5, 2) := dk_21 5 (dk_at dksX9_spelt_3 18 rfl rfl)
theorem dX9_spelt_91 : decode cX9_spelt 91 = .ok (.i2l, 1) := dk_133 (dk_at dksX9_spelt_3 20 rfl rfl)
theorem dX9_spelt_92 : decode cX9_spelt 92 = .ok (.ladd, 1) := dk_97 (dk_at dksX9_spelt_3 21 rfl rfl)
theorem dX9_spelt_93 : decode cX9_spelt 93 = .ok (.ldc2_w 130, 3) := dk_20 0 130 (dk_at dksX9_spelt_4 0 rfl rfl)
theorem dX9_spelt_96 : decode cX9_spelt 96 = .ok (.lsub, 1) := dk_101 (dk_at dksX9_spelt_4 3 rfl rfl)
theorem dX9_spelt_97 : decode cX9_spelt 97 = .ok (.lstore 7, 2) := dk_55 7 (dk_at dksX9_spelt_4 4 rfl rfl)
theorem dX9_spelt_99 : decode cX9_spelt 99 = .ok (.iload 6, 2) := dk_21 6 (dk_at dksX9_spelt_4 6 rfl rfl)
theorem dX9_spelt_101 : decode cX9_spelt 101 = .ok (.ifCond .le 19, 3) := dk_158 0 19 (dk_at dksX9_spelt_4 8 rfl rfl)
theorem dX9_spelt_104 : decode cX9_spelt 104 = .ok (.ldc2_w 128, 3) := dk_20 0 128 (dk_at dksX9_spelt_4 11 rfl rfl)
theorem dX9_spelt_107 : decode cX9_spelt 107 = .ok (.lload 7, 2) := dk_22 7 (dk_at dksX9_spelt_4 14 rfl rfl)
theorem dX9_spelt_109 : decode cX9_spelt 109 = .ok (.lmul, 1) := dk_105 (dk_at dksX9_spelt_4 16 rfl rfl)
theorem dX9_spelt_110 : decode cX9_spelt 110 = .ok (.iload 6, 2) := dk_21 6 (dk_at dksX9_spelt_4 17 rfl rfl)
theorem dX9_spelt_112 : decode cX9_spelt 112 = .ok (.i2l, 1) := dk_133 (dk_at dksX9_spelt_4 19 rfl rfl)
theorem dX9_spelt_113 : decode cX9_spelt 113 = .ok (.ladd, 1) := dk_97 (dk_at dksX9_spelt_4 20 rfl rfl)
theorem dX9_spelt_114 : decode cX9_spelt 114 = .ok (.ldc2_w 130, 3) := dk_20 0 130 (dk_at dksX9_spelt_4 21 rfl rfl)
theorem dX9_spelt_117 : decode cX9_spelt 117 = .ok (.lsub, 1) := dk_101 (dk_at dksX9_spelt_5 0 rfl rfl)
theorem dX9_spelt_118 : decode cX9_spelt 118 = .ok (.lstore 7, 2) := dk_55 7 (dk_at dksX9_spelt_5 1 rfl rfl)
theorem dX9_spelt_120 : decode cX9_spelt 120 = .ok (.lload 7, 2) := dk_22 7 (dk_at dksX9_spelt_5 3 rfl rfl)
theorem dX9_spelt_122 : decode cX9_spelt 122 = .ok (.lreturn, 1) := dk_173 (dk_at dksX9_spelt_5 5 rfl rfl)
abbrev cX9_readPerson : ByteArray := prog_25_method_34_code
def yX9_readPerson : MethodName := ⟨RX9, "readPerson", "()Z"⟩
def dkwX9_readPerson_4 : List UInt8 := [46, 4, 96, 79, 4, 172]
abbrev dktX9_readPerson_4 : List UInt8 := dkwX9_readPerson_4 ++ []
def dkwX9_readPerson_3 : List UInt8 := [16, 11, 27, 96, 42, 3, 27, 182, 0, 194, 182, 0, 187, 154, 0, 5, 3, 172, 42, 180, 0, 16, 3, 92]
abbrev dktX9_readPerson_3 : List UInt8 := dkwX9_readPerson_3 ++ dktX9_readPerson_4
def dkwX9_readPerson_2 : List UInt8 := [180, 0, 16, 16, 11, 27, 96, 2, 79, 42, 16, 22, 182, 0, 191, 153, 0, 26, 42, 182, 0, 156, 42]
abbrev dktX9_readPerson_2 : List UInt8 := dkwX9_readPerson_2 ++ dktX9_readPerson_3
def dkwX9_readPerson_1 : List UInt8 := [153, 0, 20, 42, 7, 27, 96, 42, 3, 16, 20, 182, 0, 184, 182, 0, 187, 154, 0, 5, 3, 172, 42]
abbrev dktX9_readPerson_1 : List UInt8 := dkwX9_readPerson_1 ++ dktX9_readPerson_2
def dkwX9_readPerson_0 : List UInt8 := [42, 3, 16, 7, 182, 0, 178, 154, 0, 5, 3, 172, 42, 180, 0, 16, 3, 46, 60, 42, 27, 182, 0, 181]
abbrev dktX9_readPerson_0 : List UInt8 := dkwX9_readPerson_0 ++ dktX9_readPerson_1
theorem dksX9_readPerson_0 : cX9_readPerson.data.toList.drop 0 = dktX9_readPerson_0 := by decide +kernel
theorem dksX9_readPerson_1 : cX9_readPerson.data.toList.drop 24 = dktX9_readPerson_1 := dk_seg dksX9_readPerson_0 24 rfl rfl
theorem dksX9_readPerson_2 : cX9_readPerson.data.toList.drop 47 = dktX9_readPerson_2 := dk_seg dksX9_readPerson_1 23 rfl rfl
theorem dksX9_readPerson_3 : cX9_readPerson.data.toList.drop 70 = dktX9_readPerson_3 := dk_seg dksX9_readPerson_2 23 rfl rfl
theorem dksX9_readPerson_4 : cX9_readPerson.data.toList.drop 94 = dktX9_readPerson_4 := dk_seg dksX9_readPerson_3 24 rfl rfl
theorem dX9_readPerson_0 : decode cX9_readPerson 0 = .ok (.aload_n 0, 1) := dk_42 (dk_at dksX9_readPerson_0 0 rfl rfl)
theorem dX9_readPerson_1 : decode cX9_readPerson 1 = .ok (.iconst 0, 1) := dk_3 (dk_at dksX9_readPerson_0 1 rfl rfl)
theorem dX9_readPerson_2 : decode cX9_readPerson 2 = .ok (.bipush 7, 2) := dk_16 7 (dk_at dksX9_readPerson_0 2 rfl rfl)
theorem dX9_readPerson_4 : decode cX9_readPerson 4 = .ok (.invokevirtual 178, 3) := dk_182 0 178 (dk_at dksX9_readPerson_0 4 rfl rfl)
theorem dX9_readPerson_7 : decode cX9_readPerson 7 = .ok (.ifCond .ne 5, 3) := dk_154 0 5 (dk_at dksX9_readPerson_0 7 rfl rfl)
theorem dX9_readPerson_10 : decode cX9_readPerson 10 = .ok (.iconst 0, 1) := dk_3 (dk_at dksX9_readPerson_0 10 rfl rfl)
theorem dX9_readPerson_11 : decode cX9_readPerson 11 = .ok (.ireturn, 1) := dk_172 (dk_at dksX9_readPerson_0 11 rfl rfl)
theorem dX9_readPerson_12 : decode cX9_readPerson 12 = .ok (.aload_n 0, 1) := dk_42 (dk_at dksX9_readPerson_0 12 rfl rfl)
theorem dX9_readPerson_13 : decode cX9_readPerson 13 = .ok (.getfield 16, 3) := dk_180 0 16 (dk_at dksX9_readPerson_0 13 rfl rfl)
theorem dX9_readPerson_16 : decode cX9_readPerson 16 = .ok (.iconst 0, 1) := dk_3 (dk_at dksX9_readPerson_0 16 rfl rfl)
theorem dX9_readPerson_17 : decode cX9_readPerson 17 = .ok (.iaload, 1) := dk_46 (dk_at dksX9_readPerson_0 17 rfl rfl)
theorem dX9_readPerson_18 : decode cX9_readPerson 18 = .ok (.istore_n 1, 1) := dk_60 (dk_at dksX9_readPerson_0 18 rfl rfl)
theorem dX9_readPerson_19 : decode cX9_readPerson 19 = .ok (.aload_n 0, 1) := dk_42 (dk_at dksX9_readPerson_0 19 rfl rfl)
theorem dX9_readPerson_20 : decode cX9_readPerson 20 = .ok (.iload_n 1, 1) := dk_27 (dk_at dksX9_readPerson_0 20 rfl rfl)
theorem dX9_readPerson_21 : decode cX9_readPerson 21 = .ok (.invokevirtual 181, 3) := dk_182 0 181 (dk_at dksX9_readPerson_0 21 rfl rfl)
theorem dX9_readPerson_24 : decode cX9_readPerson 24 = .ok (.ifCond .eq 20, 3) := dk_153 0 20 (dk_at dksX9_readPerson_1 0 rfl rfl)
theorem dX9_readPerson_27 : decode cX9_readPerson 27 = .ok (.aload_n 0, 1) := dk_42 (dk_at dksX9_readPerson_1 3 rfl rfl)
theorem dX9_readPerson_28 : decode cX9_readPerson 28 = .ok (.iconst 4, 1) := dk_7 (dk_at dksX9_readPerson_1 4 rfl rfl)
theorem dX9_readPerson_29 : decode cX9_readPerson 29 = .ok (.iload_n 1, 1) := dk_27 (dk_at dksX9_readPerson_1 5 rfl rfl)
theorem dX9_readPerson_30 : decode cX9_readPerson 30 = .ok (.iadd, 1) := dk_96 (dk_at dksX9_readPerson_1 6 rfl rfl)
theorem dX9_readPerson_31 : decode cX9_readPerson 31 = .ok (.aload_n 0, 1) := dk_42 (dk_at dksX9_readPerson_1 7 rfl rfl)
theorem dX9_readPerson_32 : decode cX9_readPerson 32 = .ok (.iconst 0, 1) := dk_3 (dk_at dksX9_readPerson_1 8 rfl rfl)
theorem dX9_readPerson_33 : decode cX9_readPerson 33 = .ok (.bipush 20, 2) := dk_16 20 (dk_at dksX9_readPerson_1 9 rfl rfl)
theorem dX9_readPerson_35 : decode cX9_readPerson 35 = .ok (.invokevirtual 184, 3) := dk_182 0 184 (dk_at dksX9_readPerson_1 11 rfl rfl)
theorem dX9_readPerson_38 : decode cX9_readPerson 38 = .ok (.invokevirtual 187, 3) := dk_182 0 187 (dk_at dksX9_readPerson_1 14 rfl rfl)
theorem dX9_readPerson_41 : decode cX9_readPerson 41 = .ok (.ifCond .ne 5, 3) := dk_154 0 5 (dk_at dksX9_readPerson_1 17 rfl rfl)
theorem dX9_readPerson_44 : decode cX9_readPerson 44 = .ok (.iconst 0, 1) := dk_3 (dk_at dksX9_readPerson_1 20 rfl rfl)
theorem dX9_readPerson_45 : decode cX9_readPerson 45 = .ok (.ireturn, 1) := dk_172 (dk_at dksX9_readPerson_1 21 rfl rfl)
theorem dX9_readPerson_46 : decode cX9_readPerson 46 = .ok (.aload_n 0, 1) := dk_42 (dk_at dksX9_readPerson_1 22 rfl rfl)
theorem dX9_readPerson_47 : decode cX9_readPerson 47 = .ok (.getfield 16, 3) := dk_180 0 16 (dk_at dksX9_readPerson_2 0 rfl rfl)
theorem dX9_readPerson_50 : decode cX9_readPerson 50 = .ok (.bipush 11, 2) := dk_16 11 (dk_at dksX9_readPerson_2 3 rfl rfl)
theorem dX9_readPerson_52 : decode cX9_readPerson 52 = .ok (.iload_n 1, 1) := dk_27 (dk_at dksX9_readPerson_2 5 rfl rfl)
theorem dX9_readPerson_53 : decode cX9_readPerson 53 = .ok (.iadd, 1) := dk_96 (dk_at dksX9_readPerson_2 6 rfl rfl)
theorem dX9_readPerson_54 : decode cX9_readPerson 54 = .ok (.iconst (-1), 1) := dk_2 (dk_at dksX9_readPerson_2 7 rfl rfl)
theorem dX9_readPerson_55 : decode cX9_readPerson 55 = .ok (.iastore, 1) := dk_79 (dk_at dksX9_readPerson_2 8 rfl rfl)
theorem dX9_readPerson_56 : decode cX9_readPerson 56 = .ok (.aload_n 0, 1) := dk_42 (dk_at dksX9_readPerson_2 9 rfl rfl)
theorem dX9_readPerson_57 : decode cX9_readPerson 57 = .ok (.bipush 22, 2) := dk_16 22 (dk_at dksX9_readPerson_2 10 rfl rfl)
theorem dX9_readPerson_59 : decode cX9_readPerson 59 = .ok (.invokevirtual 191, 3) := dk_182 0 191 (dk_at dksX9_readPerson_2 12 rfl rfl)
theorem dX9_readPerson_62 : decode cX9_readPerson 62 = .ok (.ifCond .eq 26, 3) := dk_153 0 26 (dk_at dksX9_readPerson_2 15 rfl rfl)
theorem dX9_readPerson_65 : decode cX9_readPerson 65 = .ok (.aload_n 0, 1) := dk_42 (dk_at dksX9_readPerson_2 18 rfl rfl)
theorem dX9_readPerson_66 : decode cX9_readPerson 66 = .ok (.invokevirtual 156, 3) := dk_182 0 156 (dk_at dksX9_readPerson_2 19 rfl rfl)
theorem dX9_readPerson_69 : decode cX9_readPerson 69 = .ok (.aload_n 0, 1) := dk_42 (dk_at dksX9_readPerson_2 22 rfl rfl)
theorem dX9_readPerson_70 : decode cX9_readPerson 70 = .ok (.bipush 11, 2) := dk_16 11 (dk_at dksX9_readPerson_3 0 rfl rfl)
theorem dX9_readPerson_72 : decode cX9_readPerson 72 = .ok (.iload_n 1, 1) := dk_27 (dk_at dksX9_readPerson_3 2 rfl rfl)
theorem dX9_readPerson_73 : decode cX9_readPerson 73 = .ok (.iadd, 1) := dk_96 (dk_at dksX9_readPerson_3 3 rfl rfl)
theorem dX9_readPerson_74 : decode cX9_readPerson 74 = .ok (.aload_n 0, 1) := dk_42 (dk_at dksX9_readPerson_3 4 rfl rfl)
theorem dX9_readPerson_75 : decode cX9_readPerson 75 = .ok (.iconst 0, 1) := dk_3 (dk_at dksX9_readPerson_3 5 rfl rfl)
theorem dX9_readPerson_76 : decode cX9_readPerson 76 = .ok (.iload_n 1, 1) := dk_27 (dk_at dksX9_readPerson_3 6 rfl rfl)
theorem dX9_readPerson_77 : decode cX9_readPerson 77 = .ok (.invokevirtual 194, 3) := dk_182 0 194 (dk_at dksX9_readPerson_3 7 rfl rfl)
theorem dX9_readPerson_80 : decode cX9_readPerson 80 = .ok (.invokevirtual 187, 3) := dk_182 0 187 (dk_at dksX9_readPerson_3 10 rfl rfl)
theorem dX9_readPerson_83 : decode cX9_readPerson 83 = .ok (.ifCond .ne 5, 3) := dk_154 0 5 (dk_at dksX9_readPerson_3 13 rfl rfl)
theorem dX9_readPerson_86 : decode cX9_readPerson 86 = .ok (.iconst 0, 1) := dk_3 (dk_at dksX9_readPerson_3 16 rfl rfl)
theorem dX9_readPerson_87 : decode cX9_readPerson 87 = .ok (.ireturn, 1) := dk_172 (dk_at dksX9_readPerson_3 17 rfl rfl)
theorem dX9_readPerson_88 : decode cX9_readPerson 88 = .ok (.aload_n 0, 1) := dk_42 (dk_at dksX9_readPerson_3 18 rfl rfl)
theorem dX9_readPerson_89 : decode cX9_readPerson 89 = .ok (.getfield 16, 3) := dk_180 0 16 (dk_at dksX9_readPerson_3 19 rfl rfl)
theorem dX9_readPerson_92 : decode cX9_readPerson 92 = .ok (.iconst 0, 1) := dk_3 (dk_at dksX9_readPerson_3 22 rfl rfl)
theorem dX9_readPerson_93 : decode cX9_readPerson 93 = .ok (.dup2, 1) := dk_92 (dk_at dksX9_readPerson_3 23 rfl rfl)
theorem dX9_readPerson_94 : decode cX9_readPerson 94 = .ok (.iaload, 1) := dk_46 (dk_at dksX9_readPerson_4 0 rfl rfl)
theorem dX9_readPerson_95 : decode cX9_readPerson 95 = .ok (.iconst 1, 1) := dk_4 (dk_at dksX9_readPerson_4 1 rfl rfl)
theorem dX9_readPerson_96 : decode cX9_readPerson 96 = .ok (.iadd, 1) := dk_96 (dk_at dksX9_readPerson_4 2 rfl rfl)
theorem dX9_readPerson_97 : decode cX9_readPerson 97 = .ok (.iastore, 1) := dk_79 (dk_at dksX9_readPerson_4 3 rfl rfl)
theorem dX9_readPerson_98 : decode cX9_readPerson 98 = .ok (.iconst 1, 1) := dk_4 (dk_at dksX9_readPerson_4 4 rfl rfl)
theorem dX9_readPerson_99 : decode cX9_readPerson 99 = .ok (.ireturn, 1) := dk_172 (dk_at dksX9_readPerson_4 5 rfl rfl)
abbrev cX9_readFirst : ByteArray := prog_25_method_32_code
def yX9_readFirst : MethodName := ⟨RX9, "readFirst", "(II)Z"⟩
def dkwX9_readFirst_0 : List UInt8 := [42, 180, 0, 16, 27, 46, 28, 160, 0, 9, 42, 7, 182, 0, 146, 172, 42, 182, 0, 156, 4, 172]
abbrev dktX9_readFirst_0 : List UInt8 := dkwX9_readFirst_0 ++ []
theorem dksX9_readFirst_0 : cX9_readFirst.data.toList.drop 0 = dktX9_readFirst_0 := by decide +kernel
theorem dX9_readFirst_0 : decode cX9_readFirst 0 = .ok (.aload_n 0, 1) := dk_42 (dk_at dksX9_readFirst_0 0 rfl rfl)
theorem dX9_readFirst_1 : decode cX9_readFirst 1 = .ok (.getfield 16, 3) := dk_180 0 16 (dk_at dksX9_readFirst_0 1 rfl rfl)
theorem dX9_readFirst_4 : decode cX9_readFirst 4 = .ok (.iload_n 1, 1) := dk_27 (dk_at dksX9_readFirst_0 4 rfl rfl)
theorem dX9_readFirst_5 : decode cX9_readFirst 5 = .ok (.iaload, 1) := dk_46 (dk_at dksX9_readFirst_0 5 rfl rfl)
theorem dX9_readFirst_6 : decode cX9_readFirst 6 = .ok (.iload_n 2, 1) := dk_28 (dk_at dksX9_readFirst_0 6 rfl rfl)
theorem dX9_readFirst_7 : decode cX9_readFirst 7 = .ok (.if_icmp .ne 9, 3) := dk_160 0 9 (dk_at dksX9_readFirst_0 7 rfl rfl)
theorem dX9_readFirst_10 : decode cX9_readFirst 10 = .ok (.aload_n 0, 1) := dk_42 (dk_at dksX9_readFirst_0 10 rfl rfl)
theorem dX9_readFirst_11 : decode cX9_readFirst 11 = .ok (.iconst 4, 1) := dk_7 (dk_at dksX9_readFirst_0 11 rfl rfl)
theorem dX9_readFirst_12 : decode cX9_readFirst 12 = .ok (.invokevirtual 146, 3) := dk_182 0 146 (dk_at dksX9_readFirst_0 12 rfl rfl)
theorem dX9_readFirst_15 : decode cX9_readFirst 15 = .ok (.ireturn, 1) := dk_172 (dk_at dksX9_readFirst_0 15 rfl rfl)
theorem dX9_readFirst_16 : decode cX9_readFirst 16 = .ok (.aload_n 0, 1) := dk_42 (dk_at dksX9_readFirst_0 16 rfl rfl)
theorem dX9_readFirst_17 : decode cX9_readFirst 17 = .ok (.invokevirtual 156, 3) := dk_182 0 156 (dk_at dksX9_readFirst_0 17 rfl rfl)
theorem dX9_readFirst_20 : decode cX9_readFirst 20 = .ok (.iconst 1, 1) := dk_4 (dk_at dksX9_readFirst_0 20 rfl rfl)
theorem dX9_readFirst_21 : decode cX9_readFirst 21 = .ok (.ireturn, 1) := dk_172 (dk_at dksX9_readFirst_0 21 rfl rfl)
abbrev cX9_bad : ByteArray := prog_25_method_23_code
def yX9_bad : MethodName := ⟨RX9, "bad", "(I)Z"⟩
def dkwX9_bad_1 : List UInt8 := [181, 0, 143, 3, 172]
abbrev dktX9_bad_1 : List UInt8 := dkwX9_bad_1 ++ []
def dkwX9_bad_0 : List UInt8 := [42, 42, 180, 0, 104, 4, 160, 0, 7, 4, 167, 0, 4, 27, 181, 0, 140, 42, 42, 180, 0, 98]
abbrev dktX9_bad_0 : List UInt8 := dkwX9_bad_0 ++ dktX9_bad_1
theorem dksX9_bad_0 : cX9_bad.data.toList.drop 0 = dktX9_bad_0 := by decide +kernel
theorem dksX9_bad_1 : cX9_bad.data.toList.drop 22 = dktX9_bad_1 := dk_seg dksX9_bad_0 22 rfl rfl
theorem dX9_bad_0 : decode cX9_bad 0 = .ok (.aload_n 0, 1) := dk_42 (dk_at dksX9_bad_0 0 rfl rfl)
theorem dX9_bad_1 : decode cX9_bad 1 = .ok (.aload_n 0, 1) := dk_42 (dk_at dksX9_bad_0 1 rfl rfl)
theorem dX9_bad_2 : decode cX9_bad 2 = .ok (.getfield 104, 3) := dk_180 0 104 (dk_at dksX9_bad_0 2 rfl rfl)
theorem dX9_bad_5 : decode cX9_bad 5 = .ok (.iconst 1, 1) := dk_4 (dk_at dksX9_bad_0 5 rfl rfl)
theorem dX9_bad_6 : decode cX9_bad 6 = .ok (.if_icmp .ne 7, 3) := dk_160 0 7 (dk_at dksX9_bad_0 6 rfl rfl)
theorem dX9_bad_9 : decode cX9_bad 9 = .ok (.iconst 1, 1) := dk_4 (dk_at dksX9_bad_0 9 rfl rfl)
theorem dX9_bad_10 : decode cX9_bad 10 = .ok (.goto 4, 3) := dk_167 0 4 (dk_at dksX9_bad_0 10 rfl rfl)
theorem dX9_bad_13 : decode cX9_bad 13 = .ok (.iload_n 1, 1) := dk_27 (dk_at dksX9_bad_0 13 rfl rfl)
theorem dX9_bad_14 : decode cX9_bad 14 = .ok (.putfield 140, 3) := dk_181 0 140 (dk_at dksX9_bad_0 14 rfl rfl)
theorem dX9_bad_17 : decode cX9_bad 17 = .ok (.aload_n 0, 1) := dk_42 (dk_at dksX9_bad_0 17 rfl rfl)
theorem dX9_bad_18 : decode cX9_bad 18 = .ok (.aload_n 0, 1) := dk_42 (dk_at dksX9_bad_0 18 rfl rfl)
theorem dX9_bad_19 : decode cX9_bad 19 = .ok (.getfield 98, 3) := dk_180 0 98 (dk_at dksX9_bad_0 19 rfl rfl)
theorem dX9_bad_22 : decode cX9_bad 22 = .ok (.putfield 143, 3) := dk_181 0 143 (dk_at dksX9_bad_1 0 rfl rfl)
theorem dX9_bad_25 : decode cX9_bad 25 = .ok (.iconst 0, 1) := dk_3 (dk_at dksX9_bad_1 3 rfl rfl)
theorem dX9_bad_26 : decode cX9_bad 26 = .ok (.ireturn, 1) := dk_172 (dk_at dksX9_bad_1 4 rfl rfl)
abbrev cX9_readNew : ByteArray := prog_25_method_29_code
def yX9_readNew : MethodName := ⟨RX9, "readNew", "(I)Z"⟩
def dkwX9_readNew_3 : List UInt8 := [180, 0, 117, 80, 42, 182, 0, 156, 4, 172]
abbrev dktX9_readNew_3 : List UInt8 := dkwX9_readNew_3 ++ []
def dkwX9_readNew_2 : List UInt8 := [180, 0, 117, 184, 0, 170, 2, 159, 0, 9, 42, 6, 182, 0, 146, 172, 42, 180, 0, 32, 27, 42]
abbrev dktX9_readNew_2 : List UInt8 := dkwX9_readNew_2 ++ dktX9_readNew_3
def dkwX9_readNew_1 : List UInt8 := [42, 180, 0, 117, 184, 0, 170, 2, 160, 0, 26, 42, 180, 0, 32, 16, 7, 42, 180, 0, 16, 4, 46, 42]
abbrev dktX9_readNew_1 : List UInt8 := dkwX9_readNew_1 ++ dktX9_readNew_2
def dkwX9_readNew_0 : List UInt8 := [42, 182, 0, 166, 154, 0, 9, 42, 4, 182, 0, 146, 172, 42, 180, 0, 32, 3, 42, 180, 0, 16, 3, 46]
abbrev dktX9_readNew_0 : List UInt8 := dkwX9_readNew_0 ++ dktX9_readNew_1
theorem dksX9_readNew_0 : cX9_readNew.data.toList.drop 0 = dktX9_readNew_0 := by decide +kernel
theorem dksX9_readNew_1 : cX9_readNew.data.toList.drop 24 = dktX9_readNew_1 := dk_seg dksX9_readNew_0 24 rfl rfl
theorem dksX9_readNew_2 : cX9_readNew.data.toList.drop 48 = dktX9_readNew_2 := dk_seg dksX9_readNew_1 24 rfl rfl
theorem dksX9_readNew_3 : cX9_readNew.data.toList.drop 70 = dktX9_readNew_3 := dk_seg dksX9_readNew_2 22 rfl rfl
theorem dX9_readNew_0 : decode cX9_readNew 0 = .ok (.aload_n 0, 1) := dk_42 (dk_at dksX9_readNew_0 0 rfl rfl)
theorem dX9_readNew_1 : decode cX9_readNew 1 = .ok (.invokevirtual 166, 3) := dk_182 0 166 (dk_at dksX9_readNew_0 1 rfl rfl)
theorem dX9_readNew_4 : decode cX9_readNew 4 = .ok (.ifCond .ne 9, 3) := dk_154 0 9 (dk_at dksX9_readNew_0 4 rfl rfl)
theorem dX9_readNew_7 : decode cX9_readNew 7 = .ok (.aload_n 0, 1) := dk_42 (dk_at dksX9_readNew_0 7 rfl rfl)
theorem dX9_readNew_8 : decode cX9_readNew 8 = .ok (.iconst 1, 1) := dk_4 (dk_at dksX9_readNew_0 8 rfl rfl)
theorem dX9_readNew_9 : decode cX9_readNew 9 = .ok (.invokevirtual 146, 3) := dk_182 0 146 (dk_at dksX9_readNew_0 9 rfl rfl)
theorem dX9_readNew_12 : decode cX9_readNew 12 = .ok (.ireturn, 1) := dk_172 (dk_at dksX9_readNew_0 12 rfl rfl)
theorem dX9_readNew_13 : decode cX9_readNew 13 = .ok (.aload_n 0, 1) := dk_42 (dk_at dksX9_readNew_0 13 rfl rfl)
theorem dX9_readNew_14 : decode cX9_readNew 14 = .ok (.getfield 32, 3) := dk_180 0 32 (dk_at dksX9_readNew_0 14 rfl rfl)
theorem dX9_readNew_17 : decode cX9_readNew 17 = .ok (.iconst 0, 1) := dk_3 (dk_at dksX9_readNew_0 17 rfl rfl)
theorem dX9_readNew_18 : decode cX9_readNew 18 = .ok (.aload_n 0, 1) := dk_42 (dk_at dksX9_readNew_0 18 rfl rfl)
theorem dX9_readNew_19 : decode cX9_readNew 19 = .ok (.getfield 16, 3) := dk_180 0 16 (dk_at dksX9_readNew_0 19 rfl rfl)
theorem dX9_readNew_22 : decode cX9_readNew 22 = .ok (.iconst 0, 1) := dk_3 (dk_at dksX9_readNew_0 22 rfl rfl)
theorem dX9_readNew_23 : decode cX9_readNew 23 = .ok (.iaload, 1) := dk_46 (dk_at dksX9_readNew_0 23 rfl rfl)
theorem dX9_readNew_24 : decode cX9_readNew 24 = .ok (.aload_n 0, 1) := dk_42 (dk_at dksX9_readNew_1 0 rfl rfl)
theorem dX9_readNew_25 : decode cX9_readNew 25 = .ok (.getfield 117, 3) := dk_180 0 117 (dk_at dksX9_readNew_1 1 rfl rfl)
theorem dX9_readNew_28 : decode cX9_readNew 28 = .ok (.invokestatic 170, 3) := dk_184 0 170 (dk_at dksX9_readNew_1 4 rfl rfl)
theorem dX9_readNew_31 : decode cX9_readNew 31 = .ok (.iconst (-1), 1) := dk_2 (dk_at dksX9_readNew_1 7 rfl rfl)
theorem dX9_readNew_32 : decode cX9_readNew 32 = .ok (.if_icmp .ne 26, 3) := dk_160 0 26 (dk_at dksX9_readNew_1 8 rfl rfl)
theorem dX9_readNew_35 : decode cX9_readNew 35 = .ok (.aload_n 0, 1) := dk_42 (dk_at dksX9_readNew_1 11 rfl rfl)
theorem dX9_readNew_36 : decode cX9_readNew 36 = .ok (.getfield 32, 3) := dk_180 0 32 (dk_at dksX9_readNew_1 12 rfl rfl)
theorem dX9_readNew_39 : decode cX9_readNew 39 = .ok (.bipush 7, 2) := dk_16 7 (dk_at dksX9_readNew_1 15 rfl rfl)
theorem dX9_readNew_41 : decode cX9_readNew 41 = .ok (.aload_n 0, 1) := dk_42 (dk_at dksX9_readNew_1 17 rfl rfl)
theorem dX9_readNew_42 : decode cX9_readNew 42 = .ok (.getfield 16, 3) := dk_180 0 16 (dk_at dksX9_readNew_1 18 rfl rfl)
theorem dX9_readNew_45 : decode cX9_readNew 45 = .ok (.iconst 1, 1) := dk_4 (dk_at dksX9_readNew_1 21 rfl rfl)
theorem dX9_readNew_46 : decode cX9_readNew 46 = .ok (.iaload, 1) := dk_46 (dk_at dksX9_readNew_1 22 rfl rfl)
theorem dX9_readNew_47 : decode cX9_readNew 47 = .ok (.aload_n 0, 1) := dk_42 (dk_at dksX9_readNew_1 23 rfl rfl)
theorem dX9_readNew_48 : decode cX9_readNew 48 = .ok (.getfield 117, 3) := dk_180 0 117 (dk_at dksX9_readNew_2 0 rfl rfl)
theorem dX9_readNew_51 : decode cX9_readNew 51 = .ok (.invokestatic 170, 3) := dk_184 0 170 (dk_at dksX9_readNew_2 3 rfl rfl)
theorem dX9_readNew_54 : decode cX9_readNew 54 = .ok (.iconst (-1), 1) := dk_2 (dk_at dksX9_readNew_2 6 rfl rfl)
theorem dX9_readNew_55 : decode cX9_readNew 55 = .ok (.if_icmp .eq 9, 3) := dk_159 0 9 (dk_at dksX9_readNew_2 7 rfl rfl)
theorem dX9_readNew_58 : decode cX9_readNew 58 = .ok (.aload_n 0, 1) := dk_42 (dk_at dksX9_readNew_2 10 rfl rfl)
theorem dX9_readNew_59 : decode cX9_readNew 59 = .ok (.iconst 3, 1) := dk_6 (dk_at dksX9_readNew_2 11 rfl rfl)
theorem dX9_readNew_60 : decode cX9_readNew 60 = .ok (.invokevirtual 146, 3) := dk_182 0 146 (dk_at dksX9_readNew_2 12 rfl rfl)
theorem dX9_readNew_63 : decode cX9_readNew 63 = .ok (.ireturn, 1) := dk_172 (dk_at dksX9_readNew_2 15 rfl rfl)
theorem dX9_readNew_64 : decode cX9_readNew 64 = .ok (.aload_n 0, 1) := dk_42 (dk_at dksX9_readNew_2 16 rfl rfl)
theorem dX9_readNew_65 : decode cX9_readNew 65 = .ok (.getfield 32, 3) := dk_180 0 32 (dk_at dksX9_readNew_2 17 rfl rfl)
theorem dX9_readNew_68 : decode cX9_readNew 68 = .ok (.iload_n 1, 1) := dk_27 (dk_at dksX9_readNew_2 20 rfl rfl)
theorem dX9_readNew_69 : decode cX9_readNew 69 = .ok (.aload_n 0, 1) := dk_42 (dk_at dksX9_readNew_2 21 rfl rfl)
theorem dX9_readNew_70 : decode cX9_readNew 70 = .ok (.getfield 117, 3) := dk_180 0 117 (dk_at dksX9_readNew_3 0 rfl rfl)
theorem dX9_readNew_73 : decode cX9_readNew 73 = .ok (.lastore, 1) := dk_80 (dk_at dksX9_readNew_3 3 rfl rfl)
theorem dX9_readNew_74 : decode cX9_readNew 74 = .ok (.aload_n 0, 1) := dk_42 (dk_at dksX9_readNew_3 4 rfl rfl)
theorem dX9_readNew_75 : decode cX9_readNew 75 = .ok (.invokevirtual 156, 3) := dk_182 0 156 (dk_at dksX9_readNew_3 5 rfl rfl)
theorem dX9_readNew_78 : decode cX9_readNew 78 = .ok (.iconst 1, 1) := dk_4 (dk_at dksX9_readNew_3 8 rfl rfl)
theorem dX9_readNew_79 : decode cX9_readNew 79 = .ok (.ireturn, 1) := dk_172 (dk_at dksX9_readNew_3 9 rfl rfl)
abbrev cX9_isName : ByteArray := prog_25_method_22_code
def yX9_isName : MethodName := ⟨RX9, "isName", "()Z"⟩
def dkwX9_isName_1 : List UInt8 := [184, 0, 136, 148, 154, 0, 5, 3, 172, 132, 1, 1, 167, 255, 233, 4, 172]
abbrev dktX9_isName_1 : List UInt8 := dkwX9_isName_1 ++ []
def dkwX9_isName_0 : List UInt8 := [42, 180, 0, 104, 5, 159, 0, 5, 3, 172, 3, 60, 27, 16, 27, 163, 0, 23, 42, 180, 0, 117, 27]
abbrev dktX9_isName_0 : List UInt8 := dkwX9_isName_0 ++ dktX9_isName_1
theorem dksX9_isName_0 : cX9_isName.data.toList.drop 0 = dktX9_isName_0 := by decide +kernel
theorem dksX9_isName_1 : cX9_isName.data.toList.drop 23 = dktX9_isName_1 := dk_seg dksX9_isName_0 23 rfl rfl
theorem dX9_isName_0 : decode cX9_isName 0 = .ok (.aload_n 0, 1) := dk_42 (dk_at dksX9_isName_0 0 rfl rfl)
theorem dX9_isName_1 : decode cX9_isName 1 = .ok (.getfield 104, 3) := dk_180 0 104 (dk_at dksX9_isName_0 1 rfl rfl)
theorem dX9_isName_4 : decode cX9_isName 4 = .ok (.iconst 2, 1) := dk_5 (dk_at dksX9_isName_0 4 rfl rfl)
theorem dX9_isName_5 : decode cX9_isName 5 = .ok (.if_icmp .eq 5, 3) := dk_159 0 5 (dk_at dksX9_isName_0 5 rfl rfl)
theorem dX9_isName_8 : decode cX9_isName 8 = .ok (.iconst 0, 1) := dk_3 (dk_at dksX9_isName_0 8 rfl rfl)
theorem dX9_isName_9 : decode cX9_isName 9 = .ok (.ireturn, 1) := dk_172 (dk_at dksX9_isName_0 9 rfl rfl)
theorem dX9_isName_10 : decode cX9_isName 10 = .ok (.iconst 0, 1) := dk_3 (dk_at dksX9_isName_0 10 rfl rfl)
theorem dX9_isName_11 : decode cX9_isName 11 = .ok (.istore_n 1, 1) := dk_60 (dk_at dksX9_isName_0 11 rfl rfl)
theorem dX9_isName_12 : decode cX9_isName 12 = .ok (.iload_n 1, 1) := dk_27 (dk_at dksX9_isName_0 12 rfl rfl)
theorem dX9_isName_13 : decode cX9_isName 13 = .ok (.bipush 27, 2) := dk_16 27 (dk_at dksX9_isName_0 13 rfl rfl)
theorem dX9_isName_15 : decode cX9_isName 15 = .ok (.if_icmp .gt 23, 3) := dk_163 0 23 (dk_at dksX9_isName_0 15 rfl rfl)
theorem dX9_isName_18 : decode cX9_isName 18 = .ok (.aload_n 0, 1) := dk_42 (dk_at dksX9_isName_0 18 rfl rfl)
theorem dX9_isName_19 : decode cX9_isName 19 = .ok (.getfield 117, 3) := dk_180 0 117 (dk_at dksX9_isName_0 19 rfl rfl)
theorem dX9_isName_22 : decode cX9_isName 22 = .ok (.iload_n 1, 1) := dk_27 (dk_at dksX9_isName_0 22 rfl rfl)
theorem dX9_isName_23 : decode cX9_isName 23 = .ok (.invokestatic 136, 3) := dk_184 0 136 (dk_at dksX9_isName_1 0 rfl rfl)
theorem dX9_isName_26 : decode cX9_isName 26 = .ok (.lcmp, 1) := dk_148 (dk_at dksX9_isName_1 3 rfl rfl)
theorem dX9_isName_27 : decode cX9_isName 27 = .ok (.ifCond .ne 5, 3) := dk_154 0 5 (dk_at dksX9_isName_1 4 rfl rfl)
theorem dX9_isName_30 : decode cX9_isName 30 = .ok (.iconst 0, 1) := dk_3 (dk_at dksX9_isName_1 7 rfl rfl)
theorem dX9_isName_31 : decode cX9_isName 31 = .ok (.ireturn, 1) := dk_172 (dk_at dksX9_isName_1 8 rfl rfl)
theorem dX9_isName_32 : decode cX9_isName 32 = .ok (.iinc 1 1, 3) := dk_132 1 1 (dk_at dksX9_isName_1 9 rfl rfl)
theorem dX9_isName_35 : decode cX9_isName 35 = .ok (.goto (-23), 3) := dk_167 255 233 (dk_at dksX9_isName_1 12 rfl rfl)
theorem dX9_isName_38 : decode cX9_isName 38 = .ok (.iconst 1, 1) := dk_4 (dk_at dksX9_isName_1 15 rfl rfl)
theorem dX9_isName_39 : decode cX9_isName 39 = .ok (.ireturn, 1) := dk_172 (dk_at dksX9_isName_1 16 rfl rfl)
abbrev cX9_findIn : ByteArray := prog_25_method_28_code
def yX9_findIn : MethodName := ⟨RX9, "findIn", "([JIIJ)I"⟩
def dkwX9_findIn_1 : List UInt8 := [132, 5, 1, 167, 255, 233, 2, 172]
abbrev dktX9_findIn_1 : List UInt8 := dkwX9_findIn_1 ++ []
def dkwX9_findIn_0 : List UInt8 := [3, 54, 5, 21, 5, 28, 162, 0, 23, 42, 27, 21, 5, 96, 47, 33, 148, 154, 0, 6, 21, 5, 172]
abbrev dktX9_findIn_0 : List UInt8 := dkwX9_findIn_0 ++ dktX9_findIn_1
theorem dksX9_findIn_0 : cX9_findIn.data.toList.drop 0 = dktX9_findIn_0 := by decide +kernel
theorem dksX9_findIn_1 : cX9_findIn.data.toList.drop 23 = dktX9_findIn_1 := dk_seg dksX9_findIn_0 23 rfl rfl
theorem dX9_findIn_0 : decode cX9_findIn 0 = .ok (.iconst 0, 1) := dk_3 (dk_at dksX9_findIn_0 0 rfl rfl)
theorem dX9_findIn_1 : decode cX9_findIn 1 = .ok (.istore 5, 2) := dk_54 5 (dk_at dksX9_findIn_0 1 rfl rfl)
theorem dX9_findIn_3 : decode cX9_findIn 3 = .ok (.iload 5, 2) := dk_21 5 (dk_at dksX9_findIn_0 3 rfl rfl)
theorem dX9_findIn_5 : decode cX9_findIn 5 = .ok (.iload_n 2, 1) := dk_28 (dk_at dksX9_findIn_0 5 rfl rfl)
theorem dX9_findIn_6 : decode cX9_findIn 6 = .ok (.if_icmp .ge 23, 3) := dk_162 0 23 (dk_at dksX9_findIn_0 6 rfl rfl)
theorem dX9_findIn_9 : decode cX9_findIn 9 = .ok (.aload_n 0, 1) := dk_42 (dk_at dksX9_findIn_0 9 rfl rfl)
theorem dX9_findIn_10 : decode cX9_findIn 10 = .ok (.iload_n 1, 1) := dk_27 (dk_at dksX9_findIn_0 10 rfl rfl)
theorem dX9_findIn_11 : decode cX9_findIn 11 = .ok (.iload 5, 2) := dk_21 5 (dk_at dksX9_findIn_0 11 rfl rfl)
theorem dX9_findIn_13 : decode cX9_findIn 13 = .ok (.iadd, 1) := dk_96 (dk_at dksX9_findIn_0 13 rfl rfl)
theorem dX9_findIn_14 : decode cX9_findIn 14 = .ok (.laload, 1) := dk_47 (dk_at dksX9_findIn_0 14 rfl rfl)
theorem dX9_findIn_15 : decode cX9_findIn 15 = .ok (.lload_n 3, 1) := dk_33 (dk_at dksX9_findIn_0 15 rfl rfl)
theorem dX9_findIn_16 : decode cX9_findIn 16 = .ok (.lcmp, 1) := dk_148 (dk_at dksX9_findIn_0 16 rfl rfl)
theorem dX9_findIn_17 : decode cX9_findIn 17 = .ok (.ifCond .ne 6, 3) := dk_154 0 6 (dk_at dksX9_findIn_0 17 rfl rfl)
theorem dX9_findIn_20 : decode cX9_findIn 20 = .ok (.iload 5, 2) := dk_21 5 (dk_at dksX9_findIn_0 20 rfl rfl)
theorem dX9_findIn_22 : decode cX9_findIn 22 = .ok (.ireturn, 1) := dk_172 (dk_at dksX9_findIn_0 22 rfl rfl)
theorem dX9_findIn_23 : decode cX9_findIn 23 = .ok (.iinc 5 1, 3) := dk_132 5 1 (dk_at dksX9_findIn_1 0 rfl rfl)
theorem dX9_findIn_26 : decode cX9_findIn 26 = .ok (.goto (-23), 3) := dk_167 255 233 (dk_at dksX9_findIn_1 3 rfl rfl)
theorem dX9_findIn_29 : decode cX9_findIn 29 = .ok (.iconst (-1), 1) := dk_2 (dk_at dksX9_findIn_1 6 rfl rfl)
theorem dX9_findIn_30 : decode cX9_findIn 30 = .ok (.ireturn, 1) := dk_172 (dk_at dksX9_findIn_1 7 rfl rfl)
abbrev cX9_readNumber : ByteArray := prog_25_method_24_code
def yX9_readNumber : MethodName := ⟨RX9, "readNumber", "(II)Z"⟩
def dkwX9_readNumber_1 : List UInt8 := [154, 0, 9, 42, 5, 182, 0, 146, 172, 42, 42, 180, 0, 121, 181, 0, 153, 42, 182, 0, 156, 4, 172]
abbrev dktX9_readNumber_1 : List UInt8 := dkwX9_readNumber_1 ++ []
def dkwX9_readNumber_0 : List UInt8 := [42, 180, 0, 104, 6, 159, 0, 9, 42, 4, 182, 0, 146, 172, 42, 180, 0, 121, 27, 28, 184, 0, 149]
abbrev dktX9_readNumber_0 : List UInt8 := dkwX9_readNumber_0 ++ dktX9_readNumber_1
theorem dksX9_readNumber_0 : cX9_readNumber.data.toList.drop 0 = dktX9_readNumber_0 := by decide +kernel
theorem dksX9_readNumber_1 : cX9_readNumber.data.toList.drop 23 = dktX9_readNumber_1 := dk_seg dksX9_readNumber_0 23 rfl rfl
theorem dX9_readNumber_0 : decode cX9_readNumber 0 = .ok (.aload_n 0, 1) := dk_42 (dk_at dksX9_readNumber_0 0 rfl rfl)
theorem dX9_readNumber_1 : decode cX9_readNumber 1 = .ok (.getfield 104, 3) := dk_180 0 104 (dk_at dksX9_readNumber_0 1 rfl rfl)
theorem dX9_readNumber_4 : decode cX9_readNumber 4 = .ok (.iconst 3, 1) := dk_6 (dk_at dksX9_readNumber_0 4 rfl rfl)
theorem dX9_readNumber_5 : decode cX9_readNumber 5 = .ok (.if_icmp .eq 9, 3) := dk_159 0 9 (dk_at dksX9_readNumber_0 5 rfl rfl)
theorem dX9_readNumber_8 : decode cX9_readNumber 8 = .ok (.aload_n 0, 1) := dk_42 (dk_at dksX9_readNumber_0 8 rfl rfl)
theorem dX9_readNumber_9 : decode cX9_readNumber 9 = .ok (.iconst 1, 1) := dk_4 (dk_at dksX9_readNumber_0 9 rfl rfl)
theorem dX9_readNumber_10 : decode cX9_readNumber 10 = .ok (.invokevirtual 146, 3) := dk_182 0 146 (dk_at dksX9_readNumber_0 10 rfl rfl)
theorem dX9_readNumber_13 : decode cX9_readNumber 13 = .ok (.ireturn, 1) := dk_172 (dk_at dksX9_readNumber_0 13 rfl rfl)
theorem dX9_readNumber_14 : decode cX9_readNumber 14 = .ok (.aload_n 0, 1) := dk_42 (dk_at dksX9_readNumber_0 14 rfl rfl)
theorem dX9_readNumber_15 : decode cX9_readNumber 15 = .ok (.getfield 121, 3) := dk_180 0 121 (dk_at dksX9_readNumber_0 15 rfl rfl)
theorem dX9_readNumber_18 : decode cX9_readNumber 18 = .ok (.iload_n 1, 1) := dk_27 (dk_at dksX9_readNumber_0 18 rfl rfl)
theorem dX9_readNumber_19 : decode cX9_readNumber 19 = .ok (.iload_n 2, 1) := dk_28 (dk_at dksX9_readNumber_0 19 rfl rfl)
theorem dX9_readNumber_20 : decode cX9_readNumber 20 = .ok (.invokestatic 149, 3) := dk_184 0 149 (dk_at dksX9_readNumber_0 20 rfl rfl)
theorem dX9_readNumber_23 : decode cX9_readNumber 23 = .ok (.ifCond .ne 9, 3) := dk_154 0 9 (dk_at dksX9_readNumber_1 0 rfl rfl)
theorem dX9_readNumber_26 : decode cX9_readNumber 26 = .ok (.aload_n 0, 1) := dk_42 (dk_at dksX9_readNumber_1 3 rfl rfl)
theorem dX9_readNumber_27 : decode cX9_readNumber 27 = .ok (.iconst 2, 1) := dk_5 (dk_at dksX9_readNumber_1 4 rfl rfl)
theorem dX9_readNumber_28 : decode cX9_readNumber 28 = .ok (.invokevirtual 146, 3) := dk_182 0 146 (dk_at dksX9_readNumber_1 5 rfl rfl)
theorem dX9_readNumber_31 : decode cX9_readNumber 31 = .ok (.ireturn, 1) := dk_172 (dk_at dksX9_readNumber_1 8 rfl rfl)
theorem dX9_readNumber_32 : decode cX9_readNumber 32 = .ok (.aload_n 0, 1) := dk_42 (dk_at dksX9_readNumber_1 9 rfl rfl)
theorem dX9_readNumber_33 : decode cX9_readNumber 33 = .ok (.aload_n 0, 1) := dk_42 (dk_at dksX9_readNumber_1 10 rfl rfl)
theorem dX9_readNumber_34 : decode cX9_readNumber 34 = .ok (.getfield 121, 3) := dk_180 0 121 (dk_at dksX9_readNumber_1 11 rfl rfl)
theorem dX9_readNumber_37 : decode cX9_readNumber 37 = .ok (.putfield 153, 3) := dk_181 0 153 (dk_at dksX9_readNumber_1 14 rfl rfl)
theorem dX9_readNumber_40 : decode cX9_readNumber 40 = .ok (.aload_n 0, 1) := dk_42 (dk_at dksX9_readNumber_1 17 rfl rfl)
theorem dX9_readNumber_41 : decode cX9_readNumber 41 = .ok (.invokevirtual 156, 3) := dk_182 0 156 (dk_at dksX9_readNumber_1 18 rfl rfl)
theorem dX9_readNumber_44 : decode cX9_readNumber 44 = .ok (.iconst 1, 1) := dk_4 (dk_at dksX9_readNumber_1 21 rfl rfl)
theorem dX9_readNumber_45 : decode cX9_readNumber 45 = .ok (.ireturn, 1) := dk_172 (dk_at dksX9_readNumber_1 22 rfl rfl)
abbrev cX9_isIn : ByteArray := prog_25_method_8_code
def yX9_isIn : MethodName := ⟨RX9, "isIn", "(III)Z"⟩
def dkwX9_isIn_0 : List UInt8 := [26, 27, 161, 0, 12, 26, 28, 163, 0, 7, 4, 167, 0, 4, 3, 172]
abbrev dktX9_isIn_0 : List UInt8 := dkwX9_isIn_0 ++ []
theorem dksX9_isIn_0 : cX9_isIn.data.toList.drop 0 = dktX9_isIn_0 := by decide +kernel
theorem dX9_isIn_0 : decode cX9_isIn 0 = .ok (.iload_n 0, 1) := dk_26 (dk_at dksX9_isIn_0 0 rfl rfl)
theorem dX9_isIn_1 : decode cX9_isIn 1 = .ok (.iload_n 1, 1) := dk_27 (dk_at dksX9_isIn_0 1 rfl rfl)
theorem dX9_isIn_2 : decode cX9_isIn 2 = .ok (.if_icmp .lt 12, 3) := dk_161 0 12 (dk_at dksX9_isIn_0 2 rfl rfl)
theorem dX9_isIn_5 : decode cX9_isIn 5 = .ok (.iload_n 0, 1) := dk_26 (dk_at dksX9_isIn_0 5 rfl rfl)
theorem dX9_isIn_6 : decode cX9_isIn 6 = .ok (.iload_n 2, 1) := dk_28 (dk_at dksX9_isIn_0 6 rfl rfl)
theorem dX9_isIn_7 : decode cX9_isIn 7 = .ok (.if_icmp .gt 7, 3) := dk_163 0 7 (dk_at dksX9_isIn_0 7 rfl rfl)
theorem dX9_isIn_10 : decode cX9_isIn 10 = .ok (.iconst 1, 1) := dk_4 (dk_at dksX9_isIn_0 10 rfl rfl)
theorem dX9_isIn_11 : decode cX9_isIn 11 = .ok (.goto 4, 3) := dk_167 0 4 (dk_at dksX9_isIn_0 11 rfl rfl)
theorem dX9_isIn_14 : decode cX9_isIn 14 = .ok (.iconst 0, 1) := dk_3 (dk_at dksX9_isIn_0 14 rfl rfl)
theorem dX9_isIn_15 : decode cX9_isIn 15 = .ok (.ireturn, 1) := dk_172 (dk_at dksX9_isIn_0 15 rfl rfl)
abbrev cX9_put : ByteArray := prog_25_method_33_code
def yX9_put : MethodName := ⟨RX9, "put", "(IZ)Z"⟩
def dkwX9_put_0 : List UInt8 := [28, 153, 0, 13, 42, 180, 0, 16, 27, 42, 180, 0, 153, 79, 28, 172]
abbrev dktX9_put_0 : List UInt8 := dkwX9_put_0 ++ []
theorem dksX9_put_0 : cX9_put.data.toList.drop 0 = dktX9_put_0 := by decide +kernel
theorem dX9_put_0 : decode cX9_put 0 = .ok (.iload_n 2, 1) := dk_28 (dk_at dksX9_put_0 0 rfl rfl)
theorem dX9_put_1 : decode cX9_put 1 = .ok (.ifCond .eq 13, 3) := dk_153 0 13 (dk_at dksX9_put_0 1 rfl rfl)
theorem dX9_put_4 : decode cX9_put 4 = .ok (.aload_n 0, 1) := dk_42 (dk_at dksX9_put_0 4 rfl rfl)
theorem dX9_put_5 : decode cX9_put 5 = .ok (.getfield 16, 3) := dk_180 0 16 (dk_at dksX9_put_0 5 rfl rfl)
theorem dX9_put_8 : decode cX9_put 8 = .ok (.iload_n 1, 1) := dk_27 (dk_at dksX9_put_0 8 rfl rfl)
theorem dX9_put_9 : decode cX9_put 9 = .ok (.aload_n 0, 1) := dk_42 (dk_at dksX9_put_0 9 rfl rfl)
theorem dX9_put_10 : decode cX9_put 10 = .ok (.getfield 153, 3) := dk_180 0 153 (dk_at dksX9_put_0 10 rfl rfl)
theorem dX9_put_13 : decode cX9_put 13 = .ok (.iastore, 1) := dk_79 (dk_at dksX9_put_0 13 rfl rfl)
theorem dX9_put_14 : decode cX9_put 14 = .ok (.iload_n 2, 1) := dk_28 (dk_at dksX9_put_0 14 rfl rfl)
theorem dX9_put_15 : decode cX9_put 15 = .ok (.ireturn, 1) := dk_172 (dk_at dksX9_put_0 15 rfl rfl)
abbrev cX9_readOne : ByteArray := prog_25_method_31_code
def yX9_readOne : MethodName := ⟨RX9, "readOne", "(II)Z"⟩
def dkwX9_readOne_0 : List UInt8 := [42, 27, 28, 182, 0, 174, 154, 0, 5, 3, 172, 42, 182, 0, 156, 4, 172]
abbrev dktX9_readOne_0 : List UInt8 := dkwX9_readOne_0 ++ []
theorem dksX9_readOne_0 : cX9_readOne.data.toList.drop 0 = dktX9_readOne_0 := by decide +kernel
theorem dX9_readOne_0 : decode cX9_readOne 0 = .ok (.aload_n 0, 1) := dk_42 (dk_at dksX9_readOne_0 0 rfl rfl)
theorem dX9_readOne_1 : decode cX9_readOne 1 = .ok (.iload_n 1, 1) := dk_27 (dk_at dksX9_readOne_0 1 rfl rfl)
theorem dX9_readOne_2 : decode cX9_readOne 2 = .ok (.iload_n 2, 1) := dk_28 (dk_at dksX9_readOne_0 2 rfl rfl)
theorem dX9_readOne_3 : decode cX9_readOne 3 = .ok (.invokevirtual 174, 3) := dk_182 0 174 (dk_at dksX9_readOne_0 3 rfl rfl)
theorem dX9_readOne_6 : decode cX9_readOne 6 = .ok (.ifCond .ne 5, 3) := dk_154 0 5 (dk_at dksX9_readOne_0 6 rfl rfl)
theorem dX9_readOne_9 : decode cX9_readOne 9 = .ok (.iconst 0, 1) := dk_3 (dk_at dksX9_readOne_0 9 rfl rfl)
theorem dX9_readOne_10 : decode cX9_readOne 10 = .ok (.ireturn, 1) := dk_172 (dk_at dksX9_readOne_0 10 rfl rfl)
theorem dX9_readOne_11 : decode cX9_readOne 11 = .ok (.aload_n 0, 1) := dk_42 (dk_at dksX9_readOne_0 11 rfl rfl)
theorem dX9_readOne_12 : decode cX9_readOne 12 = .ok (.invokevirtual 156, 3) := dk_182 0 156 (dk_at dksX9_readOne_0 12 rfl rfl)
theorem dX9_readOne_15 : decode cX9_readOne 15 = .ok (.iconst 1, 1) := dk_4 (dk_at dksX9_readOne_0 15 rfl rfl)
theorem dX9_readOne_16 : decode cX9_readOne 16 = .ok (.ireturn, 1) := dk_172 (dk_at dksX9_readOne_0 16 rfl rfl)
abbrev cX9_isOne : ByteArray := prog_25_method_30_code
def yX9_isOne : MethodName := ⟨RX9, "isOne", "(II)Z"⟩
def dkwX9_isOne_2 : List UInt8 := [167, 0, 4, 3, 172]
abbrev dktX9_isOne_2 : List UInt8 := dkwX9_isOne_2 ++ []
def dkwX9_isOne_1 : List UInt8 := [184, 0, 170, 181, 0, 153, 42, 180, 0, 153, 2, 160, 0, 11, 42, 6, 182, 0, 146, 153, 0, 7, 4]
abbrev dktX9_isOne_1 : List UInt8 := dkwX9_isOne_1 ++ dktX9_isOne_2
def dkwX9_isOne_0 : List UInt8 := [42, 182, 0, 166, 154, 0, 9, 42, 4, 182, 0, 146, 172, 42, 42, 180, 0, 32, 27, 28, 42, 180, 0, 117]
abbrev dktX9_isOne_0 : List UInt8 := dkwX9_isOne_0 ++ dktX9_isOne_1
theorem dksX9_isOne_0 : cX9_isOne.data.toList.drop 0 = dktX9_isOne_0 := by decide +kernel
theorem dksX9_isOne_1 : cX9_isOne.data.toList.drop 24 = dktX9_isOne_1 := dk_seg dksX9_isOne_0 24 rfl rfl
theorem dksX9_isOne_2 : cX9_isOne.data.toList.drop 47 = dktX9_isOne_2 := dk_seg dksX9_isOne_1 23 rfl rfl
theorem dX9_isOne_0 : decode cX9_isOne 0 = .ok (.aload_n 0, 1) := dk_42 (dk_at dksX9_isOne_0 0 rfl rfl)
theorem dX9_isOne_1 : decode cX9_isOne 1 = .ok (.invokevirtual 166, 3) := dk_182 0 166 (dk_at dksX9_isOne_0 1 rfl rfl)
theorem dX9_isOne_4 : decode cX9_isOne 4 = .ok (.ifCond .ne 9, 3) := dk_154 0 9 (dk_at dksX9_isOne_0 4 rfl rfl)
theorem dX9_isOne_7 : decode cX9_isOne 7 = .ok (.aload_n 0, 1) := dk_42 (dk_at dksX9_isOne_0 7 rfl rfl)
theorem dX9_isOne_8 : decode cX9_isOne 8 = .ok (.iconst 1, 1) := dk_4 (dk_at dksX9_isOne_0 8 rfl rfl)
theorem dX9_isOne_9 : decode cX9_isOne 9 = .ok (.invokevirtual 146, 3) := dk_182 0 146 (dk_at dksX9_isOne_0 9 rfl rfl)
theorem dX9_isOne_12 : decode cX9_isOne 12 = .ok (.ireturn, 1) := dk_172 (dk_at dksX9_isOne_0 12 rfl rfl)
theorem dX9_isOne_13 : decode cX9_isOne 13 = .ok (.aload_n 0, 1) := dk_42 (dk_at dksX9_isOne_0 13 rfl rfl)
theorem dX9_isOne_14 : decode cX9_isOne 14 = .ok (.aload_n 0, 1) := dk_42 (dk_at dksX9_isOne_0 14 rfl rfl)
theorem dX9_isOne_15 : decode cX9_isOne 15 = .ok (.getfield 32, 3) := dk_180 0 32 (dk_at dksX9_isOne_0 15 rfl rfl)
theorem dX9_isOne_18 : decode cX9_isOne 18 = .ok (.iload_n 1, 1) := dk_27 (dk_at dksX9_isOne_0 18 rfl rfl)
theorem dX9_isOne_19 : decode cX9_isOne 19 = .ok (.iload_n 2, 1) := dk_28 (dk_at dksX9_isOne_0 19 rfl rfl)
theorem dX9_isOne_20 : decode cX9_isOne 20 = .ok (.aload_n 0, 1) := dk_42 (dk_at dksX9_isOne_0 20 rfl rfl)
theorem dX9_isOne_21 : decode cX9_isOne 21 = .ok (.getfield 117, 3) := dk_180 0 117 (dk_at dksX9_isOne_0 21 rfl rfl)
theorem dX9_isOne_24 : decode cX9_isOne 24 = .ok (.invokestatic 170, 3) := dk_184 0 170 (dk_at dksX9_isOne_1 0 rfl rfl)
theorem dX9_isOne_27 : decode cX9_isOne 27 = .ok (.putfield 153, 3) := dk_181 0 153 (dk_at dksX9_isOne_1 3 rfl rfl)
theorem dX9_isOne_30 : decode cX9_isOne 30 = .ok (.aload_n 0, 1) := dk_42 (dk_at dksX9_isOne_1 6 rfl rfl)
theorem dX9_isOne_31 : decode cX9_isOne 31 = .ok (.getfield 153, 3) := dk_180 0 153 (dk_at dksX9_isOne_1 7 rfl rfl)
theorem dX9_isOne_34 : decode cX9_isOne 34 = .ok (.iconst (-1), 1) := dk_2 (dk_at dksX9_isOne_1 10 rfl rfl)
theorem dX9_isOne_35 : decode cX9_isOne 35 = .ok (.if_icmp .ne 11, 3) := dk_160 0 11 (dk_at dksX9_isOne_1 11 rfl rfl)
theorem dX9_isOne_38 : decode cX9_isOne 38 = .ok (.aload_n 0, 1) := dk_42 (dk_at dksX9_isOne_1 14 rfl rfl)
theorem dX9_isOne_39 : decode cX9_isOne 39 = .ok (.iconst 3, 1) := dk_6 (dk_at dksX9_isOne_1 15 rfl rfl)
theorem dX9_isOne_40 : decode cX9_isOne 40 = .ok (.invokevirtual 146, 3) := dk_182 0 146 (dk_at dksX9_isOne_1 16 rfl rfl)
theorem dX9_isOne_43 : decode cX9_isOne 43 = .ok (.ifCond .eq 7, 3) := dk_153 0 7 (dk_at dksX9_isOne_1 19 rfl rfl)
theorem dX9_isOne_46 : decode cX9_isOne 46 = .ok (.iconst 1, 1) := dk_4 (dk_at dksX9_isOne_1 22 rfl rfl)
theorem dX9_isOne_47 : decode cX9_isOne 47 = .ok (.goto 4, 3) := dk_167 0 4 (dk_at dksX9_isOne_2 0 rfl rfl)
theorem dX9_isOne_50 : decode cX9_isOne 50 = .ok (.iconst 0, 1) := dk_3 (dk_at dksX9_isOne_2 3 rfl rfl)
theorem dX9_isOne_51 : decode cX9_isOne 51 = .ok (.ireturn, 1) := dk_172 (dk_at dksX9_isOne_2 4 rfl rfl)
abbrev cX9_readDish : ByteArray := prog_25_method_35_code
def yX9_readDish : MethodName := ⟨RX9, "readDish", "()Z"⟩
def dkwX9_readDish_3 : List UInt8 := [182, 0, 184, 182, 0, 187, 154, 0, 5, 3, 172, 42, 180, 0, 16, 4, 92, 46, 4, 96, 79, 4, 172]
abbrev dktX9_readDish_3 : List UInt8 := dkwX9_readDish_3 ++ []
def dkwX9_readDish_2 : List UInt8 := [3, 172, 42, 5, 182, 0, 191, 153, 0, 27, 42, 182, 0, 156, 42, 16, 24, 27, 96, 42, 4, 16, 9]
abbrev dktX9_readDish_2 : List UInt8 := dkwX9_readDish_2 ++ dktX9_readDish_3
def dkwX9_readDish_1 : List UInt8 := [182, 0, 181, 153, 0, 21, 42, 16, 18, 27, 96, 42, 3, 16, 99, 182, 0, 184, 182, 0, 187, 154, 0, 5]
abbrev dktX9_readDish_1 : List UInt8 := dkwX9_readDish_1 ++ dktX9_readDish_2
def dkwX9_readDish_0 : List UInt8 := [42, 4, 16, 6, 182, 0, 178, 154, 0, 5, 3, 172, 42, 180, 0, 16, 4, 46, 60, 42, 16, 7, 27, 96]
abbrev dktX9_readDish_0 : List UInt8 := dkwX9_readDish_0 ++ dktX9_readDish_1
theorem dksX9_readDish_0 : cX9_readDish.data.toList.drop 0 = dktX9_readDish_0 := by decide +kernel
theorem dksX9_readDish_1 : cX9_readDish.data.toList.drop 24 = dktX9_readDish_1 := dk_seg dksX9_readDish_0 24 rfl rfl
theorem dksX9_readDish_2 : cX9_readDish.data.toList.drop 48 = dktX9_readDish_2 := dk_seg dksX9_readDish_1 24 rfl rfl
theorem dksX9_readDish_3 : cX9_readDish.data.toList.drop 71 = dktX9_readDish_3 := dk_seg dksX9_readDish_2 23 rfl rfl
theorem dX9_readDish_0 : decode cX9_readDish 0 = .ok (.aload_n 0, 1) := dk_42 (dk_at dksX9_readDish_0 0 rfl rfl)
theorem dX9_readDish_1 : decode cX9_readDish 1 = .ok (.iconst 1, 1) := dk_4 (dk_at dksX9_readDish_0 1 rfl rfl)
theorem dX9_readDish_2 : decode cX9_readDish 2 = .ok (.bipush 6, 2) := dk_16 6 (dk_at dksX9_readDish_0 2 rfl rfl)
theorem dX9_readDish_4 : decode cX9_readDish 4 = .ok (.invokevirtual 178, 3) := dk_182 0 178 (dk_at dksX9_readDish_0 4 rfl rfl)
theorem dX9_readDish_7 : decode cX9_readDish 7 = .ok (.ifCond .ne 5, 3) := dk_154 0 5 (dk_at dksX9_readDish_0 7 rfl rfl)
theorem dX9_readDish_10 : decode cX9_readDish 10 = .ok (.iconst 0, 1) := dk_3 (dk_at dksX9_readDish_0 10 rfl rfl)
theorem dX9_readDish_11 : decode cX9_readDish 11 = .ok (.ireturn, 1) := dk_172 (dk_at dksX9_readDish_0 11 rfl rfl)
theorem dX9_readDish_12 : decode cX9_readDish 12 = .ok (.aload_n 0, 1) := dk_42 (dk_at dksX9_readDish_0 12 rfl rfl)
theorem dX9_readDish_13 : decode cX9_readDish 13 = .ok (.getfield 16, 3) := dk_180 0 16 (dk_at dksX9_readDish_0 13 rfl rfl)
theorem dX9_readDish_16 : decode cX9_readDish 16 = .ok (.iconst 1, 1) := dk_4 (dk_at dksX9_readDish_0 16 rfl rfl)
theorem dX9_readDish_17 : decode cX9_readDish 17 = .ok (.iaload, 1) := dk_46 (dk_at dksX9_readDish_0 17 rfl rfl)
theorem dX9_readDish_18 : decode cX9_readDish 18 = .ok (.istore_n 1, 1) := dk_60 (dk_at dksX9_readDish_0 18 rfl rfl)
theorem dX9_readDish_19 : decode cX9_readDish 19 = .ok (.aload_n 0, 1) := dk_42 (dk_at dksX9_readDish_0 19 rfl rfl)
theorem dX9_readDish_20 : decode cX9_readDish 20 = .ok (.bipush 7, 2) := dk_16 7 (dk_at dksX9_readDish_0 20 rfl rfl)
theorem dX9_readDish_22 : decode cX9_readDish 22 = .ok (.iload_n 1, 1) := dk_27 (dk_at dksX9_readDish_0 22 rfl rfl)
theorem dX9_readDish_23 : decode cX9_readDish 23 = .ok (.iadd, 1) := dk_96 (dk_at dksX9_readDish_0 23 rfl rfl)
theorem dX9_readDish_24 : decode cX9_readDish 24 = .ok (.invokevirtual 181, 3) := dk_182 0 181 (dk_at dksX9_readDish_1 0 rfl rfl)
theorem dX9_readDish_27 : decode cX9_readDish 27 = .ok (.ifCond .eq 21, 3) := dk_153 0 21 (dk_at dksX9_readDish_1 3 rfl rfl)
theorem dX9_readDish_30 : decode cX9_readDish 30 = .ok (.aload_n 0, 1) := dk_42 (dk_at dksX9_readDish_1 6 rfl rfl)
theorem dX9_readDish_31 : decode cX9_readDish 31 = .ok (.bipush 18, 2) := dk_16 18 (dk_at dksX9_readDish_1 7 rfl rfl)
theorem dX9_readDish_33 : decode cX9_readDish 33 = .ok (.iload_n 1, 1) := dk_27 (dk_at dksX9_readDish_1 9 rfl rfl)
theorem dX9_readDish_34 : decode cX9_readDish 34 = .ok (.iadd, 1) := dk_96 (dk_at dksX9_readDish_1 10 rfl rfl)
theorem dX9_readDish_35 : decode cX9_readDish 35 = .ok (.aload_n 0, 1) := dk_42 (dk_at dksX9_readDish_1 11 rfl rfl)
theorem dX9_readDish_36 : decode cX9_readDish 36 = .ok (.iconst 0, 1) := dk_3 (dk_at dksX9_readDish_1 12 rfl rfl)
theorem dX9_readDish_37 : decode cX9_readDish 37 = .ok (.bipush 99, 2) := dk_16 99 (dk_at dksX9_readDish_1 13 rfl rfl)
theorem dX9_readDish_39 : decode cX9_readDish 39 = .ok (.invokevirtual 184, 3) := dk_182 0 184 (dk_at dksX9_readDish_1 15 rfl rfl)
theorem dX9_readDish_42 : decode cX9_readDish 42 = .ok (.invokevirtual 187, 3) := dk_182 0 187 (dk_at dksX9_readDish_1 18 rfl rfl)
theorem dX9_readDish_45 : decode cX9_readDish 45 = .ok (.ifCond .ne 5, 3) := dk_154 0 5 (dk_at dksX9_readDish_1 21 rfl rfl)
theorem dX9_readDish_48 : decode cX9_readDish 48 = .ok (.iconst 0, 1) := dk_3 (dk_at dksX9_readDish_2 0 rfl rfl)
theorem dX9_readDish_49 : decode cX9_readDish 49 = .ok (.ireturn, 1) := dk_172 (dk_at dksX9_readDish_2 1 rfl rfl)
theorem dX9_readDish_50 : decode cX9_readDish 50 = .ok (.aload_n 0, 1) := dk_42 (dk_at dksX9_readDish_2 2 rfl rfl)
theorem dX9_readDish_51 : decode cX9_readDish 51 = .ok (.iconst 2, 1) := dk_5 (dk_at dksX9_readDish_2 3 rfl rfl)
theorem dX9_readDish_52 : decode cX9_readDish 52 = .ok (.invokevirtual 191, 3) := dk_182 0 191 (dk_at dksX9_readDish_2 4 rfl rfl)
theorem dX9_readDish_55 : decode cX9_readDish 55 = .ok (.ifCond .eq 27, 3) := dk_153 0 27 (dk_at dksX9_readDish_2 7 rfl rfl)
theorem dX9_readDish_58 : decode cX9_readDish 58 = .ok (.aload_n 0, 1) := dk_42 (dk_at dksX9_readDish_2 10 rfl rfl)
theorem dX9_readDish_59 : decode cX9_readDish 59 = .ok (.invokevirtual 156, 3) := dk_182 0 156 (dk_at dksX9_readDish_2 11 rfl rfl)
theorem dX9_readDish_62 : decode cX9_readDish 62 = .ok (.aload_n 0, 1) := dk_42 (dk_at dksX9_readDish_2 14 rfl rfl)
theorem dX9_readDish_63 : decode cX9_readDish 63 = .ok (.bipush 24, 2) := dk_16 24 (dk_at dksX9_readDish_2 15 rfl rfl)
theorem dX9_readDish_65 : decode cX9_readDish 65 = .ok (.iload_n 1, 1) := dk_27 (dk_at dksX9_readDish_2 17 rfl rfl)
theorem dX9_readDish_66 : decode cX9_readDish 66 = .ok (.iadd, 1) := dk_96 (dk_at dksX9_readDish_2 18 rfl rfl)
theorem dX9_readDish_67 : decode cX9_readDish 67 = .ok (.aload_n 0, 1) := dk_42 (dk_at dksX9_readDish_2 19 rfl rfl)
theorem dX9_readDish_68 : decode cX9_readDish 68 = .ok (.iconst 1, 1) := dk_4 (dk_at dksX9_readDish_2 20 rfl rfl)
theorem dX9_readDish_69 : decode cX9_readDish 69 = .ok (.bipush 9, 2) := dk_16 9 (dk_at dksX9_readDish_2 21 rfl rfl)
theorem dX9_readDish_71 : decode cX9_readDish 71 = .ok (.invokevirtual 184, 3) := dk_182 0 184 (dk_at dksX9_readDish_3 0 rfl rfl)
theorem dX9_readDish_74 : decode cX9_readDish 74 = .ok (.invokevirtual 187, 3) := dk_182 0 187 (dk_at dksX9_readDish_3 3 rfl rfl)
theorem dX9_readDish_77 : decode cX9_readDish 77 = .ok (.ifCond .ne 5, 3) := dk_154 0 5 (dk_at dksX9_readDish_3 6 rfl rfl)
theorem dX9_readDish_80 : decode cX9_readDish 80 = .ok (.iconst 0, 1) := dk_3 (dk_at dksX9_readDish_3 9 rfl rfl)
theorem dX9_readDish_81 : decode cX9_readDish 81 = .ok (.ireturn, 1) := dk_172 (dk_at dksX9_readDish_3 10 rfl rfl)
theorem dX9_readDish_82 : decode cX9_readDish 82 = .ok (.aload_n 0, 1) := dk_42 (dk_at dksX9_readDish_3 11 rfl rfl)
theorem dX9_readDish_83 : decode cX9_readDish 83 = .ok (.getfield 16, 3) := dk_180 0 16 (dk_at dksX9_readDish_3 12 rfl rfl)
theorem dX9_readDish_86 : decode cX9_readDish 86 = .ok (.iconst 1, 1) := dk_4 (dk_at dksX9_readDish_3 15 rfl rfl)
theorem dX9_readDish_87 : decode cX9_readDish 87 = .ok (.dup2, 1) := dk_92 (dk_at dksX9_readDish_3 16 rfl rfl)
theorem dX9_readDish_88 : decode cX9_readDish 88 = .ok (.iaload, 1) := dk_46 (dk_at dksX9_readDish_3 17 rfl rfl)
theorem dX9_readDish_89 : decode cX9_readDish 89 = .ok (.iconst 1, 1) := dk_4 (dk_at dksX9_readDish_3 18 rfl rfl)
theorem dX9_readDish_90 : decode cX9_readDish 90 = .ok (.iadd, 1) := dk_96 (dk_at dksX9_readDish_3 19 rfl rfl)
theorem dX9_readDish_91 : decode cX9_readDish 91 = .ok (.iastore, 1) := dk_79 (dk_at dksX9_readDish_3 20 rfl rfl)
theorem dX9_readDish_92 : decode cX9_readDish 92 = .ok (.iconst 1, 1) := dk_4 (dk_at dksX9_readDish_3 21 rfl rfl)
theorem dX9_readDish_93 : decode cX9_readDish 93 = .ok (.ireturn, 1) := dk_172 (dk_at dksX9_readDish_3 22 rfl rfl)
abbrev cX9_readPlate : ByteArray := prog_25_method_36_code
def yX9_readPlate : MethodName := ⟨RX9, "readPlate", "()Z"⟩
def dkwX9_readPlate_3 : List UInt8 := [182, 0, 156, 42, 27, 42, 4, 16, 40, 182, 0, 184, 182, 0, 187, 172]
abbrev dktX9_readPlate_3 : List UInt8 := dkwX9_readPlate_3 ++ []
def dkwX9_readPlate_2 : List UInt8 := [27, 42, 180, 0, 153, 96, 60, 42, 180, 0, 16, 27, 46, 158, 0, 9, 42, 6, 182, 0, 146, 172, 42]
abbrev dktX9_readPlate_2 : List UInt8 := dkwX9_readPlate_2 ++ dktX9_readPlate_3
def dkwX9_readPlate_1 : List UInt8 := [42, 180, 0, 153, 104, 96, 60, 42, 16, 7, 42, 180, 0, 16, 4, 46, 182, 0, 174, 154, 0, 5, 3, 172]
abbrev dktX9_readPlate_1 : List UInt8 := dkwX9_readPlate_1 ++ dktX9_readPlate_2
def dkwX9_readPlate_0 : List UInt8 := [42, 182, 0, 156, 42, 3, 42, 180, 0, 16, 3, 46, 182, 0, 194, 154, 0, 5, 3, 172, 16, 30, 16, 6]
abbrev dktX9_readPlate_0 : List UInt8 := dkwX9_readPlate_0 ++ dktX9_readPlate_1
theorem dksX9_readPlate_0 : cX9_readPlate.data.toList.drop 0 = dktX9_readPlate_0 := by decide +kernel
theorem dksX9_readPlate_1 : cX9_readPlate.data.toList.drop 24 = dktX9_readPlate_1 := dk_seg dksX9_readPlate_0 24 rfl rfl
theorem dksX9_readPlate_2 : cX9_readPlate.data.toList.drop 48 = dktX9_readPlate_2 := dk_seg dksX9_readPlate_1 24 rfl rfl
theorem dksX9_readPlate_3 : cX9_readPlate.data.toList.drop 71 = dktX9_readPlate_3 := dk_seg dksX9_readPlate_2 23 rfl rfl
theorem dX9_readPlate_0 : decode cX9_readPlate 0 = .ok (.aload_n 0, 1) := dk_42 (dk_at dksX9_readPlate_0 0 rfl rfl)
theorem dX9_readPlate_1 : decode cX9_readPlate 1 = .ok (.invokevirtual 156, 3) := dk_182 0 156 (dk_at dksX9_readPlate_0 1 rfl rfl)
theorem dX9_readPlate_4 : decode cX9_readPlate 4 = .ok (.aload_n 0, 1) := dk_42 (dk_at dksX9_readPlate_0 4 rfl rfl)
theorem dX9_readPlate_5 : decode cX9_readPlate 5 = .ok (.iconst 0, 1) := dk_3 (dk_at dksX9_readPlate_0 5 rfl rfl)
theorem dX9_readPlate_6 : decode cX9_readPlate 6 = .ok (.aload_n 0, 1) := dk_42 (dk_at dksX9_readPlate_0 6 rfl rfl)
theorem dX9_readPlate_7 : decode cX9_readPlate 7 = .ok (.getfield 16, 3) := dk_180 0 16 (dk_at dksX9_readPlate_0 7 rfl rfl)
theorem dX9_readPlate_10 : decode cX9_readPlate 10 = .ok (.iconst 0, 1) := dk_3 (dk_at dksX9_readPlate_0 10 rfl rfl)
theorem dX9_readPlate_11 : decode cX9_readPlate 11 = .ok (.iaload, 1) := dk_46 (dk_at dksX9_readPlate_0 11 rfl rfl)
theorem dX9_readPlate_12 : decode cX9_readPlate 12 = .ok (.invokevirtual 194, 3) := dk_182 0 194 (dk_at dksX9_readPlate_0 12 rfl rfl)
theorem dX9_readPlate_15 : decode cX9_readPlate 15 = .ok (.ifCond .ne 5, 3) := dk_154 0 5 (dk_at dksX9_readPlate_0 15 rfl rfl)
theorem dX9_readPlate_18 : decode cX9_readPlate 18 = .ok (.iconst 0, 1) := dk_3 (dk_at dksX9_readPlate_0 18 rfl rfl)
theorem dX9_readPlate_19 : decode cX9_readPlate 19 = .ok (.ireturn, 1) := dk_172 (dk_at dksX9_readPlate_0 19 rfl rfl)
theorem dX9_readPlate_20 : decode cX9_readPlate 20 = .ok (.bipush 30, 2) := dk_16 30 (dk_at dksX9_readPlate_0 20 rfl rfl)
theorem dX9_readPlate_22 : decode cX9_readPlate 22 = .ok (.bipush 6, 2) := dk_16 6 (dk_at dksX9_readPlate_0 22 rfl rfl)
theorem dX9_readPlate_24 : decode cX9_readPlate 24 = .ok (.aload_n 0, 1) := dk_42 (dk_at dksX9_readPlate_1 0 rfl rfl)
theorem dX9_readPlate_25 : decode cX9_readPlate 25 = .ok (.getfield 153, 3) := dk_180 0 153 (dk_at dksX9_readPlate_1 1 rfl rfl)
theorem dX9_readPlate_28 : decode cX9_readPlate 28 = .ok (.imul, 1) := dk_104 (dk_at dksX9_readPlate_1 4 rfl rfl)
theorem dX9_readPlate_29 : decode cX9_readPlate 29 = .ok (.iadd, 1) := dk_96 (dk_at dksX9_readPlate_1 5 rfl rfl)
theorem dX9_readPlate_30 : decode cX9_readPlate 30 = .ok (.istore_n 1, 1) := dk_60 (dk_at dksX9_readPlate_1 6 rfl rfl)
theorem dX9_readPlate_31 : decode cX9_readPlate 31 = .ok (.aload_n 0, 1) := dk_42 (dk_at dksX9_readPlate_1 7 rfl rfl)
theorem dX9_readPlate_32 : decode cX9_readPlate 32 = .ok (.bipush 7, 2) := dk_16 7 (dk_at dksX9_readPlate_1 8 rfl rfl)
theorem dX9_readPlate_34 : decode cX9_readPlate 34 = .ok (.aload_n 0, 1) := dk_42 (dk_at dksX9_readPlate_1 10 rfl rfl)
theorem dX9_readPlate_35 : decode cX9_readPlate 35 = .ok (.getfield 16, 3) := dk_180 0 16 (dk_at dksX9_readPlate_1 11 rfl rfl)
theorem dX9_readPlate_38 : decode cX9_readPlate 38 = .ok (.iconst 1, 1) := dk_4 (dk_at dksX9_readPlate_1 14 rfl rfl)
theorem dX9_readPlate_39 : decode cX9_readPlate 39 = .ok (.iaload, 1) := dk_46 (dk_at dksX9_readPlate_1 15 rfl rfl)
theorem dX9_readPlate_40 : decode cX9_readPlate 40 = .ok (.invokevirtual 174, 3) := dk_182 0 174 (dk_at dksX9_readPlate_1 16 rfl rfl)
theorem dX9_readPlate_43 : decode cX9_readPlate 43 = .ok (.ifCond .ne 5, 3) := dk_154 0 5 (dk_at dksX9_readPlate_1 19 rfl rfl)
theorem dX9_readPlate_46 : decode cX9_readPlate 46 = .ok (.iconst 0, 1) := dk_3 (dk_at dksX9_readPlate_1 22 rfl rfl)
theorem dX9_readPlate_47 : decode cX9_readPlate 47 = .ok (.ireturn, 1) := dk_172 (dk_at dksX9_readPlate_1 23 rfl rfl)
theorem dX9_readPlate_48 : decode cX9_readPlate 48 = .ok (.iload_n 1, 1) := dk_27 (dk_at dksX9_readPlate_2 0 rfl rfl)
theorem dX9_readPlate_49 : decode cX9_readPlate 49 = .ok (.aload_n 0, 1) := dk_42 (dk_at dksX9_readPlate_2 1 rfl rfl)
theorem dX9_readPlate_50 : decode cX9_readPlate 50 = .ok (.getfield 153, 3) := dk_180 0 153 (dk_at dksX9_readPlate_2 2 rfl rfl)
theorem dX9_readPlate_53 : decode cX9_readPlate 53 = .ok (.iadd, 1) := dk_96 (dk_at dksX9_readPlate_2 5 rfl rfl)
theorem dX9_readPlate_54 : decode cX9_readPlate 54 = .ok (.istore_n 1, 1) := dk_60 (dk_at dksX9_readPlate_2 6 rfl rfl)
theorem dX9_readPlate_55 : decode cX9_readPlate 55 = .ok (.aload_n 0, 1) := dk_42 (dk_at dksX9_readPlate_2 7 rfl rfl)
theorem dX9_readPlate_56 : decode cX9_readPlate 56 = .ok (.getfield 16, 3) := dk_180 0 16 (dk_at dksX9_readPlate_2 8 rfl rfl)
theorem dX9_readPlate_59 : decode cX9_readPlate 59 = .ok (.iload_n 1, 1) := dk_27 (dk_at dksX9_readPlate_2 11 rfl rfl)
theorem dX9_readPlate_60 : decode cX9_readPlate 60 = .ok (.iaload, 1) := dk_46 (dk_at dksX9_readPlate_2 12 rfl rfl)
theorem dX9_readPlate_61 : decode cX9_readPlate 61 = .ok (.ifCond .le 9, 3) := dk_158 0 9 (dk_at dksX9_readPlate_2 13 rfl rfl)
theorem dX9_readPlate_64 : decode cX9_readPlate 64 = .ok (.aload_n 0, 1) := dk_42 (dk_at dksX9_readPlate_2 16 rfl rfl)
theorem dX9_readPlate_65 : decode cX9_readPlate 65 = .ok (.iconst 3, 1) := dk_6 (dk_at dksX9_readPlate_2 17 rfl rfl)
theorem dX9_readPlate_66 : decode cX9_readPlate 66 = .ok (.invokevirtual 146, 3) := dk_182 0 146 (dk_at dksX9_readPlate_2 18 rfl rfl)
theorem dX9_readPlate_69 : decode cX9_readPlate 69 = .ok (.ireturn, 1) := dk_172 (dk_at dksX9_readPlate_2 21 rfl rfl)
theorem dX9_readPlate_70 : decode cX9_readPlate 70 = .ok (.aload_n 0, 1) := dk_42 (dk_at dksX9_readPlate_2 22 rfl rfl)
theorem dX9_readPlate_71 : decode cX9_readPlate 71 = .ok (.invokevirtual 156, 3) := dk_182 0 156 (dk_at dksX9_readPlate_3 0 rfl rfl)
theorem dX9_readPlate_74 : decode cX9_readPlate 74 = .ok (.aload_n 0, 1) := dk_42 (dk_at dksX9_readPlate_3 3 rfl rfl)
theorem dX9_readPlate_75 : decode cX9_readPlate 75 = .ok (.iload_n 1, 1) := dk_27 (dk_at dksX9_readPlate_3 4 rfl rfl)
theorem dX9_readPlate_76 : decode cX9_readPlate 76 = .ok (.aload_n 0, 1) := dk_42 (dk_at dksX9_readPlate_3 5 rfl rfl)
theorem dX9_readPlate_77 : decode cX9_readPlate 77 = .ok (.iconst 1, 1) := dk_4 (dk_at dksX9_readPlate_3 6 rfl rfl)
theorem dX9_readPlate_78 : decode cX9_readPlate 78 = .ok (.bipush 40, 2) := dk_16 40 (dk_at dksX9_readPlate_3 7 rfl rfl)
theorem dX9_readPlate_80 : decode cX9_readPlate 80 = .ok (.invokevirtual 184, 3) := dk_182 0 184 (dk_at dksX9_readPlate_3 9 rfl rfl)
theorem dX9_readPlate_83 : decode cX9_readPlate 83 = .ok (.invokevirtual 187, 3) := dk_182 0 187 (dk_at dksX9_readPlate_3 12 rfl rfl)
theorem dX9_readPlate_86 : decode cX9_readPlate 86 = .ok (.ireturn, 1) := dk_172 (dk_at dksX9_readPlate_3 15 rfl rfl)
abbrev cX9_readLaw : ByteArray := prog_25_method_37_code
def yX9_readLaw : MethodName := ⟨RX9, "readLaw", "()Z"⟩
def dkwX9_readLaw_2 : List UInt8 := [164, 0, 9, 42, 4, 182, 0, 146, 172, 42, 180, 0, 16, 5, 27, 8, 100, 79, 42, 182, 0, 156, 4, 172]
abbrev dktX9_readLaw_2 : List UInt8 := dkwX9_readLaw_2 ++ []
def dkwX9_readLaw_1 : List UInt8 := [27, 16, 7, 163, 0, 17, 42, 27, 182, 0, 191, 154, 0, 9, 132, 1, 1, 167, 255, 239, 27, 16, 7]
abbrev dktX9_readLaw_1 : List UInt8 := dkwX9_readLaw_1 ++ dktX9_readLaw_2
def dkwX9_readLaw_0 : List UInt8 := [42, 180, 0, 197, 153, 0, 9, 42, 6, 182, 0, 146, 172, 42, 4, 181, 0, 197, 42, 182, 0, 156, 8, 60]
abbrev dktX9_readLaw_0 : List UInt8 := dkwX9_readLaw_0 ++ dktX9_readLaw_1
theorem dksX9_readLaw_0 : cX9_readLaw.data.toList.drop 0 = dktX9_readLaw_0 := by decide +kernel
theorem dksX9_readLaw_1 : cX9_readLaw.data.toList.drop 24 = dktX9_readLaw_1 := dk_seg dksX9_readLaw_0 24 rfl rfl
theorem dksX9_readLaw_2 : cX9_readLaw.data.toList.drop 47 = dktX9_readLaw_2 := dk_seg dksX9_readLaw_1 23 rfl rfl
theorem dX9_readLaw_0 : decode cX9_readLaw 0 = .ok (.aload_n 0, 1) := dk_42 (dk_at dksX9_readLaw_0 0 rfl rfl)
theorem dX9_readLaw_1 : decode cX9_readLaw 1 = .ok (.getfield 197, 3) := dk_180 0 197 (dk_at dksX9_readLaw_0 1 rfl rfl)
theorem dX9_readLaw_4 : decode cX9_readLaw 4 = .ok (.ifCond .eq 9, 3) := dk_153 0 9 (dk_at dksX9_readLaw_0 4 rfl rfl)
theorem dX9_readLaw_7 : decode cX9_readLaw 7 = .ok (.aload_n 0, 1) := dk_42 (dk_at dksX9_readLaw_0 7 rfl rfl)
theorem dX9_readLaw_8 : decode cX9_readLaw 8 = .ok (.iconst 3, 1) := dk_6 (dk_at dksX9_readLaw_0 8 rfl rfl)
theorem dX9_readLaw_9 : decode cX9_readLaw 9 = .ok (.invokevirtual 146, 3) := dk_182 0 146 (dk_at dksX9_readLaw_0 9 rfl rfl)
theorem dX9_readLaw_12 : decode cX9_readLaw 12 = .ok (.ireturn, 1) := dk_172 (dk_at dksX9_readLaw_0 12 rfl rfl)
theorem dX9_readLaw_13 : decode cX9_readLaw 13 = .ok (.aload_n 0, 1) := dk_42 (dk_at dksX9_readLaw_0 13 rfl rfl)
theorem dX9_readLaw_14 : decode cX9_readLaw 14 = .ok (.iconst 1, 1) := dk_4 (dk_at dksX9_readLaw_0 14 rfl rfl)
theorem dX9_readLaw_15 : decode cX9_readLaw 15 = .ok (.putfield 197, 3) := dk_181 0 197 (dk_at dksX9_readLaw_0 15 rfl rfl)
theorem dX9_readLaw_18 : decode cX9_readLaw 18 = .ok (.aload_n 0, 1) := dk_42 (dk_at dksX9_readLaw_0 18 rfl rfl)
theorem dX9_readLaw_19 : decode cX9_readLaw 19 = .ok (.invokevirtual 156, 3) := dk_182 0 156 (dk_at dksX9_readLaw_0 19 rfl rfl)
theorem dX9_readLaw_22 : decode cX9_readLaw 22 = .ok (.iconst 5, 1) := dk_8 (dk_at dksX9_readLaw_0 22 rfl rfl)
theorem dX9_readLaw_23 : decode cX9_readLaw 23 = .ok (.istore_n 1, 1) := dk_60 (dk_at dksX9_readLaw_0 23 rfl rfl)
theorem dX9_readLaw_24 : decode cX9_readLaw 24 = .ok (.iload_n 1, 1) := dk_27 (dk_at dksX9_readLaw_1 0 rfl rfl)
theorem dX9_readLaw_25 : decode cX9_readLaw 25 = .ok (.bipush 7, 2) := dk_16 7 (dk_at dksX9_readLaw_1 1 rfl rfl)
theorem dX9_readLaw_27 : decode cX9_readLaw 27 = .ok (.if_icmp .gt 17, 3) := dk_163 0 17 (dk_at dksX9_readLaw_1 3 rfl rfl)
theorem dX9_readLaw_30 : decode cX9_readLaw 30 = .ok (.aload_n 0, 1) := dk_42 (dk_at dksX9_readLaw_1 6 rfl rfl)
theorem dX9_readLaw_31 : decode cX9_readLaw 31 = .ok (.iload_n 1, 1) := dk_27 (dk_at dksX9_readLaw_1 7 rfl rfl)
theorem dX9_readLaw_32 : decode cX9_readLaw 32 = .ok (.invokevirtual 191, 3) := dk_182 0 191 (dk_at dksX9_readLaw_1 8 rfl rfl)
theorem dX9_readLaw_35 : decode cX9_readLaw 35 = .ok (.ifCond .ne 9, 3) := dk_154 0 9 (dk_at dksX9_readLaw_1 11 rfl rfl)
theorem dX9_readLaw_38 : decode cX9_readLaw 38 = .ok (.iinc 1 1, 3) := dk_132 1 1 (dk_at dksX9_readLaw_1 14 rfl rfl)
theorem dX9_readLaw_41 : decode cX9_readLaw 41 = .ok (.goto (-17), 3) := dk_167 255 239 (dk_at dksX9_readLaw_1 17 rfl rfl)
theorem dX9_readLaw_44 : decode cX9_readLaw 44 = .ok (.iload_n 1, 1) := dk_27 (dk_at dksX9_readLaw_1 20 rfl rfl)
theorem dX9_readLaw_45 : decode cX9_readLaw 45 = .ok (.bipush 7, 2) := dk_16 7 (dk_at dksX9_readLaw_1 21 rfl rfl)
theorem dX9_readLaw_47 : decode cX9_readLaw 47 = .ok (.if_icmp .le 9, 3) := dk_164 0 9 (dk_at dksX9_readLaw_2 0 rfl rfl)
theorem dX9_readLaw_50 : decode cX9_readLaw 50 = .ok (.aload_n 0, 1) := dk_42 (dk_at dksX9_readLaw_2 3 rfl rfl)
theorem dX9_readLaw_51 : decode cX9_readLaw 51 = .ok (.iconst 1, 1) := dk_4 (dk_at dksX9_readLaw_2 4 rfl rfl)
theorem dX9_readLaw_52 : decode cX9_readLaw 52 = .ok (.invokevirtual 146, 3) := dk_182 0 146 (dk_at dksX9_readLaw_2 5 rfl rfl)
theorem dX9_readLaw_55 : decode cX9_readLaw 55 = .ok (.ireturn, 1) := dk_172 (dk_at dksX9_readLaw_2 8 rfl rfl)
theorem dX9_readLaw_56 : decode cX9_readLaw 56 = .ok (.aload_n 0, 1) := dk_42 (dk_at dksX9_readLaw_2 9 rfl rfl)
theorem dX9_readLaw_57 : decode cX9_readLaw 57 = .ok (.getfield 16, 3) := dk_180 0 16 (dk_at dksX9_readLaw_2 10 rfl rfl)
theorem dX9_readLaw_60 : decode cX9_readLaw 60 = .ok (.iconst 2, 1) := dk_5 (dk_at dksX9_readLaw_2 13 rfl rfl)
theorem dX9_readLaw_61 : decode cX9_readLaw 61 = .ok (.iload_n 1, 1) := dk_27 (dk_at dksX9_readLaw_2 14 rfl rfl)
theorem dX9_readLaw_62 : decode cX9_readLaw 62 = .ok (.iconst 5, 1) := dk_8 (dk_at dksX9_readLaw_2 15 rfl rfl)
theorem dX9_readLaw_63 : decode cX9_readLaw 63 = .ok (.isub, 1) := dk_100 (dk_at dksX9_readLaw_2 16 rfl rfl)
theorem dX9_readLaw_64 : decode cX9_readLaw 64 = .ok (.iastore, 1) := dk_79 (dk_at dksX9_readLaw_2 17 rfl rfl)
theorem dX9_readLaw_65 : decode cX9_readLaw 65 = .ok (.aload_n 0, 1) := dk_42 (dk_at dksX9_readLaw_2 18 rfl rfl)
theorem dX9_readLaw_66 : decode cX9_readLaw 66 = .ok (.invokevirtual 156, 3) := dk_182 0 156 (dk_at dksX9_readLaw_2 19 rfl rfl)
theorem dX9_readLaw_69 : decode cX9_readLaw 69 = .ok (.iconst 1, 1) := dk_4 (dk_at dksX9_readLaw_2 22 rfl rfl)
theorem dX9_readLaw_70 : decode cX9_readLaw 70 = .ok (.ireturn, 1) := dk_172 (dk_at dksX9_readLaw_2 23 rfl rfl)
abbrev cX9_readEnd : ByteArray := prog_25_method_25_code
def yX9_readEnd : MethodName := ⟨RX9, "readEnd", "()Z"⟩
def dkwX9_readEnd_0 : List UInt8 := [42, 16, 59, 182, 0, 159, 154, 0, 9, 42, 4, 182, 0, 146, 172, 42, 182, 0, 156, 4, 172]
abbrev dktX9_readEnd_0 : List UInt8 := dkwX9_readEnd_0 ++ []
theorem dksX9_readEnd_0 : cX9_readEnd.data.toList.drop 0 = dktX9_readEnd_0 := by decide +kernel
theorem dX9_readEnd_0 : decode cX9_readEnd 0 = .ok (.aload_n 0, 1) := dk_42 (dk_at dksX9_readEnd_0 0 rfl rfl)
theorem dX9_readEnd_1 : decode cX9_readEnd 1 = .ok (.bipush 59, 2) := dk_16 59 (dk_at dksX9_readEnd_0 1 rfl rfl)
theorem dX9_readEnd_3 : decode cX9_readEnd 3 = .ok (.invokevirtual 159, 3) := dk_182 0 159 (dk_at dksX9_readEnd_0 3 rfl rfl)
theorem dX9_readEnd_6 : decode cX9_readEnd 6 = .ok (.ifCond .ne 9, 3) := dk_154 0 9 (dk_at dksX9_readEnd_0 6 rfl rfl)
theorem dX9_readEnd_9 : decode cX9_readEnd 9 = .ok (.aload_n 0, 1) := dk_42 (dk_at dksX9_readEnd_0 9 rfl rfl)
theorem dX9_readEnd_10 : decode cX9_readEnd 10 = .ok (.iconst 1, 1) := dk_4 (dk_at dksX9_readEnd_0 10 rfl rfl)
theorem dX9_readEnd_11 : decode cX9_readEnd 11 = .ok (.invokevirtual 146, 3) := dk_182 0 146 (dk_at dksX9_readEnd_0 11 rfl rfl)
theorem dX9_readEnd_14 : decode cX9_readEnd 14 = .ok (.ireturn, 1) := dk_172 (dk_at dksX9_readEnd_0 14 rfl rfl)
theorem dX9_readEnd_15 : decode cX9_readEnd 15 = .ok (.aload_n 0, 1) := dk_42 (dk_at dksX9_readEnd_0 15 rfl rfl)
theorem dX9_readEnd_16 : decode cX9_readEnd 16 = .ok (.invokevirtual 156, 3) := dk_182 0 156 (dk_at dksX9_readEnd_0 16 rfl rfl)
theorem dX9_readEnd_19 : decode cX9_readEnd 19 = .ok (.iconst 1, 1) := dk_4 (dk_at dksX9_readEnd_0 19 rfl rfl)
theorem dX9_readEnd_20 : decode cX9_readEnd 20 = .ok (.ireturn, 1) := dk_172 (dk_at dksX9_readEnd_0 20 rfl rfl)
abbrev cX9_isSign : ByteArray := prog_25_method_21_code
def yX9_isSign : MethodName := ⟨RX9, "isSign", "(I)Z"⟩
def dkwX9_isSign_0 : List UInt8 := [42, 180, 0, 104, 7, 160, 0, 15, 42, 180, 0, 114, 27, 160, 0, 7, 4, 167, 0, 4, 3, 172]
abbrev dktX9_isSign_0 : List UInt8 := dkwX9_isSign_0 ++ []
theorem dksX9_isSign_0 : cX9_isSign.data.toList.drop 0 = dktX9_isSign_0 := by decide +kernel
theorem dX9_isSign_0 : decode cX9_isSign 0 = .ok (.aload_n 0, 1) := dk_42 (dk_at dksX9_isSign_0 0 rfl rfl)
theorem dX9_isSign_1 : decode cX9_isSign 1 = .ok (.getfield 104, 3) := dk_180 0 104 (dk_at dksX9_isSign_0 1 rfl rfl)
theorem dX9_isSign_4 : decode cX9_isSign 4 = .ok (.iconst 4, 1) := dk_7 (dk_at dksX9_isSign_0 4 rfl rfl)
theorem dX9_isSign_5 : decode cX9_isSign 5 = .ok (.if_icmp .ne 15, 3) := dk_160 0 15 (dk_at dksX9_isSign_0 5 rfl rfl)
theorem dX9_isSign_8 : decode cX9_isSign 8 = .ok (.aload_n 0, 1) := dk_42 (dk_at dksX9_isSign_0 8 rfl rfl)
theorem dX9_isSign_9 : decode cX9_isSign 9 = .ok (.getfield 114, 3) := dk_180 0 114 (dk_at dksX9_isSign_0 9 rfl rfl)
theorem dX9_isSign_12 : decode cX9_isSign 12 = .ok (.iload_n 1, 1) := dk_27 (dk_at dksX9_isSign_0 12 rfl rfl)
theorem dX9_isSign_13 : decode cX9_isSign 13 = .ok (.if_icmp .ne 7, 3) := dk_160 0 7 (dk_at dksX9_isSign_0 13 rfl rfl)
theorem dX9_isSign_16 : decode cX9_isSign 16 = .ok (.iconst 1, 1) := dk_4 (dk_at dksX9_isSign_0 16 rfl rfl)
theorem dX9_isSign_17 : decode cX9_isSign 17 = .ok (.goto 4, 3) := dk_167 0 4 (dk_at dksX9_isSign_0 17 rfl rfl)
theorem dX9_isSign_20 : decode cX9_isSign 20 = .ok (.iconst 0, 1) := dk_3 (dk_at dksX9_isSign_0 20 rfl rfl)
theorem dX9_isSign_21 : decode cX9_isSign 21 = .ok (.ireturn, 1) := dk_172 (dk_at dksX9_isSign_0 21 rfl rfl)
abbrev cX9_startSo : ByteArray := prog_25_method_27_code
def yX9_startSo : MethodName := ⟨RX9, "startSo", "()V"⟩
def dkwX9_startSo_3 : List UInt8 := [180, 0, 13, 16, 30, 27, 96, 46, 79, 132, 1, 1, 167, 255, 229, 177]
abbrev dktX9_startSo_3 : List UInt8 := dkwX9_startSo_3 ++ []
def dkwX9_startSo_2 : List UInt8 := [79, 132, 1, 1, 167, 255, 229, 3, 60, 27, 16, 42, 162, 0, 27, 42, 180, 0, 13, 16, 105, 27, 96, 42]
abbrev dktX9_startSo_2 : List UInt8 := dkwX9_startSo_2 ++ dktX9_startSo_3
def dkwX9_startSo_1 : List UInt8 := [60, 27, 16, 6, 162, 0, 27, 42, 180, 0, 13, 16, 78, 27, 96, 42, 180, 0, 13, 16, 18, 27, 96, 46]
abbrev dktX9_startSo_1 : List UInt8 := dkwX9_startSo_1 ++ dktX9_startSo_2
def dkwX9_startSo_0 : List UInt8 := [16, 72, 60, 27, 17, 1, 133, 162, 0, 16, 42, 180, 0, 13, 27, 3, 79, 132, 1, 1, 167, 255, 239, 3]
abbrev dktX9_startSo_0 : List UInt8 := dkwX9_startSo_0 ++ dktX9_startSo_1
theorem dksX9_startSo_0 : cX9_startSo.data.toList.drop 0 = dktX9_startSo_0 := by decide +kernel
theorem dksX9_startSo_1 : cX9_startSo.data.toList.drop 24 = dktX9_startSo_1 := dk_seg dksX9_startSo_0 24 rfl rfl
theorem dksX9_startSo_2 : cX9_startSo.data.toList.drop 48 = dktX9_startSo_2 := dk_seg dksX9_startSo_1 24 rfl rfl
theorem dksX9_startSo_3 : cX9_startSo.data.toList.drop 72 = dktX9_startSo_3 := dk_seg dksX9_startSo_2 24 rfl rfl
theorem dX9_startSo_0 : decode cX9_startSo 0 = .ok (.bipush 72, 2) := dk_16 72 (dk_at dksX9_startSo_0 0 rfl rfl)
theorem dX9_startSo_2 : decode cX9_startSo 2 = .ok (.istore_n 1, 1) := dk_60 (dk_at dksX9_startSo_0 2 rfl rfl)
theorem dX9_startSo_3 : decode cX9_startSo 3 = .ok (.iload_n 1, 1) := dk_27 (dk_at dksX9_startSo_0 3 rfl rfl)
theorem dX9_startSo_4 : decode cX9_startSo 4 = .ok (.sipush 389, 3) := dk_17 1 133 (dk_at dksX9_startSo_0 4 rfl rfl)
theorem dX9_startSo_7 : decode cX9_startSo 7 = .ok (.if_icmp .ge 16, 3) := dk_162 0 16 (dk_at dksX9_startSo_0 7 rfl rfl)
theorem dX9_startSo_10 : decode cX9_startSo 10 = .ok (.aload_n 0, 1) := dk_42 (dk_at dksX9_startSo_0 10 rfl rfl)
theorem dX9_startSo_11 : decode cX9_startSo 11 = .ok (.getfield 13, 3) := dk_180 0 13 (dk_at dksX9_startSo_0 11 rfl rfl)
theorem dX9_startSo_14 : decode cX9_startSo 14 = .ok (.iload_n 1, 1) := dk_27 (dk_at dksX9_startSo_0 14 rfl rfl)
theorem dX9_startSo_15 : decode cX9_startSo 15 = .ok (.iconst 0, 1) := dk_3 (dk_at dksX9_startSo_0 15 rfl rfl)
theorem dX9_startSo_16 : decode cX9_startSo 16 = .ok (.iastore, 1) := dk_79 (dk_at dksX9_startSo_0 16 rfl rfl)
theorem dX9_startSo_17 : decode cX9_startSo 17 = .ok (.iinc 1 1, 3) := dk_132 1 1 (dk_at dksX9_startSo_0 17 rfl rfl)
theorem dX9_startSo_20 : decode cX9_startSo 20 = .ok (.goto (-17), 3) := dk_167 255 239 (dk_at dksX9_startSo_0 20 rfl rfl)
theorem dX9_startSo_23 : decode cX9_startSo 23 = .ok (.iconst 0, 1) := dk_3 (dk_at dksX9_startSo_0 23 rfl rfl)
theorem dX9_startSo_24 : decode cX9_startSo 24 = .ok (.istore_n 1, 1) := dk_60 (dk_at dksX9_startSo_1 0 rfl rfl)
theorem dX9_startSo_25 : decode cX9_startSo 25 = .ok (.iload_n 1, 1) := dk_27 (dk_at dksX9_startSo_1 1 rfl rfl)
theorem dX9_startSo_26 : decode cX9_startSo 26 = .ok (.bipush 6, 2) := dk_16 6 (dk_at dksX9_startSo_1 2 rfl rfl)
theorem dX9_startSo_28 : decode cX9_startSo 28 = .ok (.if_icmp .ge 27, 3) := dk_162 0 27 (dk_at dksX9_startSo_1 4 rfl rfl)
theorem dX9_startSo_31 : decode cX9_startSo 31 = .ok (.aload_n 0, 1) := dk_42 (dk_at dksX9_startSo_1 7 rfl rfl)
theorem dX9_startSo_32 : decode cX9_startSo 32 = .ok (.getfield 13, 3) := dk_180 0 13 (dk_at dksX9_startSo_1 8 rfl rfl)
theorem dX9_startSo_35 : decode cX9_startSo 35 = .ok (.bipush 78, 2) := dk_16 78 (dk_at dksX9_startSo_1 11 rfl rfl)
theorem dX9_startSo_37 : decode cX9_startSo 37 = .ok (.iload_n 1, 1) := dk_27 (dk_at dksX9_startSo_1 13 rfl rfl)
theorem dX9_startSo_38 : decode cX9_startSo 38 = .ok (.iadd, 1) := dk_96 (dk_at dksX9_startSo_1 14 rfl rfl)
theorem dX9_startSo_39 : decode cX9_startSo 39 = .ok (.aload_n 0, 1) := dk_42 (dk_at dksX9_startSo_1 15 rfl rfl)
theorem dX9_startSo_40 : decode cX9_startSo 40 = .ok (.getfield 13, 3) := dk_180 0 13 (dk_at dksX9_startSo_1 16 rfl rfl)
theorem dX9_startSo_43 : decode cX9_startSo 43 = .ok (.bipush 18, 2) := dk_16 18 (dk_at dksX9_startSo_1 19 rfl rfl)
theorem dX9_startSo_45 : decode cX9_startSo 45 = .ok (.iload_n 1, 1) := dk_27 (dk_at dksX9_startSo_1 21 rfl rfl)
theorem dX9_startSo_46 : decode cX9_startSo 46 = .ok (.iadd, 1) := dk_96 (dk_at dksX9_startSo_1 22 rfl rfl)
theorem dX9_startSo_47 : decode cX9_startSo 47 = .ok (.iaload, 1) := dk_46 (dk_at dksX9_startSo_1 23 rfl rfl)
theorem dX9_startSo_48 : decode cX9_startSo 48 = .ok (.iastore, 1) := dk_79 (dk_at dksX9_startSo_2 0 rfl rfl)
theorem dX9_startSo_49 : decode cX9_startSo 49 = .ok (.iinc 1 1, 3) := dk_132 1 1 (dk_at dksX9_startSo_2 1 rfl rfl)
theorem dX9_startSo_52 : decode cX9_startSo 52 = .ok (.goto (-27), 3) := dk_167 255 229 (dk_at dksX9_startSo_2 4 rfl rfl)
theorem dX9_startSo_55 : decode cX9_startSo 55 = .ok (.iconst 0, 1) := dk_3 (dk_at dksX9_startSo_2 7 rfl rfl)
theorem dX9_startSo_56 : decode cX9_startSo 56 = .ok (.istore_n 1, 1) := dk_60 (dk_at dksX9_startSo_2 8 rfl rfl)
theorem dX9_startSo_57 : decode cX9_startSo 57 = .ok (.iload_n 1, 1) := dk_27 (dk_at dksX9_startSo_2 9 rfl rfl)
theorem dX9_startSo_58 : decode cX9_startSo 58 = .ok (.bipush 42, 2) := dk_16 42 (dk_at dksX9_startSo_2 10 rfl rfl)
theorem dX9_startSo_60 : decode cX9_startSo 60 = .ok (.if_icmp .ge 27, 3) := dk_162 0 27 (dk_at dksX9_startSo_2 12 rfl rfl)
theorem dX9_startSo_63 : decode cX9_startSo 63 = .ok (.aload_n 0, 1) := dk_42 (dk_at dksX9_startSo_2 15 rfl rfl)
theorem dX9_startSo_64 : decode cX9_startSo 64 = .ok (.getfield 13, 3) := dk_180 0 13 (dk_at dksX9_startSo_2 16 rfl rfl)
theorem dX9_startSo_67 : decode cX9_startSo 67 = .ok (.bipush 105, 2) := dk_16 105 (dk_at dksX9_startSo_2 19 rfl rfl)
theorem dX9_startSo_69 : decode cX9_startSo 69 = .ok (.iload_n 1, 1) := dk_27 (dk_at dksX9_startSo_2 21 rfl rfl)
theorem dX9_startSo_70 : decode cX9_startSo 70 = .ok (.iadd, 1) := dk_96 (dk_at dksX9_startSo_2 22 rfl rfl)
theorem dX9_startSo_71 : decode cX9_startSo 71 = .ok (.aload_n 0, 1) := dk_42 (dk_at dksX9_startSo_2 23 rfl rfl)
theorem dX9_startSo_72 : decode cX9_startSo 72 = .ok (.getfield 13, 3) := dk_180 0 13 (dk_at dksX9_startSo_3 0 rfl rfl)
theorem dX9_startSo_75 : decode cX9_startSo 75 = .ok (.bipush 30, 2) := dk_16 30 (dk_at dksX9_startSo_3 3 rfl rfl)
theorem dX9_startSo_77 : decode cX9_startSo 77 = .ok (.iload_n 1, 1) := dk_27 (dk_at dksX9_startSo_3 5 rfl rfl)
theorem dX9_startSo_78 : decode cX9_startSo 78 = .ok (.iadd, 1) := dk_96 (dk_at dksX9_startSo_3 6 rfl rfl)
theorem dX9_startSo_79 : decode cX9_startSo 79 = .ok (.iaload, 1) := dk_46 (dk_at dksX9_startSo_3 7 rfl rfl)
theorem dX9_startSo_80 : decode cX9_startSo 80 = .ok (.iastore, 1) := dk_79 (dk_at dksX9_startSo_3 8 rfl rfl)
theorem dX9_startSo_81 : decode cX9_startSo 81 = .ok (.iinc 1 1, 3) := dk_132 1 1 (dk_at dksX9_startSo_3 9 rfl rfl)
theorem dX9_startSo_84 : decode cX9_startSo 84 = .ok (.goto (-27), 3) := dk_167 255 229 (dk_at dksX9_startSo_3 12 rfl rfl)
theorem dX9_startSo_87 : decode cX9_startSo 87 = .ok (.return_, 1) := dk_177 (dk_at dksX9_startSo_3 15 rfl rfl)
abbrev cX9_fault : ByteArray := prog_25_method_40_code
def yX9_fault : MethodName := ⟨RX9, "fault", "()I"⟩
def dkwX9_fault_0 : List UInt8 := [42, 3, 181, 0, 82, 42, 180, 0, 140, 172]
abbrev dktX9_fault_0 : List UInt8 := dkwX9_fault_0 ++ []
theorem dksX9_fault_0 : cX9_fault.data.toList.drop 0 = dktX9_fault_0 := by decide +kernel
theorem dX9_fault_0 : decode cX9_fault 0 = .ok (.aload_n 0, 1) := dk_42 (dk_at dksX9_fault_0 0 rfl rfl)
theorem dX9_fault_1 : decode cX9_fault 1 = .ok (.iconst 0, 1) := dk_3 (dk_at dksX9_fault_0 1 rfl rfl)
theorem dX9_fault_2 : decode cX9_fault 2 = .ok (.putfield 82, 3) := dk_181 0 82 (dk_at dksX9_fault_0 2 rfl rfl)
theorem dX9_fault_5 : decode cX9_fault 5 = .ok (.aload_n 0, 1) := dk_42 (dk_at dksX9_fault_0 5 rfl rfl)
theorem dX9_fault_6 : decode cX9_fault 6 = .ok (.getfield 140, 3) := dk_180 0 140 (dk_at dksX9_fault_0 6 rfl rfl)
theorem dX9_fault_9 : decode cX9_fault 9 = .ok (.ireturn, 1) := dk_172 (dk_at dksX9_fault_0 9 rfl rfl)
abbrev cX9_person : ByteArray := prog_25_method_47_code
def yX9_person : MethodName := ⟨RX9, "person", "(II)I"⟩
def dkwX9_person_7 : List UInt8 := [21, 4, 120, 128, 62, 132, 4, 1, 167, 255, 221, 29, 172, 42, 182, 0, 241, 172]
abbrev dktX9_person_7 : List UInt8 := dkwX9_person_7 ++ []
def dkwX9_person_6 : List UInt8 := [180, 0, 13, 3, 46, 162, 0, 30, 42, 180, 0, 13, 16, 11, 21, 4, 96, 46, 27, 160, 0, 10, 29, 4]
abbrev dktX9_person_6 : List UInt8 := dkwX9_person_6 ++ dktX9_person_7
def dkwX9_person_5 : List UInt8 := [172, 42, 180, 0, 13, 16, 98, 27, 96, 46, 172, 42, 27, 182, 0, 247, 172, 3, 54, 4, 21, 4, 42]
abbrev dktX9_person_5 : List UInt8 := dkwX9_person_5 ++ dktX9_person_6
def dkwX9_person_4 : List UInt8 := [167, 0, 4, 3, 172, 42, 180, 0, 13, 16, 84, 27, 96, 46, 172, 42, 180, 0, 13, 16, 91, 27, 96, 46]
abbrev dktX9_person_4 : List UInt8 := dkwX9_person_4 ++ dktX9_person_5
def dkwX9_person_3 : List UInt8 := [153, 0, 7, 4, 167, 0, 4, 3, 172, 42, 180, 0, 13, 16, 74, 46, 27, 184, 0, 231, 153, 0, 7, 4]
abbrev dktX9_person_3 : List UInt8 := dkwX9_person_3 ++ dktX9_person_4
def dkwX9_person_2 : List UInt8 := [42, 180, 0, 13, 7, 27, 96, 46, 172, 42, 180, 0, 13, 16, 11, 27, 96, 46, 172, 42, 27, 182, 0, 244]
abbrev dktX9_person_2 : List UInt8 := dkwX9_person_2 ++ dktX9_person_3
def dkwX9_person_1 : List UInt8 := [170, 0, 0, 0, 0, 0, 183, 0, 0, 0, 0, 0, 0, 0, 8, 0, 0, 0, 51, 0, 0, 0, 60, 0, 0, 0, 70, 0, 0, 0, 84, 0, 0, 0, 104, 0, 0, 0, 114, 0, 0, 0, 124, 0, 0, 0, 134, 0, 0, 0, 140]
abbrev dktX9_person_1 : List UInt8 := dkwX9_person_1 ++ dktX9_person_2
def dkwX9_person_0 : List UInt8 := [42, 3, 181, 0, 82, 42, 27, 182, 0, 238, 154, 0, 8, 42, 182, 0, 241, 172, 3, 62, 28]
abbrev dktX9_person_0 : List UInt8 := dkwX9_person_0 ++ dktX9_person_1
theorem dksX9_person_0 : cX9_person.data.toList.drop 0 = dktX9_person_0 := by decide +kernel
theorem dksX9_person_1 : cX9_person.data.toList.drop 21 = dktX9_person_1 := dk_seg dksX9_person_0 21 rfl rfl
theorem dksX9_person_2 : cX9_person.data.toList.drop 72 = dktX9_person_2 := dk_seg dksX9_person_1 51 rfl rfl
theorem dksX9_person_3 : cX9_person.data.toList.drop 96 = dktX9_person_3 := dk_seg dksX9_person_2 24 rfl rfl
theorem dksX9_person_4 : cX9_person.data.toList.drop 120 = dktX9_person_4 := dk_seg dksX9_person_3 24 rfl rfl
theorem dksX9_person_5 : cX9_person.data.toList.drop 144 = dktX9_person_5 := dk_seg dksX9_person_4 24 rfl rfl
theorem dksX9_person_6 : cX9_person.data.toList.drop 167 = dktX9_person_6 := dk_seg dksX9_person_5 23 rfl rfl
theorem dksX9_person_7 : cX9_person.data.toList.drop 191 = dktX9_person_7 := dk_seg dksX9_person_6 24 rfl rfl
theorem dX9_person_0 : decode cX9_person 0 = .ok (.aload_n 0, 1) := dk_42 (dk_at dksX9_person_0 0 rfl rfl)
theorem dX9_person_1 : decode cX9_person 1 = .ok (.iconst 0, 1) := dk_3 (dk_at dksX9_person_0 1 rfl rfl)
theorem dX9_person_2 : decode cX9_person 2 = .ok (.putfield 82, 3) := dk_181 0 82 (dk_at dksX9_person_0 2 rfl rfl)
theorem dX9_person_5 : decode cX9_person 5 = .ok (.aload_n 0, 1) := dk_42 (dk_at dksX9_person_0 5 rfl rfl)
theorem dX9_person_6 : decode cX9_person 6 = .ok (.iload_n 1, 1) := dk_27 (dk_at dksX9_person_0 6 rfl rfl)
theorem dX9_person_7 : decode cX9_person 7 = .ok (.invokevirtual 238, 3) := dk_182 0 238 (dk_at dksX9_person_0 7 rfl rfl)
theorem dX9_person_10 : decode cX9_person 10 = .ok (.ifCond .ne 8, 3) := dk_154 0 8 (dk_at dksX9_person_0 10 rfl rfl)
theorem dX9_person_13 : decode cX9_person 13 = .ok (.aload_n 0, 1) := dk_42 (dk_at dksX9_person_0 13 rfl rfl)
theorem dX9_person_14 : decode cX9_person 14 = .ok (.invokevirtual 241, 3) := dk_182 0 241 (dk_at dksX9_person_0 14 rfl rfl)
theorem dX9_person_17 : decode cX9_person 17 = .ok (.ireturn, 1) := dk_172 (dk_at dksX9_person_0 17 rfl rfl)
theorem dX9_person_18 : decode cX9_person 18 = .ok (.iconst 0, 1) := dk_3 (dk_at dksX9_person_0 18 rfl rfl)
theorem dX9_person_19 : decode cX9_person 19 = .ok (.istore_n 3, 1) := dk_62 (dk_at dksX9_person_0 19 rfl rfl)
theorem dX9_person_20 : decode cX9_person 20 = .ok (.iload_n 2, 1) := dk_28 (dk_at dksX9_person_0 20 rfl rfl)
theorem dX9_person_21 : decode cX9_person 21 = .ok (.tableswitch 183 0 8 #[51, 60, 70, 84, 104, 114, 124, 134, 140], 51) := by decide +kernel
theorem dX9_person_72 : decode cX9_person 72 = .ok (.aload_n 0, 1) := dk_42 (dk_at dksX9_person_2 0 rfl rfl)
theorem dX9_person_73 : decode cX9_person 73 = .ok (.getfield 13, 3) := dk_180 0 13 (dk_at dksX9_person_2 1 rfl rfl)
theorem dX9_person_76 : decode cX9_person 76 = .ok (.iconst 4, 1) := dk_7 (dk_at dksX9_person_2 4 rfl rfl)
theorem dX9_person_77 : decode cX9_person 77 = .ok (.iload_n 1, 1) := dk_27 (dk_at dksX9_person_2 5 rfl rfl)
theorem dX9_person_78 : decode cX9_person 78 = .ok (.iadd, 1) := dk_96 (dk_at dksX9_person_2 6 rfl rfl)
theorem dX9_person_79 : decode cX9_person 79 = .ok (.iaload, 1) := dk_46 (dk_at dksX9_person_2 7 rfl rfl)
theorem dX9_person_80 : decode cX9_person 80 = .ok (.ireturn, 1) := dk_172 (dk_at dksX9_person_2 8 rfl rfl)
theorem dX9_person_81 : decode cX9_person 81 = .ok (.aload_n 0, 1) := dk_42 (dk_at dksX9_person_2 9 rfl rfl)
theorem dX9_person_82 : decode cX9_person 82 = .ok (.getfield 13, 3) := dk_180 0 13 (dk_at dksX9_person_2 10 rfl rfl)
theorem dX9_person_85 : decode cX9_person 85 = .ok (.bipush 11, 2) := dk_16 11 (dk_at dksX9_person_2 13 rfl rfl)
theorem dX9_person_87 : decode cX9_person 87 = .ok (.iload_n 1, 1) := dk_27 (dk_at dksX9_person_2 15 rfl rfl)
theorem dX9_person_88 : decode cX9_person 88 = .ok (.iadd, 1) := dk_96 (dk_at dksX9_person_2 16 rfl rfl)
theorem dX9_person_89 : decode cX9_person 89 = .ok (.iaload, 1) := dk_46 (dk_at dksX9_person_2 17 rfl rfl)
theorem dX9_person_90 : decode cX9_person 90 = .ok (.ireturn, 1) := dk_172 (dk_at dksX9_person_2 18 rfl rfl)
theorem dX9_person_91 : decode cX9_person 91 = .ok (.aload_n 0, 1) := dk_42 (dk_at dksX9_person_2 19 rfl rfl)
theorem dX9_person_92 : decode cX9_person 92 = .ok (.iload_n 1, 1) := dk_27 (dk_at dksX9_person_2 20 rfl rfl)
theorem dX9_person_93 : decode cX9_person 93 = .ok (.invokevirtual 244, 3) := dk_182 0 244 (dk_at dksX9_person_2 21 rfl rfl)
theorem dX9_person_96 : decode cX9_person 96 = .ok (.ifCond .eq 7, 3) := dk_153 0 7 (dk_at dksX9_person_3 0 rfl rfl)
theorem dX9_person_99 : decode cX9_person 99 = .ok (.iconst 1, 1) := dk_4 (dk_at dksX9_person_3 3 rfl rfl)
theorem dX9_person_100 : decode cX9_person 100 = .ok (.goto 4, 3) := dk_167 0 4 (dk_at dksX9_person_3 4 rfl rfl)
theorem dX9_person_103 : decode cX9_person 103 = .ok (.iconst 0, 1) := dk_3 (dk_at dksX9_person_3 7 rfl rfl)
theorem dX9_person_104 : decode cX9_person 104 = .ok (.ireturn, 1) := dk_172 (dk_at dksX9_person_3 8 rfl rfl)
theorem dX9_person_105 : decode cX9_person 105 = .ok (.aload_n 0, 1) := dk_42 (dk_at dksX9_person_3 9 rfl rfl)
theorem dX9_person_106 : decode cX9_person 106 = .ok (.getfield 13, 3) := dk_180 0 13 (dk_at dksX9_person_3 10 rfl rfl)
theorem dX9_person_109 : decode cX9_person 109 = .ok (.bipush 74, 2) := dk_16 74 (dk_at dksX9_person_3 13 rfl rfl)
theorem dX9_person_111 : decode cX9_person 111 = .ok (.iaload, 1) := dk_46 (dk_at dksX9_person_3 15 rfl rfl)
theorem dX9_person_112 : decode cX9_person 112 = .ok (.iload_n 1, 1) := dk_27 (dk_at dksX9_person_3 16 rfl rfl)
theorem dX9_person_113 : decode cX9_person 113 = .ok (.invokestatic 231, 3) := dk_184 0 231 (dk_at dksX9_person_3 17 rfl rfl)
theorem dX9_person_116 : decode cX9_person 116 = .ok (.ifCond .eq 7, 3) := dk_153 0 7 (dk_at dksX9_person_3 20 rfl rfl)
theorem dX9_person_119 : decode cX9_person 119 = .ok (.iconst 1, 1) := dk_4 (dk_at dksX9_person_3 23 rfl rfl)
theorem dX9_person_120 : decode cX9_person 120 = .ok (.goto 4, 3) := dk_167 0 4 (dk_at dksX9_person_4 0 rfl rfl)
theorem dX9_person_123 : decode cX9_person 123 = .ok (.iconst 0, 1) := dk_3 (dk_at dksX9_person_4 3 rfl rfl)
theorem dX9_person_124 : decode cX9_person 124 = .ok (.ireturn, 1) := dk_172 (dk_at dksX9_person_4 4 rfl rfl)
theorem dX9_person_125 : decode cX9_person 125 = .ok (.aload_n 0, 1) := dk_42 (dk_at dksX9_person_4 5 rfl rfl)
theorem dX9_person_126 : decode cX9_person 126 = .ok (.getfield 13, 3) := dk_180 0 13 (dk_at dksX9_person_4 6 rfl rfl)
theorem dX9_person_129 : decode cX9_person 129 = .ok (.bipush 84, 2) := dk_16 84 (dk_at dksX9_person_4 9 rfl rfl)
theorem dX9_person_131 : decode cX9_person 131 = .ok (.iload_n 1, 1) := dk_27 (dk_at dksX9_person_4 11 rfl rfl)
theorem dX9_person_132 : decode cX9_person 132 = .ok (.iadd, 1) := dk_96 (dk_at dksX9_person_4 12 rfl rfl)
theorem dX9_person_133 : decode cX9_person 133 = .ok (.iaload, 1) := dk_46 (dk_at dksX9_person_4 13 rfl rfl)
theorem dX9_person_134 : decode cX9_person 134 = .ok (.ireturn, 1) := dk_172 (dk_at dksX9_person_4 14 rfl rfl)
theorem dX9_person_135 : decode cX9_person 135 = .ok (.aload_n 0, 1) := dk_42 (dk_at dksX9_person_4 15 rfl rfl)
theorem dX9_person_136 : decode cX9_person 136 = .ok (.getfield 13, 3) := dk_180 0 13 (dk_at dksX9_person_4 16 rfl rfl)
theorem dX9_person_139 : decode cX9_person 139 = .ok (.bipush 91, 2) := dk_16 91 (dk_at dksX9_person_4 19 rfl rfl)
theorem dX9_person_141 : decode cX9_person 141 = .ok (.iload_n 1, 1) := dk_27 (dk_at dksX9_person_4 21 rfl rfl)
theorem dX9_person_142 : decode cX9_person 142 = .ok (.iadd, 1) := dk_96 (dk_at dksX9_person_4 22 rfl rfl)
theorem dX9_person_143 : decode cX9_person 143 = .ok (.iaload, 1) := dk_46 (dk_at dksX9_person_4 23 rfl rfl)
theorem dX9_person_144 : decode cX9_person 144 = .ok (.ireturn, 1) := dk_172 (dk_at dksX9_person_5 0 rfl rfl)
theorem dX9_person_145 : decode cX9_person 145 = .ok (.aload_n 0, 1) := dk_42 (dk_at dksX9_person_5 1 rfl rfl)
theorem dX9_person_146 : decode cX9_person 146 = .ok (.getfield 13, 3) := dk_180 0 13 (dk_at dksX9_person_5 2 rfl rfl)
theorem dX9_person_149 : decode cX9_person 149 = .ok (.bipush 98, 2) := dk_16 98 (dk_at dksX9_person_5 5 rfl rfl)
theorem dX9_person_151 : decode cX9_person 151 = .ok (.iload_n 1, 1) := dk_27 (dk_at dksX9_person_5 7 rfl rfl)
theorem dX9_person_152 : decode cX9_person 152 = .ok (.iadd, 1) := dk_96 (dk_at dksX9_person_5 8 rfl rfl)
theorem dX9_person_153 : decode cX9_person 153 = .ok (.iaload, 1) := dk_46 (dk_at dksX9_person_5 9 rfl rfl)
theorem dX9_person_154 : decode cX9_person 154 = .ok (.ireturn, 1) := dk_172 (dk_at dksX9_person_5 10 rfl rfl)
theorem dX9_person_155 : decode cX9_person 155 = .ok (.aload_n 0, 1) := dk_42 (dk_at dksX9_person_5 11 rfl rfl)
theorem dX9_person_156 : decode cX9_person 156 = .ok (.iload_n 1, 1) := dk_27 (dk_at dksX9_person_5 12 rfl rfl)
theorem dX9_person_157 : decode cX9_person 157 = .ok (.invokevirtual 247, 3) := dk_182 0 247 (dk_at dksX9_person_5 13 rfl rfl)
theorem dX9_person_160 : decode cX9_person 160 = .ok (.ireturn, 1) := dk_172 (dk_at dksX9_person_5 16 rfl rfl)
theorem dX9_person_161 : decode cX9_person 161 = .ok (.iconst 0, 1) := dk_3 (dk_at dksX9_person_5 17 rfl rfl)
theorem dX9_person_162 : decode cX9_person 162 = .ok (.istore 4, 2) := dk_54 4 (dk_at dksX9_person_5 18 rfl rfl)
theorem dX9_person_164 : decode cX9_person 164 = .ok (.iload 4, 2) := dk_21 4 (dk_at dksX9_person_5 20 rfl rfl)
theorem dX9_person_166 : decode cX9_person 166 = .ok (.aload_n 0, 1) := dk_42 (dk_at dksX9_person_5 22 rfl rfl)
theorem dX9_person_167 : decode cX9_person 167 = .ok (.getfield 13, 3) := dk_180 0 13 (dk_at dksX9_person_6 0 rfl rfl)
theorem dX9_person_170 : decode cX9_person 170 = .ok (.iconst 0, 1) := dk_3 (dk_at dksX9_person_6 3 rfl rfl)
theorem dX9_person_171 : decode cX9_person 171 = .ok (.iaload, 1) := dk_46 (dk_at dksX9_person_6 4 rfl rfl)
theorem dX9_person_172 : decode cX9_person 172 = .ok (.if_icmp .ge 30, 3) := dk_162 0 30 (dk_at dksX9_person_6 5 rfl rfl)
theorem dX9_person_175 : decode cX9_person 175 = .ok (.aload_n 0, 1) := dk_42 (dk_at dksX9_person_6 8 rfl rfl)
theorem dX9_person_176 : decode cX9_person 176 = .ok (.getfield 13, 3) := dk_180 0 13 (dk_at dksX9_person_6 9 rfl rfl)
theorem dX9_person_179 : decode cX9_person 179 = .ok (.bipush 11, 2) := dk_16 11 (dk_at dksX9_person_6 12 rfl rfl)
theorem dX9_person_181 : decode cX9_person 181 = .ok (.iload 4, 2) := dk_21 4 (dk_at dksX9_person_6 14 rfl rfl)
theorem dX9_person_183 : decode cX9_person 183 = .ok (.iadd, 1) := dk_96 (dk_at dksX9_person_6 16 rfl rfl)
theorem dX9_person_184 : decode cX9_person 184 = .ok (.iaload, 1) := dk_46 (dk_at dksX9_person_6 17 rfl rfl)
theorem dX9_person_185 : decode cX9_person 185 = .ok (.iload_n 1, 1) := dk_27 (dk_at dksX9_person_6 18 rfl rfl)
theorem dX9_person_186 : decode cX9_person 186 = .ok (.if_icmp .ne 10, 3) := dk_160 0 10 (dk_at dksX9_person_6 19 rfl rfl)
theorem dX9_person_189 : decode cX9_person 189 = .ok (.iload_n 3, 1) := dk_29 (dk_at dksX9_person_6 22 rfl rfl)
theorem dX9_person_190 : decode cX9_person 190 = .ok (.iconst 1, 1) := dk_4 (dk_at dksX9_person_6 23 rfl rfl)
theorem dX9_person_191 : decode cX9_person 191 = .ok (.iload 4, 2) := dk_21 4 (dk_at dksX9_person_7 0 rfl rfl)
theorem dX9_person_193 : decode cX9_person 193 = .ok (.ishl, 1) := dk_120 (dk_at dksX9_person_7 2 rfl rfl)
theorem dX9_person_194 : decode cX9_person 194 = .ok (.ior, 1) := dk_128 (dk_at dksX9_person_7 3 rfl rfl)
theorem dX9_person_195 : decode cX9_person 195 = .ok (.istore_n 3, 1) := dk_62 (dk_at dksX9_person_7 4 rfl rfl)
theorem dX9_person_196 : decode cX9_person 196 = .ok (.iinc 4 1, 3) := dk_132 4 1 (dk_at dksX9_person_7 5 rfl rfl)
theorem dX9_person_199 : decode cX9_person 199 = .ok (.goto (-35), 3) := dk_167 255 221 (dk_at dksX9_person_7 8 rfl rfl)
theorem dX9_person_202 : decode cX9_person 202 = .ok (.iload_n 3, 1) := dk_29 (dk_at dksX9_person_7 11 rfl rfl)
theorem dX9_person_203 : decode cX9_person 203 = .ok (.ireturn, 1) := dk_172 (dk_at dksX9_person_7 12 rfl rfl)
theorem dX9_person_204 : decode cX9_person 204 = .ok (.aload_n 0, 1) := dk_42 (dk_at dksX9_person_7 13 rfl rfl)
theorem dX9_person_205 : decode cX9_person 205 = .ok (.invokevirtual 241, 3) := dk_182 0 241 (dk_at dksX9_person_7 14 rfl rfl)
theorem dX9_person_208 : decode cX9_person 208 = .ok (.ireturn, 1) := dk_172 (dk_at dksX9_person_7 17 rfl rfl)
abbrev cX9_isPerson : ByteArray := prog_25_method_41_code
def yX9_isPerson : MethodName := ⟨RX9, "isPerson", "(I)Z"⟩
def dkwX9_isPerson_0 : List UInt8 := [27, 3, 42, 180, 0, 13, 3, 46, 4, 100, 184, 0, 149, 172]
abbrev dktX9_isPerson_0 : List UInt8 := dkwX9_isPerson_0 ++ []
theorem dksX9_isPerson_0 : cX9_isPerson.data.toList.drop 0 = dktX9_isPerson_0 := by decide +kernel
theorem dX9_isPerson_0 : decode cX9_isPerson 0 = .ok (.iload_n 1, 1) := dk_27 (dk_at dksX9_isPerson_0 0 rfl rfl)
theorem dX9_isPerson_1 : decode cX9_isPerson 1 = .ok (.iconst 0, 1) := dk_3 (dk_at dksX9_isPerson_0 1 rfl rfl)
theorem dX9_isPerson_2 : decode cX9_isPerson 2 = .ok (.aload_n 0, 1) := dk_42 (dk_at dksX9_isPerson_0 2 rfl rfl)
theorem dX9_isPerson_3 : decode cX9_isPerson 3 = .ok (.getfield 13, 3) := dk_180 0 13 (dk_at dksX9_isPerson_0 3 rfl rfl)
theorem dX9_isPerson_6 : decode cX9_isPerson 6 = .ok (.iconst 0, 1) := dk_3 (dk_at dksX9_isPerson_0 6 rfl rfl)
theorem dX9_isPerson_7 : decode cX9_isPerson 7 = .ok (.iaload, 1) := dk_46 (dk_at dksX9_isPerson_0 7 rfl rfl)
theorem dX9_isPerson_8 : decode cX9_isPerson 8 = .ok (.iconst 1, 1) := dk_4 (dk_at dksX9_isPerson_0 8 rfl rfl)
theorem dX9_isPerson_9 : decode cX9_isPerson 9 = .ok (.isub, 1) := dk_100 (dk_at dksX9_isPerson_0 9 rfl rfl)
theorem dX9_isPerson_10 : decode cX9_isPerson 10 = .ok (.invokestatic 149, 3) := dk_184 0 149 (dk_at dksX9_isPerson_0 10 rfl rfl)
theorem dX9_isPerson_13 : decode cX9_isPerson 13 = .ok (.ireturn, 1) := dk_172 (dk_at dksX9_isPerson_0 13 rfl rfl)
abbrev cX9_refuse : ByteArray := prog_25_method_3_code
def yX9_refuse : MethodName := ⟨RX9, "refuse", "()I"⟩
def dkwX9_refuse_0 : List UInt8 := [42, 4, 181, 0, 82, 3, 172]
abbrev dktX9_refuse_0 : List UInt8 := dkwX9_refuse_0 ++ []
theorem dksX9_refuse_0 : cX9_refuse.data.toList.drop 0 = dktX9_refuse_0 := by decide +kernel
theorem dX9_refuse_0 : decode cX9_refuse 0 = .ok (.aload_n 0, 1) := dk_42 (dk_at dksX9_refuse_0 0 rfl rfl)
theorem dX9_refuse_1 : decode cX9_refuse 1 = .ok (.iconst 1, 1) := dk_4 (dk_at dksX9_refuse_0 1 rfl rfl)
theorem dX9_refuse_2 : decode cX9_refuse 2 = .ok (.putfield 82, 3) := dk_181 0 82 (dk_at dksX9_refuse_0 2 rfl rfl)
theorem dX9_refuse_5 : decode cX9_refuse 5 = .ok (.iconst 0, 1) := dk_3 (dk_at dksX9_refuse_0 5 rfl rfl)
theorem dX9_refuse_6 : decode cX9_refuse 6 = .ok (.ireturn, 1) := dk_172 (dk_at dksX9_refuse_0 6 rfl rfl)
abbrev cX9_isDead : ByteArray := prog_25_method_43_code
def yX9_isDead : MethodName := ⟨RX9, "isDead", "(I)Z"⟩
def dkwX9_isDead_0 : List UInt8 := [42, 180, 0, 13, 16, 73, 46, 27, 184, 0, 231, 172]
abbrev dktX9_isDead_0 : List UInt8 := dkwX9_isDead_0 ++ []
theorem dksX9_isDead_0 : cX9_isDead.data.toList.drop 0 = dktX9_isDead_0 := by decide +kernel
theorem dX9_isDead_0 : decode cX9_isDead 0 = .ok (.aload_n 0, 1) := dk_42 (dk_at dksX9_isDead_0 0 rfl rfl)
theorem dX9_isDead_1 : decode cX9_isDead 1 = .ok (.getfield 13, 3) := dk_180 0 13 (dk_at dksX9_isDead_0 1 rfl rfl)
theorem dX9_isDead_4 : decode cX9_isDead 4 = .ok (.bipush 73, 2) := dk_16 73 (dk_at dksX9_isDead_0 4 rfl rfl)
theorem dX9_isDead_6 : decode cX9_isDead 6 = .ok (.iaload, 1) := dk_46 (dk_at dksX9_isDead_0 6 rfl rfl)
theorem dX9_isDead_7 : decode cX9_isDead 7 = .ok (.iload_n 1, 1) := dk_27 (dk_at dksX9_isDead_0 7 rfl rfl)
theorem dX9_isDead_8 : decode cX9_isDead 8 = .ok (.invokestatic 231, 3) := dk_184 0 231 (dk_at dksX9_isDead_0 8 rfl rfl)
theorem dX9_isDead_11 : decode cX9_isDead 11 = .ok (.ireturn, 1) := dk_172 (dk_at dksX9_isDead_0 11 rfl rfl)
abbrev cX9_has : ByteArray := prog_25_method_9_code
def yX9_has : MethodName := ⟨RX9, "has", "(II)Z"⟩
def dkwX9_has_0 : List UInt8 := [26, 27, 122, 4, 126, 4, 160, 0, 7, 4, 167, 0, 4, 3, 172]
abbrev dktX9_has_0 : List UInt8 := dkwX9_has_0 ++ []
theorem dksX9_has_0 : cX9_has.data.toList.drop 0 = dktX9_has_0 := by decide +kernel
theorem dX9_has_0 : decode cX9_has 0 = .ok (.iload_n 0, 1) := dk_26 (dk_at dksX9_has_0 0 rfl rfl)
theorem dX9_has_1 : decode cX9_has 1 = .ok (.iload_n 1, 1) := dk_27 (dk_at dksX9_has_0 1 rfl rfl)
theorem dX9_has_2 : decode cX9_has 2 = .ok (.ishr, 1) := dk_122 (dk_at dksX9_has_0 2 rfl rfl)
theorem dX9_has_3 : decode cX9_has 3 = .ok (.iconst 1, 1) := dk_4 (dk_at dksX9_has_0 3 rfl rfl)
theorem dX9_has_4 : decode cX9_has 4 = .ok (.iand, 1) := dk_126 (dk_at dksX9_has_0 4 rfl rfl)
theorem dX9_has_5 : decode cX9_has 5 = .ok (.iconst 1, 1) := dk_4 (dk_at dksX9_has_0 5 rfl rfl)
theorem dX9_has_6 : decode cX9_has 6 = .ok (.if_icmp .ne 7, 3) := dk_160 0 7 (dk_at dksX9_has_0 6 rfl rfl)
theorem dX9_has_9 : decode cX9_has 9 = .ok (.iconst 1, 1) := dk_4 (dk_at dksX9_has_0 9 rfl rfl)
theorem dX9_has_10 : decode cX9_has 10 = .ok (.goto 4, 3) := dk_167 0 4 (dk_at dksX9_has_0 10 rfl rfl)
theorem dX9_has_13 : decode cX9_has 13 = .ok (.iconst 0, 1) := dk_3 (dk_at dksX9_has_0 13 rfl rfl)
theorem dX9_has_14 : decode cX9_has 14 = .ok (.ireturn, 1) := dk_172 (dk_at dksX9_has_0 14 rfl rfl)
abbrev cX9_plateOf : ByteArray := prog_25_method_45_code
def yX9_plateOf : MethodName := ⟨RX9, "plateOf", "(I)I"⟩
def dkwX9_plateOf_1 : List UInt8 := [167, 255, 238, 28, 172]
abbrev dktX9_plateOf_1 : List UInt8 := dkwX9_plateOf_1 ++ []
def dkwX9_plateOf_0 : List UInt8 := [3, 61, 3, 62, 29, 16, 6, 162, 0, 18, 28, 42, 27, 29, 182, 0, 234, 96, 61, 132, 3, 1]
abbrev dktX9_plateOf_0 : List UInt8 := dkwX9_plateOf_0 ++ dktX9_plateOf_1
theorem dksX9_plateOf_0 : cX9_plateOf.data.toList.drop 0 = dktX9_plateOf_0 := by decide +kernel
theorem dksX9_plateOf_1 : cX9_plateOf.data.toList.drop 22 = dktX9_plateOf_1 := dk_seg dksX9_plateOf_0 22 rfl rfl
theorem dX9_plateOf_0 : decode cX9_plateOf 0 = .ok (.iconst 0, 1) := dk_3 (dk_at dksX9_plateOf_0 0 rfl rfl)
theorem dX9_plateOf_1 : decode cX9_plateOf 1 = .ok (.istore_n 2, 1) := dk_61 (dk_at dksX9_plateOf_0 1 rfl rfl)
theorem dX9_plateOf_2 : decode cX9_plateOf 2 = .ok (.iconst 0, 1) := dk_3 (dk_at dksX9_plateOf_0 2 rfl rfl)
theorem dX9_plateOf_3 : decode cX9_plateOf 3 = .ok (.istore_n 3, 1) := dk_62 (dk_at dksX9_plateOf_0 3 rfl rfl)
theorem dX9_plateOf_4 : decode cX9_plateOf 4 = .ok (.iload_n 3, 1) := dk_29 (dk_at dksX9_plateOf_0 4 rfl rfl)
theorem dX9_plateOf_5 : decode cX9_plateOf 5 = .ok (.bipush 6, 2) := dk_16 6 (dk_at dksX9_plateOf_0 5 rfl rfl)
theorem dX9_plateOf_7 : decode cX9_plateOf 7 = .ok (.if_icmp .ge 18, 3) := dk_162 0 18 (dk_at dksX9_plateOf_0 7 rfl rfl)
theorem dX9_plateOf_10 : decode cX9_plateOf 10 = .ok (.iload_n 2, 1) := dk_28 (dk_at dksX9_plateOf_0 10 rfl rfl)
theorem dX9_plateOf_11 : decode cX9_plateOf 11 = .ok (.aload_n 0, 1) := dk_42 (dk_at dksX9_plateOf_0 11 rfl rfl)
theorem dX9_plateOf_12 : decode cX9_plateOf 12 = .ok (.iload_n 1, 1) := dk_27 (dk_at dksX9_plateOf_0 12 rfl rfl)
theorem dX9_plateOf_13 : decode cX9_plateOf 13 = .ok (.iload_n 3, 1) := dk_29 (dk_at dksX9_plateOf_0 13 rfl rfl)
theorem dX9_plateOf_14 : decode cX9_plateOf 14 = .ok (.invokevirtual 234, 3) := dk_182 0 234 (dk_at dksX9_plateOf_0 14 rfl rfl)
theorem dX9_plateOf_17 : decode cX9_plateOf 17 = .ok (.iadd, 1) := dk_96 (dk_at dksX9_plateOf_0 17 rfl rfl)
theorem dX9_plateOf_18 : decode cX9_plateOf 18 = .ok (.istore_n 2, 1) := dk_61 (dk_at dksX9_plateOf_0 18 rfl rfl)
theorem dX9_plateOf_19 : decode cX9_plateOf 19 = .ok (.iinc 3 1, 3) := dk_132 3 1 (dk_at dksX9_plateOf_0 19 rfl rfl)
theorem dX9_plateOf_22 : decode cX9_plateOf 22 = .ok (.goto (-18), 3) := dk_167 255 238 (dk_at dksX9_plateOf_1 0 rfl rfl)
theorem dX9_plateOf_25 : decode cX9_plateOf 25 = .ok (.iload_n 2, 1) := dk_28 (dk_at dksX9_plateOf_1 3 rfl rfl)
theorem dX9_plateOf_26 : decode cX9_plateOf 26 = .ok (.ireturn, 1) := dk_172 (dk_at dksX9_plateOf_1 4 rfl rfl)
abbrev cX9_onPlate : ByteArray := prog_25_method_44_code
def yX9_onPlate : MethodName := ⟨RX9, "onPlate", "(II)I"⟩
def dkwX9_onPlate_0 : List UInt8 := [42, 180, 0, 13, 16, 105, 16, 6, 27, 104, 96, 28, 96, 46, 172]
abbrev dktX9_onPlate_0 : List UInt8 := dkwX9_onPlate_0 ++ []
theorem dksX9_onPlate_0 : cX9_onPlate.data.toList.drop 0 = dktX9_onPlate_0 := by decide +kernel
theorem dX9_onPlate_0 : decode cX9_onPlate 0 = .ok (.aload_n 0, 1) := dk_42 (dk_at dksX9_onPlate_0 0 rfl rfl)
theorem dX9_onPlate_1 : decode cX9_onPlate 1 = .ok (.getfield 13, 3) := dk_180 0 13 (dk_at dksX9_onPlate_0 1 rfl rfl)
theorem dX9_onPlate_4 : decode cX9_onPlate 4 = .ok (.bipush 105, 2) := dk_16 105 (dk_at dksX9_onPlate_0 4 rfl rfl)
theorem dX9_onPlate_6 : decode cX9_onPlate 6 = .ok (.bipush 6, 2) := dk_16 6 (dk_at dksX9_onPlate_0 6 rfl rfl)
theorem dX9_onPlate_8 : decode cX9_onPlate 8 = .ok (.iload_n 1, 1) := dk_27 (dk_at dksX9_onPlate_0 8 rfl rfl)
theorem dX9_onPlate_9 : decode cX9_onPlate 9 = .ok (.imul, 1) := dk_104 (dk_at dksX9_onPlate_0 9 rfl rfl)
theorem dX9_onPlate_10 : decode cX9_onPlate 10 = .ok (.iadd, 1) := dk_96 (dk_at dksX9_onPlate_0 10 rfl rfl)
theorem dX9_onPlate_11 : decode cX9_onPlate 11 = .ok (.iload_n 2, 1) := dk_28 (dk_at dksX9_onPlate_0 11 rfl rfl)
theorem dX9_onPlate_12 : decode cX9_onPlate 12 = .ok (.iadd, 1) := dk_96 (dk_at dksX9_onPlate_0 12 rfl rfl)
theorem dX9_onPlate_13 : decode cX9_onPlate 13 = .ok (.iaload, 1) := dk_46 (dk_at dksX9_onPlate_0 13 rfl rfl)
theorem dX9_onPlate_14 : decode cX9_onPlate 14 = .ok (.ireturn, 1) := dk_172 (dk_at dksX9_onPlate_0 14 rfl rfl)
abbrev cX9_plate : ByteArray := prog_25_method_48_code
def yX9_plate : MethodName := ⟨RX9, "plate", "(II)I"⟩
def dkwX9_plate_1 : List UInt8 := [182, 0, 234, 167, 0, 4, 2, 172]
abbrev dktX9_plate_1 : List UInt8 := dkwX9_plate_1 ++ []
def dkwX9_plate_0 : List UInt8 := [42, 3, 181, 0, 82, 42, 27, 182, 0, 238, 153, 0, 20, 42, 28, 182, 0, 250, 153, 0, 12, 42, 27, 28]
abbrev dktX9_plate_0 : List UInt8 := dkwX9_plate_0 ++ dktX9_plate_1
theorem dksX9_plate_0 : cX9_plate.data.toList.drop 0 = dktX9_plate_0 := by decide +kernel
theorem dksX9_plate_1 : cX9_plate.data.toList.drop 24 = dktX9_plate_1 := dk_seg dksX9_plate_0 24 rfl rfl
theorem dX9_plate_0 : decode cX9_plate 0 = .ok (.aload_n 0, 1) := dk_42 (dk_at dksX9_plate_0 0 rfl rfl)
theorem dX9_plate_1 : decode cX9_plate 1 = .ok (.iconst 0, 1) := dk_3 (dk_at dksX9_plate_0 1 rfl rfl)
theorem dX9_plate_2 : decode cX9_plate 2 = .ok (.putfield 82, 3) := dk_181 0 82 (dk_at dksX9_plate_0 2 rfl rfl)
theorem dX9_plate_5 : decode cX9_plate 5 = .ok (.aload_n 0, 1) := dk_42 (dk_at dksX9_plate_0 5 rfl rfl)
theorem dX9_plate_6 : decode cX9_plate 6 = .ok (.iload_n 1, 1) := dk_27 (dk_at dksX9_plate_0 6 rfl rfl)
theorem dX9_plate_7 : decode cX9_plate 7 = .ok (.invokevirtual 238, 3) := dk_182 0 238 (dk_at dksX9_plate_0 7 rfl rfl)
theorem dX9_plate_10 : decode cX9_plate 10 = .ok (.ifCond .eq 20, 3) := dk_153 0 20 (dk_at dksX9_plate_0 10 rfl rfl)
theorem dX9_plate_13 : decode cX9_plate 13 = .ok (.aload_n 0, 1) := dk_42 (dk_at dksX9_plate_0 13 rfl rfl)
theorem dX9_plate_14 : decode cX9_plate 14 = .ok (.iload_n 2, 1) := dk_28 (dk_at dksX9_plate_0 14 rfl rfl)
theorem dX9_plate_15 : decode cX9_plate 15 = .ok (.invokevirtual 250, 3) := dk_182 0 250 (dk_at dksX9_plate_0 15 rfl rfl)
theorem dX9_plate_18 : decode cX9_plate 18 = .ok (.ifCond .eq 12, 3) := dk_153 0 12 (dk_at dksX9_plate_0 18 rfl rfl)
theorem dX9_plate_21 : decode cX9_plate 21 = .ok (.aload_n 0, 1) := dk_42 (dk_at dksX9_plate_0 21 rfl rfl)
theorem dX9_plate_22 : decode cX9_plate 22 = .ok (.iload_n 1, 1) := dk_27 (dk_at dksX9_plate_0 22 rfl rfl)
theorem dX9_plate_23 : decode cX9_plate 23 = .ok (.iload_n 2, 1) := dk_28 (dk_at dksX9_plate_0 23 rfl rfl)
theorem dX9_plate_24 : decode cX9_plate 24 = .ok (.invokevirtual 234, 3) := dk_182 0 234 (dk_at dksX9_plate_1 0 rfl rfl)
theorem dX9_plate_27 : decode cX9_plate 27 = .ok (.goto 4, 3) := dk_167 0 4 (dk_at dksX9_plate_1 3 rfl rfl)
theorem dX9_plate_30 : decode cX9_plate 30 = .ok (.iconst (-1), 1) := dk_2 (dk_at dksX9_plate_1 6 rfl rfl)
theorem dX9_plate_31 : decode cX9_plate 31 = .ok (.ireturn, 1) := dk_172 (dk_at dksX9_plate_1 7 rfl rfl)
abbrev cX9_isDish : ByteArray := prog_25_method_42_code
def yX9_isDish : MethodName := ⟨RX9, "isDish", "(I)Z"⟩
def dkwX9_isDish_0 : List UInt8 := [27, 3, 42, 180, 0, 13, 4, 46, 4, 100, 184, 0, 149, 172]
abbrev dktX9_isDish_0 : List UInt8 := dkwX9_isDish_0 ++ []
theorem dksX9_isDish_0 : cX9_isDish.data.toList.drop 0 = dktX9_isDish_0 := by decide +kernel
theorem dX9_isDish_0 : decode cX9_isDish 0 = .ok (.iload_n 1, 1) := dk_27 (dk_at dksX9_isDish_0 0 rfl rfl)
theorem dX9_isDish_1 : decode cX9_isDish 1 = .ok (.iconst 0, 1) := dk_3 (dk_at dksX9_isDish_0 1 rfl rfl)
theorem dX9_isDish_2 : decode cX9_isDish 2 = .ok (.aload_n 0, 1) := dk_42 (dk_at dksX9_isDish_0 2 rfl rfl)
theorem dX9_isDish_3 : decode cX9_isDish 3 = .ok (.getfield 13, 3) := dk_180 0 13 (dk_at dksX9_isDish_0 3 rfl rfl)
theorem dX9_isDish_6 : decode cX9_isDish 6 = .ok (.iconst 1, 1) := dk_4 (dk_at dksX9_isDish_0 6 rfl rfl)
theorem dX9_isDish_7 : decode cX9_isDish 7 = .ok (.iaload, 1) := dk_46 (dk_at dksX9_isDish_0 7 rfl rfl)
theorem dX9_isDish_8 : decode cX9_isDish 8 = .ok (.iconst 1, 1) := dk_4 (dk_at dksX9_isDish_0 8 rfl rfl)
theorem dX9_isDish_9 : decode cX9_isDish 9 = .ok (.isub, 1) := dk_100 (dk_at dksX9_isDish_0 9 rfl rfl)
theorem dX9_isDish_10 : decode cX9_isDish 10 = .ok (.invokestatic 149, 3) := dk_184 0 149 (dk_at dksX9_isDish_0 10 rfl rfl)
theorem dX9_isDish_13 : decode cX9_isDish 13 = .ok (.ireturn, 1) := dk_172 (dk_at dksX9_isDish_0 13 rfl rfl)
abbrev cX9_dish : ByteArray := prog_25_method_49_code
def yX9_dish : MethodName := ⟨RX9, "dish", "(II)I"⟩
def dkwX9_dish_4 : List UInt8 := [167, 255, 232, 29, 172, 2, 172]
abbrev dktX9_dish_4 : List UInt8 := dkwX9_dish_4 ++ []
def dkwX9_dish_3 : List UInt8 := [21, 4, 42, 180, 0, 13, 3, 46, 162, 0, 19, 29, 42, 21, 4, 27, 182, 0, 234, 96, 62, 132, 4, 1]
abbrev dktX9_dish_3 : List UInt8 := dkwX9_dish_3 ++ dktX9_dish_4
def dkwX9_dish_2 : List UInt8 := [42, 180, 0, 13, 16, 78, 27, 96, 46, 172, 42, 180, 0, 13, 16, 24, 27, 96, 46, 172, 3, 54, 4]
abbrev dktX9_dish_2 : List UInt8 := dkwX9_dish_2 ++ dktX9_dish_3
def dkwX9_dish_1 : List UInt8 := [170, 0, 0, 0, 0, 78, 0, 0, 0, 0, 0, 0, 0, 2, 0, 0, 0, 26, 0, 0, 0, 36, 0, 0, 0, 46]
abbrev dktX9_dish_1 : List UInt8 := dkwX9_dish_1 ++ dktX9_dish_2
def dkwX9_dish_0 : List UInt8 := [42, 3, 181, 0, 82, 42, 27, 182, 0, 250, 154, 0, 5, 2, 172, 3, 62, 28]
abbrev dktX9_dish_0 : List UInt8 := dkwX9_dish_0 ++ dktX9_dish_1
theorem dksX9_dish_0 : cX9_dish.data.toList.drop 0 = dktX9_dish_0 := by decide +kernel
theorem dksX9_dish_1 : cX9_dish.data.toList.drop 18 = dktX9_dish_1 := dk_seg dksX9_dish_0 18 rfl rfl
theorem dksX9_dish_2 : cX9_dish.data.toList.drop 44 = dktX9_dish_2 := dk_seg dksX9_dish_1 26 rfl rfl
theorem dksX9_dish_3 : cX9_dish.data.toList.drop 67 = dktX9_dish_3 := dk_seg dksX9_dish_2 23 rfl rfl
theorem dksX9_dish_4 : cX9_dish.data.toList.drop 91 = dktX9_dish_4 := dk_seg dksX9_dish_3 24 rfl rfl
theorem dX9_dish_0 : decode cX9_dish 0 = .ok (.aload_n 0, 1) := dk_42 (dk_at dksX9_dish_0 0 rfl rfl)
theorem dX9_dish_1 : decode cX9_dish 1 = .ok (.iconst 0, 1) := dk_3 (dk_at dksX9_dish_0 1 rfl rfl)
theorem dX9_dish_2 : decode cX9_dish 2 = .ok (.putfield 82, 3) := dk_181 0 82 (dk_at dksX9_dish_0 2 rfl rfl)
theorem dX9_dish_5 : decode cX9_dish 5 = .ok (.aload_n 0, 1) := dk_42 (dk_at dksX9_dish_0 5 rfl rfl)
theorem dX9_dish_6 : decode cX9_dish 6 = .ok (.iload_n 1, 1) := dk_27 (dk_at dksX9_dish_0 6 rfl rfl)
theorem dX9_dish_7 : decode cX9_dish 7 = .ok (.invokevirtual 250, 3) := dk_182 0 250 (dk_at dksX9_dish_0 7 rfl rfl)
theorem dX9_dish_10 : decode cX9_dish 10 = .ok (.ifCond .ne 5, 3) := dk_154 0 5 (dk_at dksX9_dish_0 10 rfl rfl)
theorem dX9_dish_13 : decode cX9_dish 13 = .ok (.iconst (-1), 1) := dk_2 (dk_at dksX9_dish_0 13 rfl rfl)
theorem dX9_dish_14 : decode cX9_dish 14 = .ok (.ireturn, 1) := dk_172 (dk_at dksX9_dish_0 14 rfl rfl)
theorem dX9_dish_15 : decode cX9_dish 15 = .ok (.iconst 0, 1) := dk_3 (dk_at dksX9_dish_0 15 rfl rfl)
theorem dX9_dish_16 : decode cX9_dish 16 = .ok (.istore_n 3, 1) := dk_62 (dk_at dksX9_dish_0 16 rfl rfl)
theorem dX9_dish_17 : decode cX9_dish 17 = .ok (.iload_n 2, 1) := dk_28 (dk_at dksX9_dish_0 17 rfl rfl)
theorem dX9_dish_18 : decode cX9_dish 18 = .ok (.tableswitch 78 0 2 #[26, 36, 46], 26) := by decide +kernel
theorem dX9_dish_44 : decode cX9_dish 44 = .ok (.aload_n 0, 1) := dk_42 (dk_at dksX9_dish_2 0 rfl rfl)
theorem dX9_dish_45 : decode cX9_dish 45 = .ok (.getfield 13, 3) := dk_180 0 13 (dk_at dksX9_dish_2 1 rfl rfl)
theorem dX9_dish_48 : decode cX9_dish 48 = .ok (.bipush 78, 2) := dk_16 78 (dk_at dksX9_dish_2 4 rfl rfl)
theorem dX9_dish_50 : decode cX9_dish 50 = .ok (.iload_n 1, 1) := dk_27 (dk_at dksX9_dish_2 6 rfl rfl)
theorem dX9_dish_51 : decode cX9_dish 51 = .ok (.iadd, 1) := dk_96 (dk_at dksX9_dish_2 7 rfl rfl)
theorem dX9_dish_52 : decode cX9_dish 52 = .ok (.iaload, 1) := dk_46 (dk_at dksX9_dish_2 8 rfl rfl)
theorem dX9_dish_53 : decode cX9_dish 53 = .ok (.ireturn, 1) := dk_172 (dk_at dksX9_dish_2 9 rfl rfl)
theorem dX9_dish_54 : decode cX9_dish 54 = .ok (.aload_n 0, 1) := dk_42 (dk_at dksX9_dish_2 10 rfl rfl)
theorem dX9_dish_55 : decode cX9_dish 55 = .ok (.getfield 13, 3) := dk_180 0 13 (dk_at dksX9_dish_2 11 rfl rfl)
theorem dX9_dish_58 : decode cX9_dish 58 = .ok (.bipush 24, 2) := dk_16 24 (dk_at dksX9_dish_2 14 rfl rfl)
theorem dX9_dish_60 : decode cX9_dish 60 = .ok (.iload_n 1, 1) := dk_27 (dk_at dksX9_dish_2 16 rfl rfl)
theorem dX9_dish_61 : decode cX9_dish 61 = .ok (.iadd, 1) := dk_96 (dk_at dksX9_dish_2 17 rfl rfl)
theorem dX9_dish_62 : decode cX9_dish 62 = .ok (.iaload, 1) := dk_46 (dk_at dksX9_dish_2 18 rfl rfl)
theorem dX9_dish_63 : decode cX9_dish 63 = .ok (.ireturn, 1) := dk_172 (dk_at dksX9_dish_2 19 rfl rfl)
theorem dX9_dish_64 : decode cX9_dish 64 = .ok (.iconst 0, 1) := dk_3 (dk_at dksX9_dish_2 20 rfl rfl)
theorem dX9_dish_65 : decode cX9_dish 65 = .ok (.istore 4, 2) := dk_54 4 (dk_at dksX9_dish_2 21 rfl rfl)
theorem dX9_dish_67 : decode cX9_dish 67 = .ok (.iload 4, 2) := dk_21 4 (dk_at dksX9_dish_3 0 rfl rfl)
theorem dX9_dish_69 : decode cX9_dish 69 = .ok (.aload_n 0, 1) := dk_42 (dk_at dksX9_dish_3 2 rfl rfl)
theorem dX9_dish_70 : decode cX9_dish 70 = .ok (.getfield 13, 3) := dk_180 0 13 (dk_at dksX9_dish_3 3 rfl rfl)
theorem dX9_dish_73 : decode cX9_dish 73 = .ok (.iconst 0, 1) := dk_3 (dk_at dksX9_dish_3 6 rfl rfl)
theorem dX9_dish_74 : decode cX9_dish 74 = .ok (.iaload, 1) := dk_46 (dk_at dksX9_dish_3 7 rfl rfl)
theorem dX9_dish_75 : decode cX9_dish 75 = .ok (.if_icmp .ge 19, 3) := dk_162 0 19 (dk_at dksX9_dish_3 8 rfl rfl)
theorem dX9_dish_78 : decode cX9_dish 78 = .ok (.iload_n 3, 1) := dk_29 (dk_at dksX9_dish_3 11 rfl rfl)
theorem dX9_dish_79 : decode cX9_dish 79 = .ok (.aload_n 0, 1) := dk_42 (dk_at dksX9_dish_3 12 rfl rfl)
theorem dX9_dish_80 : decode cX9_dish 80 = .ok (.iload 4, 2) := dk_21 4 (dk_at dksX9_dish_3 13 rfl rfl)
theorem dX9_dish_82 : decode cX9_dish 82 = .ok (.iload_n 1, 1) := dk_27 (dk_at dksX9_dish_3 15 rfl rfl)
theorem dX9_dish_83 : decode cX9_dish 83 = .ok (.invokevirtual 234, 3) := dk_182 0 234 (dk_at dksX9_dish_3 16 rfl rfl)
theorem dX9_dish_86 : decode cX9_dish 86 = .ok (.iadd, 1) := dk_96 (dk_at dksX9_dish_3 19 rfl rfl)
theorem dX9_dish_87 : decode cX9_dish 87 = .ok (.istore_n 3, 1) := dk_62 (dk_at dksX9_dish_3 20 rfl rfl)
theorem dX9_dish_88 : decode cX9_dish 88 = .ok (.iinc 4 1, 3) := dk_132 4 1 (dk_at dksX9_dish_3 21 rfl rfl)
theorem dX9_dish_91 : decode cX9_dish 91 = .ok (.goto (-24), 3) := dk_167 255 232 (dk_at dksX9_dish_4 0 rfl rfl)
theorem dX9_dish_94 : decode cX9_dish 94 = .ok (.iload_n 3, 1) := dk_29 (dk_at dksX9_dish_4 3 rfl rfl)
theorem dX9_dish_95 : decode cX9_dish 95 = .ok (.ireturn, 1) := dk_172 (dk_at dksX9_dish_4 4 rfl rfl)
theorem dX9_dish_96 : decode cX9_dish 96 = .ok (.iconst (-1), 1) := dk_2 (dk_at dksX9_dish_4 5 rfl rfl)
theorem dX9_dish_97 : decode cX9_dish 97 = .ok (.ireturn, 1) := dk_172 (dk_at dksX9_dish_4 6 rfl rfl)
abbrev cX9_now : ByteArray := prog_25_method_51_code
def yX9_now : MethodName := ⟨RX9, "now", "(I)I"⟩
def dkwX9_now_4 : List UInt8 := [16, 98, 182, 0, 253, 172, 42, 180, 0, 13, 16, 77, 46, 172, 2, 172]
abbrev dktX9_now_4 : List UInt8 := dkwX9_now_4 ++ []
def dkwX9_now_3 : List UInt8 := [42, 180, 0, 13, 16, 75, 46, 172, 42, 180, 0, 13, 16, 76, 46, 172, 42, 16, 84, 182, 0, 253, 172, 42]
abbrev dktX9_now_3 : List UInt8 := dkwX9_now_3 ++ dktX9_now_4
def dkwX9_now_2 : List UInt8 := [42, 180, 0, 13, 16, 72, 46, 172, 42, 180, 0, 13, 16, 73, 46, 172, 42, 180, 0, 13, 16, 74, 46, 172]
abbrev dktX9_now_2 : List UInt8 := dkwX9_now_2 ++ dktX9_now_3
def dkwX9_now_1 : List UInt8 := [170, 0, 0, 0, 0, 108, 0, 0, 0, 0, 0, 0, 0, 7, 0, 0, 0, 46, 0, 0, 0, 54, 0, 0, 0, 62, 0, 0, 0, 70, 0, 0, 0, 78, 0, 0, 0, 86, 0, 0, 0, 93, 0, 0, 0, 100]
abbrev dktX9_now_1 : List UInt8 := dkwX9_now_1 ++ dktX9_now_2
def dkwX9_now_0 : List UInt8 := [42, 3, 181, 0, 82, 27]
abbrev dktX9_now_0 : List UInt8 := dkwX9_now_0 ++ dktX9_now_1
theorem dksX9_now_0 : cX9_now.data.toList.drop 0 = dktX9_now_0 := by decide +kernel
theorem dksX9_now_1 : cX9_now.data.toList.drop 6 = dktX9_now_1 := dk_seg dksX9_now_0 6 rfl rfl
theorem dksX9_now_2 : cX9_now.data.toList.drop 52 = dktX9_now_2 := dk_seg dksX9_now_1 46 rfl rfl
theorem dksX9_now_3 : cX9_now.data.toList.drop 76 = dktX9_now_3 := dk_seg dksX9_now_2 24 rfl rfl
theorem dksX9_now_4 : cX9_now.data.toList.drop 100 = dktX9_now_4 := dk_seg dksX9_now_3 24 rfl rfl
theorem dX9_now_0 : decode cX9_now 0 = .ok (.aload_n 0, 1) := dk_42 (dk_at dksX9_now_0 0 rfl rfl)
theorem dX9_now_1 : decode cX9_now 1 = .ok (.iconst 0, 1) := dk_3 (dk_at dksX9_now_0 1 rfl rfl)
theorem dX9_now_2 : decode cX9_now 2 = .ok (.putfield 82, 3) := dk_181 0 82 (dk_at dksX9_now_0 2 rfl rfl)
theorem dX9_now_5 : decode cX9_now 5 = .ok (.iload_n 1, 1) := dk_27 (dk_at dksX9_now_0 5 rfl rfl)
theorem dX9_now_6 : decode cX9_now 6 = .ok (.tableswitch 108 0 7 #[46, 54, 62, 70, 78, 86, 93, 100], 46) := by decide +kernel
theorem dX9_now_52 : decode cX9_now 52 = .ok (.aload_n 0, 1) := dk_42 (dk_at dksX9_now_2 0 rfl rfl)
theorem dX9_now_53 : decode cX9_now 53 = .ok (.getfield 13, 3) := dk_180 0 13 (dk_at dksX9_now_2 1 rfl rfl)
theorem dX9_now_56 : decode cX9_now 56 = .ok (.bipush 72, 2) := dk_16 72 (dk_at dksX9_now_2 4 rfl rfl)
theorem dX9_now_58 : decode cX9_now 58 = .ok (.iaload, 1) := dk_46 (dk_at dksX9_now_2 6 rfl rfl)
theorem dX9_now_59 : decode cX9_now 59 = .ok (.ireturn, 1) := dk_172 (dk_at dksX9_now_2 7 rfl rfl)
theorem dX9_now_60 : decode cX9_now 60 = .ok (.aload_n 0, 1) := dk_42 (dk_at dksX9_now_2 8 rfl rfl)
theorem dX9_now_61 : decode cX9_now 61 = .ok (.getfield 13, 3) := dk_180 0 13 (dk_at dksX9_now_2 9 rfl rfl)
theorem dX9_now_64 : decode cX9_now 64 = .ok (.bipush 73, 2) := dk_16 73 (dk_at dksX9_now_2 12 rfl rfl)
theorem dX9_now_66 : decode cX9_now 66 = .ok (.iaload, 1) := dk_46 (dk_at dksX9_now_2 14 rfl rfl)
theorem dX9_now_67 : decode cX9_now 67 = .ok (.ireturn, 1) := dk_172 (dk_at dksX9_now_2 15 rfl rfl)
theorem dX9_now_68 : decode cX9_now 68 = .ok (.aload_n 0, 1) := dk_42 (dk_at dksX9_now_2 16 rfl rfl)
theorem dX9_now_69 : decode cX9_now 69 = .ok (.getfield 13, 3) := dk_180 0 13 (dk_at dksX9_now_2 17 rfl rfl)
theorem dX9_now_72 : decode cX9_now 72 = .ok (.bipush 74, 2) := dk_16 74 (dk_at dksX9_now_2 20 rfl rfl)
theorem dX9_now_74 : decode cX9_now 74 = .ok (.iaload, 1) := dk_46 (dk_at dksX9_now_2 22 rfl rfl)
theorem dX9_now_75 : decode cX9_now 75 = .ok (.ireturn, 1) := dk_172 (dk_at dksX9_now_2 23 rfl rfl)
theorem dX9_now_76 : decode cX9_now 76 = .ok (.aload_n 0, 1) := dk_42 (dk_at dksX9_now_3 0 rfl rfl)
theorem dX9_now_77 : decode cX9_now 77 = .ok (.getfield 13, 3) := dk_180 0 13 (dk_at dksX9_now_3 1 rfl rfl)
theorem dX9_now_80 : decode cX9_now 80 = .ok (.bipush 75, 2) := dk_16 75 (dk_at dksX9_now_3 4 rfl rfl)
theorem dX9_now_82 : decode cX9_now 82 = .ok (.iaload, 1) := dk_46 (dk_at dksX9_now_3 6 rfl rfl)
theorem dX9_now_83 : decode cX9_now 83 = .ok (.ireturn, 1) := dk_172 (dk_at dksX9_now_3 7 rfl rfl)
theorem dX9_now_84 : decode cX9_now 84 = .ok (.aload_n 0, 1) := dk_42 (dk_at dksX9_now_3 8 rfl rfl)
theorem dX9_now_85 : decode cX9_now 85 = .ok (.getfield 13, 3) := dk_180 0 13 (dk_at dksX9_now_3 9 rfl rfl)
theorem dX9_now_88 : decode cX9_now 88 = .ok (.bipush 76, 2) := dk_16 76 (dk_at dksX9_now_3 12 rfl rfl)
theorem dX9_now_90 : decode cX9_now 90 = .ok (.iaload, 1) := dk_46 (dk_at dksX9_now_3 14 rfl rfl)
theorem dX9_now_91 : decode cX9_now 91 = .ok (.ireturn, 1) := dk_172 (dk_at dksX9_now_3 15 rfl rfl)
theorem dX9_now_92 : decode cX9_now 92 = .ok (.aload_n 0, 1) := dk_42 (dk_at dksX9_now_3 16 rfl rfl)
theorem dX9_now_93 : decode cX9_now 93 = .ok (.bipush 84, 2) := dk_16 84 (dk_at dksX9_now_3 17 rfl rfl)
theorem dX9_now_95 : decode cX9_now 95 = .ok (.invokevirtual 253, 3) := dk_182 0 253 (dk_at dksX9_now_3 19 rfl rfl)
theorem dX9_now_98 : decode cX9_now 98 = .ok (.ireturn, 1) := dk_172 (dk_at dksX9_now_3 22 rfl rfl)
theorem dX9_now_99 : decode cX9_now 99 = .ok (.aload_n 0, 1) := dk_42 (dk_at dksX9_now_3 23 rfl rfl)
theorem dX9_now_100 : decode cX9_now 100 = .ok (.bipush 98, 2) := dk_16 98 (dk_at dksX9_now_4 0 rfl rfl)
theorem dX9_now_102 : decode cX9_now 102 = .ok (.invokevirtual 253, 3) := dk_182 0 253 (dk_at dksX9_now_4 2 rfl rfl)
theorem dX9_now_105 : decode cX9_now 105 = .ok (.ireturn, 1) := dk_172 (dk_at dksX9_now_4 5 rfl rfl)
theorem dX9_now_106 : decode cX9_now 106 = .ok (.aload_n 0, 1) := dk_42 (dk_at dksX9_now_4 6 rfl rfl)
theorem dX9_now_107 : decode cX9_now 107 = .ok (.getfield 13, 3) := dk_180 0 13 (dk_at dksX9_now_4 7 rfl rfl)
theorem dX9_now_110 : decode cX9_now 110 = .ok (.bipush 77, 2) := dk_16 77 (dk_at dksX9_now_4 10 rfl rfl)
theorem dX9_now_112 : decode cX9_now 112 = .ok (.iaload, 1) := dk_46 (dk_at dksX9_now_4 12 rfl rfl)
theorem dX9_now_113 : decode cX9_now 113 = .ok (.ireturn, 1) := dk_172 (dk_at dksX9_now_4 13 rfl rfl)
theorem dX9_now_114 : decode cX9_now 114 = .ok (.iconst (-1), 1) := dk_2 (dk_at dksX9_now_4 14 rfl rfl)
theorem dX9_now_115 : decode cX9_now 115 = .ok (.ireturn, 1) := dk_172 (dk_at dksX9_now_4 15 rfl rfl)
abbrev cX9_sumOf : ByteArray := prog_25_method_50_code
def yX9_sumOf : MethodName := ⟨RX9, "sumOf", "(I)I"⟩
def dkwX9_sumOf_1 : List UInt8 := [61, 132, 3, 1, 167, 255, 232, 28, 172]
abbrev dktX9_sumOf_1 : List UInt8 := dkwX9_sumOf_1 ++ []
def dkwX9_sumOf_0 : List UInt8 := [3, 61, 3, 62, 29, 42, 180, 0, 13, 3, 46, 162, 0, 20, 28, 42, 180, 0, 13, 27, 29, 96, 46, 96]
abbrev dktX9_sumOf_0 : List UInt8 := dkwX9_sumOf_0 ++ dktX9_sumOf_1
theorem dksX9_sumOf_0 : cX9_sumOf.data.toList.drop 0 = dktX9_sumOf_0 := by decide +kernel
theorem dksX9_sumOf_1 : cX9_sumOf.data.toList.drop 24 = dktX9_sumOf_1 := dk_seg dksX9_sumOf_0 24 rfl rfl
theorem dX9_sumOf_0 : decode cX9_sumOf 0 = .ok (.iconst 0, 1) := dk_3 (dk_at dksX9_sumOf_0 0 rfl rfl)
theorem dX9_sumOf_1 : decode cX9_sumOf 1 = .ok (.istore_n 2, 1) := dk_61 (dk_at dksX9_sumOf_0 1 rfl rfl)
theorem dX9_sumOf_2 : decode cX9_sumOf 2 = .ok (.iconst 0, 1) := dk_3 (dk_at dksX9_sumOf_0 2 rfl rfl)
theorem dX9_sumOf_3 : decode cX9_sumOf 3 = .ok (.istore_n 3, 1) := dk_62 (dk_at dksX9_sumOf_0 3 rfl rfl)
theorem dX9_sumOf_4 : decode cX9_sumOf 4 = .ok (.iload_n 3, 1) := dk_29 (dk_at dksX9_sumOf_0 4 rfl rfl)
theorem dX9_sumOf_5 : decode cX9_sumOf 5 = .ok (.aload_n 0, 1) := dk_42 (dk_at dksX9_sumOf_0 5 rfl rfl)
theorem dX9_sumOf_6 : decode cX9_sumOf 6 = .ok (.getfield 13, 3) := dk_180 0 13 (dk_at dksX9_sumOf_0 6 rfl rfl)
theorem dX9_sumOf_9 : decode cX9_sumOf 9 = .ok (.iconst 0, 1) := dk_3 (dk_at dksX9_sumOf_0 9 rfl rfl)
theorem dX9_sumOf_10 : decode cX9_sumOf 10 = .ok (.iaload, 1) := dk_46 (dk_at dksX9_sumOf_0 10 rfl rfl)
theorem dX9_sumOf_11 : decode cX9_sumOf 11 = .ok (.if_icmp .ge 20, 3) := dk_162 0 20 (dk_at dksX9_sumOf_0 11 rfl rfl)
theorem dX9_sumOf_14 : decode cX9_sumOf 14 = .ok (.iload_n 2, 1) := dk_28 (dk_at dksX9_sumOf_0 14 rfl rfl)
theorem dX9_sumOf_15 : decode cX9_sumOf 15 = .ok (.aload_n 0, 1) := dk_42 (dk_at dksX9_sumOf_0 15 rfl rfl)
theorem dX9_sumOf_16 : decode cX9_sumOf 16 = .ok (.getfield 13, 3) := dk_180 0 13 (dk_at dksX9_sumOf_0 16 rfl rfl)
theorem dX9_sumOf_19 : decode cX9_sumOf 19 = .ok (.iload_n 1, 1) := dk_27 (dk_at dksX9_sumOf_0 19 rfl rfl)
theorem dX9_sumOf_20 : decode cX9_sumOf 20 = .ok (.iload_n 3, 1) := dk_29 (dk_at dksX9_sumOf_0 20 rfl rfl)
theorem dX9_sumOf_21 : decode cX9_sumOf 21 = .ok (.iadd, 1) := dk_96 (dk_at dksX9_sumOf_0 21 rfl rfl)
theorem dX9_sumOf_22 : decode cX9_sumOf 22 = .ok (.iaload, 1) := dk_46 (dk_at dksX9_sumOf_0 22 rfl rfl)
theorem dX9_sumOf_23 : decode cX9_sumOf 23 = .ok (.iadd, 1) := dk_96 (dk_at dksX9_sumOf_0 23 rfl rfl)
theorem dX9_sumOf_24 : decode cX9_sumOf 24 = .ok (.istore_n 2, 1) := dk_61 (dk_at dksX9_sumOf_1 0 rfl rfl)
theorem dX9_sumOf_25 : decode cX9_sumOf 25 = .ok (.iinc 3 1, 3) := dk_132 3 1 (dk_at dksX9_sumOf_1 1 rfl rfl)
theorem dX9_sumOf_28 : decode cX9_sumOf 28 = .ok (.goto (-24), 3) := dk_167 255 232 (dk_at dksX9_sumOf_1 4 rfl rfl)
theorem dX9_sumOf_31 : decode cX9_sumOf 31 = .ok (.iload_n 2, 1) := dk_28 (dk_at dksX9_sumOf_1 7 rfl rfl)
theorem dX9_sumOf_32 : decode cX9_sumOf 32 = .ok (.ireturn, 1) := dk_172 (dk_at dksX9_sumOf_1 8 rfl rfl)
abbrev cX9_heir : ByteArray := prog_25_method_56_code
def yX9_heir : MethodName := ⟨RX9, "heir", "(I)I"⟩
def dkwX9_heir_1 : List UInt8 := [167, 0, 4, 2, 172]
abbrev dktX9_heir_1 : List UInt8 := dkwX9_heir_1 ++ []
def dkwX9_heir_0 : List UInt8 := [42, 3, 181, 0, 82, 42, 27, 182, 0, 238, 153, 0, 15, 42, 27, 42, 182, 1, 3, 182, 1, 6]
abbrev dktX9_heir_0 : List UInt8 := dkwX9_heir_0 ++ dktX9_heir_1
theorem dksX9_heir_0 : cX9_heir.data.toList.drop 0 = dktX9_heir_0 := by decide +kernel
theorem dksX9_heir_1 : cX9_heir.data.toList.drop 22 = dktX9_heir_1 := dk_seg dksX9_heir_0 22 rfl rfl
theorem dX9_heir_0 : decode cX9_heir 0 = .ok (.aload_n 0, 1) := dk_42 (dk_at dksX9_heir_0 0 rfl rfl)
theorem dX9_heir_1 : decode cX9_heir 1 = .ok (.iconst 0, 1) := dk_3 (dk_at dksX9_heir_0 1 rfl rfl)
theorem dX9_heir_2 : decode cX9_heir 2 = .ok (.putfield 82, 3) := dk_181 0 82 (dk_at dksX9_heir_0 2 rfl rfl)
theorem dX9_heir_5 : decode cX9_heir 5 = .ok (.aload_n 0, 1) := dk_42 (dk_at dksX9_heir_0 5 rfl rfl)
theorem dX9_heir_6 : decode cX9_heir 6 = .ok (.iload_n 1, 1) := dk_27 (dk_at dksX9_heir_0 6 rfl rfl)
theorem dX9_heir_7 : decode cX9_heir 7 = .ok (.invokevirtual 238, 3) := dk_182 0 238 (dk_at dksX9_heir_0 7 rfl rfl)
theorem dX9_heir_10 : decode cX9_heir 10 = .ok (.ifCond .eq 15, 3) := dk_153 0 15 (dk_at dksX9_heir_0 10 rfl rfl)
theorem dX9_heir_13 : decode cX9_heir 13 = .ok (.aload_n 0, 1) := dk_42 (dk_at dksX9_heir_0 13 rfl rfl)
theorem dX9_heir_14 : decode cX9_heir 14 = .ok (.iload_n 1, 1) := dk_27 (dk_at dksX9_heir_0 14 rfl rfl)
theorem dX9_heir_15 : decode cX9_heir 15 = .ok (.aload_n 0, 1) := dk_42 (dk_at dksX9_heir_0 15 rfl rfl)
theorem dX9_heir_16 : decode cX9_heir 16 = .ok (.invokevirtual 259, 3) := dk_182 1 3 (dk_at dksX9_heir_0 16 rfl rfl)
theorem dX9_heir_19 : decode cX9_heir 19 = .ok (.invokevirtual 262, 3) := dk_182 1 6 (dk_at dksX9_heir_0 19 rfl rfl)
theorem dX9_heir_22 : decode cX9_heir 22 = .ok (.goto 4, 3) := dk_167 0 4 (dk_at dksX9_heir_1 0 rfl rfl)
theorem dX9_heir_25 : decode cX9_heir 25 = .ok (.iconst (-1), 1) := dk_2 (dk_at dksX9_heir_1 3 rfl rfl)
theorem dX9_heir_26 : decode cX9_heir 26 = .ok (.ireturn, 1) := dk_172 (dk_at dksX9_heir_1 4 rfl rfl)
abbrev cX9_outs : ByteArray := prog_25_method_54_code
def yX9_outs : MethodName := ⟨RX9, "outs", "()I"⟩
def dkwX9_outs_0 : List UInt8 := [42, 180, 0, 13, 16, 73, 46, 42, 180, 0, 13, 16, 74, 46, 128, 172]
abbrev dktX9_outs_0 : List UInt8 := dkwX9_outs_0 ++ []
theorem dksX9_outs_0 : cX9_outs.data.toList.drop 0 = dktX9_outs_0 := by decide +kernel
theorem dX9_outs_0 : decode cX9_outs 0 = .ok (.aload_n 0, 1) := dk_42 (dk_at dksX9_outs_0 0 rfl rfl)
theorem dX9_outs_1 : decode cX9_outs 1 = .ok (.getfield 13, 3) := dk_180 0 13 (dk_at dksX9_outs_0 1 rfl rfl)
theorem dX9_outs_4 : decode cX9_outs 4 = .ok (.bipush 73, 2) := dk_16 73 (dk_at dksX9_outs_0 4 rfl rfl)
theorem dX9_outs_6 : decode cX9_outs 6 = .ok (.iaload, 1) := dk_46 (dk_at dksX9_outs_0 6 rfl rfl)
theorem dX9_outs_7 : decode cX9_outs 7 = .ok (.aload_n 0, 1) := dk_42 (dk_at dksX9_outs_0 7 rfl rfl)
theorem dX9_outs_8 : decode cX9_outs 8 = .ok (.getfield 13, 3) := dk_180 0 13 (dk_at dksX9_outs_0 8 rfl rfl)
theorem dX9_outs_11 : decode cX9_outs 11 = .ok (.bipush 74, 2) := dk_16 74 (dk_at dksX9_outs_0 11 rfl rfl)
theorem dX9_outs_13 : decode cX9_outs 13 = .ok (.iaload, 1) := dk_46 (dk_at dksX9_outs_0 13 rfl rfl)
theorem dX9_outs_14 : decode cX9_outs 14 = .ok (.ior, 1) := dk_128 (dk_at dksX9_outs_0 14 rfl rfl)
theorem dX9_outs_15 : decode cX9_outs 15 = .ok (.ireturn, 1) := dk_172 (dk_at dksX9_outs_0 15 rfl rfl)
abbrev cX9_heirBy : ByteArray := prog_25_method_53_code
def yX9_heirBy : MethodName := ⟨RX9, "heirBy", "(II)I"⟩
def dkwX9_heirBy_6 : List UInt8 := [160, 0, 12, 42, 27, 28, 182, 1, 0, 167, 0, 4, 29, 172]
abbrev dktX9_heirBy_6 : List UInt8 := dkwX9_heirBy_6 ++ []
def dkwX9_heirBy_5 : List UInt8 := [153, 0, 6, 21, 4, 62, 132, 4, 255, 167, 255, 156, 29, 2, 160, 0, 22, 42, 180, 0, 13, 5, 46, 4]
abbrev dktX9_heirBy_5 : List UInt8 := dkwX9_heirBy_5 ++ dktX9_heirBy_6
def dkwX9_heirBy_4 : List UInt8 := [96, 46, 42, 180, 0, 13, 16, 84, 29, 96, 46, 163, 0, 7, 4, 167, 0, 4, 3, 54, 5, 21, 5]
abbrev dktX9_heirBy_4 : List UInt8 := dkwX9_heirBy_4 ++ dktX9_heirBy_5
def dkwX9_heirBy_3 : List UInt8 := [160, 0, 7, 4, 167, 0, 39, 3, 167, 0, 35, 29, 2, 159, 0, 25, 42, 180, 0, 13, 16, 84, 21, 4]
abbrev dktX9_heirBy_3 : List UInt8 := dkwX9_heirBy_3 ++ dktX9_heirBy_4
def dkwX9_heirBy_2 : List UInt8 := [167, 0, 77, 42, 180, 0, 13, 5, 46, 4, 160, 0, 25, 42, 180, 0, 13, 16, 11, 21, 4, 96, 46, 27]
abbrev dktX9_heirBy_2 : List UInt8 := dkwX9_heirBy_2 ++ dktX9_heirBy_3
def dkwX9_heirBy_1 : List UInt8 := [4, 100, 54, 4, 21, 4, 155, 0, 101, 21, 4, 27, 159, 0, 89, 28, 21, 4, 184, 0, 231, 153, 0, 6]
abbrev dktX9_heirBy_1 : List UInt8 := dkwX9_heirBy_1 ++ dktX9_heirBy_2
def dkwX9_heirBy_0 : List UInt8 := [42, 180, 0, 13, 5, 46, 154, 0, 10, 42, 27, 28, 182, 1, 0, 172, 2, 62, 42, 180, 0, 13, 3, 46]
abbrev dktX9_heirBy_0 : List UInt8 := dkwX9_heirBy_0 ++ dktX9_heirBy_1
theorem dksX9_heirBy_0 : cX9_heirBy.data.toList.drop 0 = dktX9_heirBy_0 := by decide +kernel
theorem dksX9_heirBy_1 : cX9_heirBy.data.toList.drop 24 = dktX9_heirBy_1 := dk_seg dksX9_heirBy_0 24 rfl rfl
theorem dksX9_heirBy_2 : cX9_heirBy.data.toList.drop 48 = dktX9_heirBy_2 := dk_seg dksX9_heirBy_1 24 rfl rfl
theorem dksX9_heirBy_3 : cX9_heirBy.data.toList.drop 72 = dktX9_heirBy_3 := dk_seg dksX9_heirBy_2 24 rfl rfl
theorem dksX9_heirBy_4 : cX9_heirBy.data.toList.drop 96 = dktX9_heirBy_4 := dk_seg dksX9_heirBy_3 24 rfl rfl
theorem dksX9_heirBy_5 : cX9_heirBy.data.toList.drop 119 = dktX9_heirBy_5 := dk_seg dksX9_heirBy_4 23 rfl rfl
theorem dksX9_heirBy_6 : cX9_heirBy.data.toList.drop 143 = dktX9_heirBy_6 := dk_seg dksX9_heirBy_5 24 rfl rfl
theorem dX9_heirBy_0 : decode cX9_heirBy 0 = .ok (.aload_n 0, 1) := dk_42 (dk_at dksX9_heirBy_0 0 rfl rfl)
theorem dX9_heirBy_1 : decode cX9_heirBy 1 = .ok (.getfield 13, 3) := dk_180 0 13 (dk_at dksX9_heirBy_0 1 rfl rfl)
theorem dX9_heirBy_4 : decode cX9_heirBy 4 = .ok (.iconst 2, 1) := dk_5 (dk_at dksX9_heirBy_0 4 rfl rfl)
theorem dX9_heirBy_5 : decode cX9_heirBy 5 = .ok (.iaload, 1) := dk_46 (dk_at dksX9_heirBy_0 5 rfl rfl)
theorem dX9_heirBy_6 : decode cX9_heirBy 6 = .ok (.ifCond .ne 10, 3) := dk_154 0 10 (dk_at dksX9_heirBy_0 6 rfl rfl)
theorem dX9_heirBy_9 : decode cX9_heirBy 9 = .ok (.aload_n 0, 1) := dk_42 (dk_at dksX9_heirBy_0 9 rfl rfl)
theorem dX9_heirBy_10 : decode cX9_heirBy 10 = .ok (.iload_n 1, 1) := dk_27 (dk_at dksX9_heirBy_0 10 rfl rfl)
theorem dX9_heirBy_11 : decode cX9_heirBy 11 = .ok (.iload_n 2, 1) := dk_28 (dk_at dksX9_heirBy_0 11 rfl rfl)
theorem dX9_heirBy_12 : decode cX9_heirBy 12 = .ok (.invokevirtual 256, 3) := dk_182 1 0 (dk_at dksX9_heirBy_0 12 rfl rfl)
theorem dX9_heirBy_15 : decode cX9_heirBy 15 = .ok (.ireturn, 1) := dk_172 (dk_at dksX9_heirBy_0 15 rfl rfl)
theorem dX9_heirBy_16 : decode cX9_heirBy 16 = .ok (.iconst (-1), 1) := dk_2 (dk_at dksX9_heirBy_0 16 rfl rfl)
theorem dX9_heirBy_17 : decode cX9_heirBy 17 = .ok (.istore_n 3, 1) := dk_62 (dk_at dksX9_heirBy_0 17 rfl rfl)
theorem dX9_heirBy_18 : decode cX9_heirBy 18 = .ok (.aload_n 0, 1) := dk_42 (dk_at dksX9_heirBy_0 18 rfl rfl)
theorem dX9_heirBy_19 : decode cX9_heirBy 19 = .ok (.getfield 13, 3) := dk_180 0 13 (dk_at dksX9_heirBy_0 19 rfl rfl)
theorem dX9_heirBy_22 : decode cX9_heirBy 22 = .ok (.iconst 0, 1) := dk_3 (dk_at dksX9_heirBy_0 22 rfl rfl)
theorem dX9_heirBy_23 : decode cX9_heirBy 23 = .ok (.iaload, 1) := dk_46 (dk_at dksX9_heirBy_0 23 rfl rfl)
theorem dX9_heirBy_24 : decode cX9_heirBy 24 = .ok (.iconst 1, 1) := dk_4 (dk_at dksX9_heirBy_1 0 rfl rfl)
theorem dX9_heirBy_25 : decode cX9_heirBy 25 = .ok (.isub, 1) := dk_100 (dk_at dksX9_heirBy_1 1 rfl rfl)
theorem dX9_heirBy_26 : decode cX9_heirBy 26 = .ok (.istore 4, 2) := dk_54 4 (dk_at dksX9_heirBy_1 2 rfl rfl)
theorem dX9_heirBy_28 : decode cX9_heirBy 28 = .ok (.iload 4, 2) := dk_21 4 (dk_at dksX9_heirBy_1 4 rfl rfl)
theorem dX9_heirBy_30 : decode cX9_heirBy 30 = .ok (.ifCond .lt 101, 3) := dk_155 0 101 (dk_at dksX9_heirBy_1 6 rfl rfl)
theorem dX9_heirBy_33 : decode cX9_heirBy 33 = .ok (.iload 4, 2) := dk_21 4 (dk_at dksX9_heirBy_1 9 rfl rfl)
theorem dX9_heirBy_35 : decode cX9_heirBy 35 = .ok (.iload_n 1, 1) := dk_27 (dk_at dksX9_heirBy_1 11 rfl rfl)
theorem dX9_heirBy_36 : decode cX9_heirBy 36 = .ok (.if_icmp .eq 89, 3) := dk_159 0 89 (dk_at dksX9_heirBy_1 12 rfl rfl)
theorem dX9_heirBy_39 : decode cX9_heirBy 39 = .ok (.iload_n 2, 1) := dk_28 (dk_at dksX9_heirBy_1 15 rfl rfl)
theorem dX9_heirBy_40 : decode cX9_heirBy 40 = .ok (.iload 4, 2) := dk_21 4 (dk_at dksX9_heirBy_1 16 rfl rfl)
theorem dX9_heirBy_42 : decode cX9_heirBy 42 = .ok (.invokestatic 231, 3) := dk_184 0 231 (dk_at dksX9_heirBy_1 18 rfl rfl)
theorem dX9_heirBy_45 : decode cX9_heirBy 45 = .ok (.ifCond .eq 6, 3) := dk_153 0 6 (dk_at dksX9_heirBy_1 21 rfl rfl)
theorem dX9_heirBy_48 : decode cX9_heirBy 48 = .ok (.goto 77, 3) := dk_167 0 77 (dk_at dksX9_heirBy_2 0 rfl rfl)
theorem dX9_heirBy_51 : decode cX9_heirBy 51 = .ok (.aload_n 0, 1) := dk_42 (dk_at dksX9_heirBy_2 3 rfl rfl)
theorem dX9_heirBy_52 : decode cX9_heirBy 52 = .ok (.getfield 13, 3) := dk_180 0 13 (dk_at dksX9_heirBy_2 4 rfl rfl)
theorem dX9_heirBy_55 : decode cX9_heirBy 55 = .ok (.iconst 2, 1) := dk_5 (dk_at dksX9_heirBy_2 7 rfl rfl)
theorem dX9_heirBy_56 : decode cX9_heirBy 56 = .ok (.iaload, 1) := dk_46 (dk_at dksX9_heirBy_2 8 rfl rfl)
theorem dX9_heirBy_57 : decode cX9_heirBy 57 = .ok (.iconst 1, 1) := dk_4 (dk_at dksX9_heirBy_2 9 rfl rfl)
theorem dX9_heirBy_58 : decode cX9_heirBy 58 = .ok (.if_icmp .ne 25, 3) := dk_160 0 25 (dk_at dksX9_heirBy_2 10 rfl rfl)
theorem dX9_heirBy_61 : decode cX9_heirBy 61 = .ok (.aload_n 0, 1) := dk_42 (dk_at dksX9_heirBy_2 13 rfl rfl)
theorem dX9_heirBy_62 : decode cX9_heirBy 62 = .ok (.getfield 13, 3) := dk_180 0 13 (dk_at dksX9_heirBy_2 14 rfl rfl)
theorem dX9_heirBy_65 : decode cX9_heirBy 65 = .ok (.bipush 11, 2) := dk_16 11 (dk_at dksX9_heirBy_2 17 rfl rfl)
theorem dX9_heirBy_67 : decode cX9_heirBy 67 = .ok (.iload 4, 2) := dk_21 4 (dk_at dksX9_heirBy_2 19 rfl rfl)
theorem dX9_heirBy_69 : decode cX9_heirBy 69 = .ok (.iadd, 1) := dk_96 (dk_at dksX9_heirBy_2 21 rfl rfl)
theorem dX9_heirBy_70 : decode cX9_heirBy 70 = .ok (.iaload, 1) := dk_46 (dk_at dksX9_heirBy_2 22 rfl rfl)
theorem dX9_heirBy_71 : decode cX9_heirBy 71 = .ok (.iload_n 1, 1) := dk_27 (dk_at dksX9_heirBy_2 23 rfl rfl)
theorem dX9_heirBy_72 : decode cX9_heirBy 72 = .ok (.if_icmp .ne 7, 3) := dk_160 0 7 (dk_at dksX9_heirBy_3 0 rfl rfl)
theorem dX9_heirBy_75 : decode cX9_heirBy 75 = .ok (.iconst 1, 1) := dk_4 (dk_at dksX9_heirBy_3 3 rfl rfl)
theorem dX9_heirBy_76 : decode cX9_heirBy 76 = .ok (.goto 39, 3) := dk_167 0 39 (dk_at dksX9_heirBy_3 4 rfl rfl)
theorem dX9_heirBy_79 : decode cX9_heirBy 79 = .ok (.iconst 0, 1) := dk_3 (dk_at dksX9_heirBy_3 7 rfl rfl)
theorem dX9_heirBy_80 : decode cX9_heirBy 80 = .ok (.goto 35, 3) := dk_167 0 35 (dk_at dksX9_heirBy_3 8 rfl rfl)
theorem dX9_heirBy_83 : decode cX9_heirBy 83 = .ok (.iload_n 3, 1) := dk_29 (dk_at dksX9_heirBy_3 11 rfl rfl)
theorem dX9_heirBy_84 : decode cX9_heirBy 84 = .ok (.iconst (-1), 1) := dk_2 (dk_at dksX9_heirBy_3 12 rfl rfl)
theorem dX9_heirBy_85 : decode cX9_heirBy 85 = .ok (.if_icmp .eq 25, 3) := dk_159 0 25 (dk_at dksX9_heirBy_3 13 rfl rfl)
theorem dX9_heirBy_88 : decode cX9_heirBy 88 = .ok (.aload_n 0, 1) := dk_42 (dk_at dksX9_heirBy_3 16 rfl rfl)
theorem dX9_heirBy_89 : decode cX9_heirBy 89 = .ok (.getfield 13, 3) := dk_180 0 13 (dk_at dksX9_heirBy_3 17 rfl rfl)
theorem dX9_heirBy_92 : decode cX9_heirBy 92 = .ok (.bipush 84, 2) := dk_16 84 (dk_at dksX9_heirBy_3 20 rfl rfl)
theorem dX9_heirBy_94 : decode cX9_heirBy 94 = .ok (.iload 4, 2) := dk_21 4 (dk_at dksX9_heirBy_3 22 rfl rfl)
theorem dX9_heirBy_96 : decode cX9_heirBy 96 = .ok (.iadd, 1) := dk_96 (dk_at dksX9_heirBy_4 0 rfl rfl)
theorem dX9_heirBy_97 : decode cX9_heirBy 97 = .ok (.iaload, 1) := dk_46 (dk_at dksX9_heirBy_4 1 rfl rfl)
theorem dX9_heirBy_98 : decode cX9_heirBy 98 = .ok (.aload_n 0, 1) := dk_42 (dk_at dksX9_heirBy_4 2 rfl rfl)
theorem dX9_heirBy_99 : decode cX9_heirBy 99 = .ok (.getfield 13, 3) := dk_180 0 13 (dk_at dksX9_heirBy_4 3 rfl rfl)
theorem dX9_heirBy_102 : decode cX9_heirBy 102 = .ok (.bipush 84, 2) := dk_16 84 (dk_at dksX9_heirBy_4 6 rfl rfl)
theorem dX9_heirBy_104 : decode cX9_heirBy 104 = .ok (.iload_n 3, 1) := dk_29 (dk_at dksX9_heirBy_4 8 rfl rfl)
theorem dX9_heirBy_105 : decode cX9_heirBy 105 = .ok (.iadd, 1) := dk_96 (dk_at dksX9_heirBy_4 9 rfl rfl)
theorem dX9_heirBy_106 : decode cX9_heirBy 106 = .ok (.iaload, 1) := dk_46 (dk_at dksX9_heirBy_4 10 rfl rfl)
theorem dX9_heirBy_107 : decode cX9_heirBy 107 = .ok (.if_icmp .gt 7, 3) := dk_163 0 7 (dk_at dksX9_heirBy_4 11 rfl rfl)
theorem dX9_heirBy_110 : decode cX9_heirBy 110 = .ok (.iconst 1, 1) := dk_4 (dk_at dksX9_heirBy_4 14 rfl rfl)
theorem dX9_heirBy_111 : decode cX9_heirBy 111 = .ok (.goto 4, 3) := dk_167 0 4 (dk_at dksX9_heirBy_4 15 rfl rfl)
theorem dX9_heirBy_114 : decode cX9_heirBy 114 = .ok (.iconst 0, 1) := dk_3 (dk_at dksX9_heirBy_4 18 rfl rfl)
theorem dX9_heirBy_115 : decode cX9_heirBy 115 = .ok (.istore 5, 2) := dk_54 5 (dk_at dksX9_heirBy_4 19 rfl rfl)
theorem dX9_heirBy_117 : decode cX9_heirBy 117 = .ok (.iload 5, 2) := dk_21 5 (dk_at dksX9_heirBy_4 21 rfl rfl)
theorem dX9_heirBy_119 : decode cX9_heirBy 119 = .ok (.ifCond .eq 6, 3) := dk_153 0 6 (dk_at dksX9_heirBy_5 0 rfl rfl)
theorem dX9_heirBy_122 : decode cX9_heirBy 122 = .ok (.iload 4, 2) := dk_21 4 (dk_at dksX9_heirBy_5 3 rfl rfl)
theorem dX9_heirBy_124 : decode cX9_heirBy 124 = .ok (.istore_n 3, 1) := dk_62 (dk_at dksX9_heirBy_5 5 rfl rfl)
theorem dX9_heirBy_125 : decode cX9_heirBy 125 = .ok (.iinc 4 (-1), 3) := dk_132 4 255 (dk_at dksX9_heirBy_5 6 rfl rfl)
theorem dX9_heirBy_128 : decode cX9_heirBy 128 = .ok (.goto (-100), 3) := dk_167 255 156 (dk_at dksX9_heirBy_5 9 rfl rfl)
theorem dX9_heirBy_131 : decode cX9_heirBy 131 = .ok (.iload_n 3, 1) := dk_29 (dk_at dksX9_heirBy_5 12 rfl rfl)
theorem dX9_heirBy_132 : decode cX9_heirBy 132 = .ok (.iconst (-1), 1) := dk_2 (dk_at dksX9_heirBy_5 13 rfl rfl)
theorem dX9_heirBy_133 : decode cX9_heirBy 133 = .ok (.if_icmp .ne 22, 3) := dk_160 0 22 (dk_at dksX9_heirBy_5 14 rfl rfl)
theorem dX9_heirBy_136 : decode cX9_heirBy 136 = .ok (.aload_n 0, 1) := dk_42 (dk_at dksX9_heirBy_5 17 rfl rfl)
theorem dX9_heirBy_137 : decode cX9_heirBy 137 = .ok (.getfield 13, 3) := dk_180 0 13 (dk_at dksX9_heirBy_5 18 rfl rfl)
theorem dX9_heirBy_140 : decode cX9_heirBy 140 = .ok (.iconst 2, 1) := dk_5 (dk_at dksX9_heirBy_5 21 rfl rfl)
theorem dX9_heirBy_141 : decode cX9_heirBy 141 = .ok (.iaload, 1) := dk_46 (dk_at dksX9_heirBy_5 22 rfl rfl)
theorem dX9_heirBy_142 : decode cX9_heirBy 142 = .ok (.iconst 1, 1) := dk_4 (dk_at dksX9_heirBy_5 23 rfl rfl)
theorem dX9_heirBy_143 : decode cX9_heirBy 143 = .ok (.if_icmp .ne 12, 3) := dk_160 0 12 (dk_at dksX9_heirBy_6 0 rfl rfl)
theorem dX9_heirBy_146 : decode cX9_heirBy 146 = .ok (.aload_n 0, 1) := dk_42 (dk_at dksX9_heirBy_6 3 rfl rfl)
theorem dX9_heirBy_147 : decode cX9_heirBy 147 = .ok (.iload_n 1, 1) := dk_27 (dk_at dksX9_heirBy_6 4 rfl rfl)
theorem dX9_heirBy_148 : decode cX9_heirBy 148 = .ok (.iload_n 2, 1) := dk_28 (dk_at dksX9_heirBy_6 5 rfl rfl)
theorem dX9_heirBy_149 : decode cX9_heirBy 149 = .ok (.invokevirtual 256, 3) := dk_182 1 0 (dk_at dksX9_heirBy_6 6 rfl rfl)
theorem dX9_heirBy_152 : decode cX9_heirBy 152 = .ok (.goto 4, 3) := dk_167 0 4 (dk_at dksX9_heirBy_6 9 rfl rfl)
theorem dX9_heirBy_155 : decode cX9_heirBy 155 = .ok (.iload_n 3, 1) := dk_29 (dk_at dksX9_heirBy_6 12 rfl rfl)
theorem dX9_heirBy_156 : decode cX9_heirBy 156 = .ok (.ireturn, 1) := dk_172 (dk_at dksX9_heirBy_6 13 rfl rfl)
abbrev cX9_nextTo : ByteArray := prog_25_method_52_code
def yX9_nextTo : MethodName := ⟨RX9, "nextTo", "(II)I"⟩
def dkwX9_nextTo_1 : List UInt8 := [184, 0, 231, 154, 0, 10, 27, 21, 4, 96, 29, 112, 172, 132, 4, 1, 167, 255, 227, 2, 172]
abbrev dktX9_nextTo_1 : List UInt8 := dkwX9_nextTo_1 ++ []
def dkwX9_nextTo_0 : List UInt8 := [42, 180, 0, 13, 3, 46, 62, 4, 54, 4, 21, 4, 29, 162, 0, 29, 28, 27, 21, 4, 96, 29, 112]
abbrev dktX9_nextTo_0 : List UInt8 := dkwX9_nextTo_0 ++ dktX9_nextTo_1
theorem dksX9_nextTo_0 : cX9_nextTo.data.toList.drop 0 = dktX9_nextTo_0 := by decide +kernel
theorem dksX9_nextTo_1 : cX9_nextTo.data.toList.drop 23 = dktX9_nextTo_1 := dk_seg dksX9_nextTo_0 23 rfl rfl
theorem dX9_nextTo_0 : decode cX9_nextTo 0 = .ok (.aload_n 0, 1) := dk_42 (dk_at dksX9_nextTo_0 0 rfl rfl)
theorem dX9_nextTo_1 : decode cX9_nextTo 1 = .ok (.getfield 13, 3) := dk_180 0 13 (dk_at dksX9_nextTo_0 1 rfl rfl)
theorem dX9_nextTo_4 : decode cX9_nextTo 4 = .ok (.iconst 0, 1) := dk_3 (dk_at dksX9_nextTo_0 4 rfl rfl)
theorem dX9_nextTo_5 : decode cX9_nextTo 5 = .ok (.iaload, 1) := dk_46 (dk_at dksX9_nextTo_0 5 rfl rfl)
theorem dX9_nextTo_6 : decode cX9_nextTo 6 = .ok (.istore_n 3, 1) := dk_62 (dk_at dksX9_nextTo_0 6 rfl rfl)
theorem dX9_nextTo_7 : decode cX9_nextTo 7 = .ok (.iconst 1, 1) := dk_4 (dk_at dksX9_nextTo_0 7 rfl rfl)
theorem dX9_nextTo_8 : decode cX9_nextTo 8 = .ok (.istore 4, 2) := dk_54 4 (dk_at dksX9_nextTo_0 8 rfl rfl)
theorem dX9_nextTo_10 : decode cX9_nextTo 10 = .ok (.iload 4, 2) := dk_21 4 (dk_at dksX9_nextTo_0 10 rfl rfl)
theorem dX9_nextTo_12 : decode cX9_nextTo 12 = .ok (.iload_n 3, 1) := dk_29 (dk_at dksX9_nextTo_0 12 rfl rfl)
theorem dX9_nextTo_13 : decode cX9_nextTo 13 = .ok (.if_icmp .ge 29, 3) := dk_162 0 29 (dk_at dksX9_nextTo_0 13 rfl rfl)
theorem dX9_nextTo_16 : decode cX9_nextTo 16 = .ok (.iload_n 2, 1) := dk_28 (dk_at dksX9_nextTo_0 16 rfl rfl)
theorem dX9_nextTo_17 : decode cX9_nextTo 17 = .ok (.iload_n 1, 1) := dk_27 (dk_at dksX9_nextTo_0 17 rfl rfl)
theorem dX9_nextTo_18 : decode cX9_nextTo 18 = .ok (.iload 4, 2) := dk_21 4 (dk_at dksX9_nextTo_0 18 rfl rfl)
theorem dX9_nextTo_20 : decode cX9_nextTo 20 = .ok (.iadd, 1) := dk_96 (dk_at dksX9_nextTo_0 20 rfl rfl)
theorem dX9_nextTo_21 : decode cX9_nextTo 21 = .ok (.iload_n 3, 1) := dk_29 (dk_at dksX9_nextTo_0 21 rfl rfl)
theorem dX9_nextTo_22 : decode cX9_nextTo 22 = .ok (.irem, 1) := dk_112 (dk_at dksX9_nextTo_0 22 rfl rfl)
theorem dX9_nextTo_23 : decode cX9_nextTo 23 = .ok (.invokestatic 231, 3) := dk_184 0 231 (dk_at dksX9_nextTo_1 0 rfl rfl)
theorem dX9_nextTo_26 : decode cX9_nextTo 26 = .ok (.ifCond .ne 10, 3) := dk_154 0 10 (dk_at dksX9_nextTo_1 3 rfl rfl)
theorem dX9_nextTo_29 : decode cX9_nextTo 29 = .ok (.iload_n 1, 1) := dk_27 (dk_at dksX9_nextTo_1 6 rfl rfl)
theorem dX9_nextTo_30 : decode cX9_nextTo 30 = .ok (.iload 4, 2) := dk_21 4 (dk_at dksX9_nextTo_1 7 rfl rfl)
theorem dX9_nextTo_32 : decode cX9_nextTo 32 = .ok (.iadd, 1) := dk_96 (dk_at dksX9_nextTo_1 9 rfl rfl)
theorem dX9_nextTo_33 : decode cX9_nextTo 33 = .ok (.iload_n 3, 1) := dk_29 (dk_at dksX9_nextTo_1 10 rfl rfl)
theorem dX9_nextTo_34 : decode cX9_nextTo 34 = .ok (.irem, 1) := dk_112 (dk_at dksX9_nextTo_1 11 rfl rfl)
theorem dX9_nextTo_35 : decode cX9_nextTo 35 = .ok (.ireturn, 1) := dk_172 (dk_at dksX9_nextTo_1 12 rfl rfl)
theorem dX9_nextTo_36 : decode cX9_nextTo 36 = .ok (.iinc 4 1, 3) := dk_132 4 1 (dk_at dksX9_nextTo_1 13 rfl rfl)
theorem dX9_nextTo_39 : decode cX9_nextTo 39 = .ok (.goto (-29), 3) := dk_167 255 227 (dk_at dksX9_nextTo_1 16 rfl rfl)
theorem dX9_nextTo_42 : decode cX9_nextTo 42 = .ok (.iconst (-1), 1) := dk_2 (dk_at dksX9_nextTo_1 19 rfl rfl)
theorem dX9_nextTo_43 : decode cX9_nextTo 43 = .ok (.ireturn, 1) := dk_172 (dk_at dksX9_nextTo_1 20 rfl rfl)
abbrev cX9_line : ByteArray := prog_25_method_57_code
def yX9_line : MethodName := ⟨RX9, "line", "(II)I"⟩
def dkwX9_line_2 : List UInt8 := [4, 21, 4, 120, 128, 62, 42, 27, 29, 182, 1, 6, 54, 4, 132, 5, 1, 167, 255, 226, 21, 4, 172]
abbrev dktX9_line_2 : List UInt8 := dkwX9_line_2 ++ []
def dkwX9_line_1 : List UInt8 := [42, 27, 29, 182, 1, 6, 54, 4, 3, 54, 5, 21, 5, 28, 162, 0, 30, 21, 4, 2, 159, 0, 24, 29]
abbrev dktX9_line_1 : List UInt8 := dkwX9_line_1 ++ dktX9_line_2
def dkwX9_line_0 : List UInt8 := [42, 3, 181, 0, 82, 42, 27, 182, 0, 238, 153, 0, 7, 28, 156, 0, 5, 2, 172, 42, 182, 1, 3, 62]
abbrev dktX9_line_0 : List UInt8 := dkwX9_line_0 ++ dktX9_line_1
theorem dksX9_line_0 : cX9_line.data.toList.drop 0 = dktX9_line_0 := by decide +kernel
theorem dksX9_line_1 : cX9_line.data.toList.drop 24 = dktX9_line_1 := dk_seg dksX9_line_0 24 rfl rfl
theorem dksX9_line_2 : cX9_line.data.toList.drop 48 = dktX9_line_2 := dk_seg dksX9_line_1 24 rfl rfl
theorem dX9_line_0 : decode cX9_line 0 = .ok (.aload_n 0, 1) := dk_42 (dk_at dksX9_line_0 0 rfl rfl)
theorem dX9_line_1 : decode cX9_line 1 = .ok (.iconst 0, 1) := dk_3 (dk_at dksX9_line_0 1 rfl rfl)
theorem dX9_line_2 : decode cX9_line 2 = .ok (.putfield 82, 3) := dk_181 0 82 (dk_at dksX9_line_0 2 rfl rfl)
theorem dX9_line_5 : decode cX9_line 5 = .ok (.aload_n 0, 1) := dk_42 (dk_at dksX9_line_0 5 rfl rfl)
theorem dX9_line_6 : decode cX9_line 6 = .ok (.iload_n 1, 1) := dk_27 (dk_at dksX9_line_0 6 rfl rfl)
theorem dX9_line_7 : decode cX9_line 7 = .ok (.invokevirtual 238, 3) := dk_182 0 238 (dk_at dksX9_line_0 7 rfl rfl)
theorem dX9_line_10 : decode cX9_line 10 = .ok (.ifCond .eq 7, 3) := dk_153 0 7 (dk_at dksX9_line_0 10 rfl rfl)
theorem dX9_line_13 : decode cX9_line 13 = .ok (.iload_n 2, 1) := dk_28 (dk_at dksX9_line_0 13 rfl rfl)
theorem dX9_line_14 : decode cX9_line 14 = .ok (.ifCond .ge 5, 3) := dk_156 0 5 (dk_at dksX9_line_0 14 rfl rfl)
theorem dX9_line_17 : decode cX9_line 17 = .ok (.iconst (-1), 1) := dk_2 (dk_at dksX9_line_0 17 rfl rfl)
theorem dX9_line_18 : decode cX9_line 18 = .ok (.ireturn, 1) := dk_172 (dk_at dksX9_line_0 18 rfl rfl)
theorem dX9_line_19 : decode cX9_line 19 = .ok (.aload_n 0, 1) := dk_42 (dk_at dksX9_line_0 19 rfl rfl)
theorem dX9_line_20 : decode cX9_line 20 = .ok (.invokevirtual 259, 3) := dk_182 1 3 (dk_at dksX9_line_0 20 rfl rfl)
theorem dX9_line_23 : decode cX9_line 23 = .ok (.istore_n 3, 1) := dk_62 (dk_at dksX9_line_0 23 rfl rfl)
theorem dX9_line_24 : decode cX9_line 24 = .ok (.aload_n 0, 1) := dk_42 (dk_at dksX9_line_1 0 rfl rfl)
theorem dX9_line_25 : decode cX9_line 25 = .ok (.iload_n 1, 1) := dk_27 (dk_at dksX9_line_1 1 rfl rfl)
theorem dX9_line_26 : decode cX9_line 26 = .ok (.iload_n 3, 1) := dk_29 (dk_at dksX9_line_1 2 rfl rfl)
theorem dX9_line_27 : decode cX9_line 27 = .ok (.invokevirtual 262, 3) := dk_182 1 6 (dk_at dksX9_line_1 3 rfl rfl)
theorem dX9_line_30 : decode cX9_line 30 = .ok (.istore 4, 2) := dk_54 4 (dk_at dksX9_line_1 6 rfl rfl)
theorem dX9_line_32 : decode cX9_line 32 = .ok (.iconst 0, 1) := dk_3 (dk_at dksX9_line_1 8 rfl rfl)
theorem dX9_line_33 : decode cX9_line 33 = .ok (.istore 5, 2) := dk_54 5 (dk_at dksX9_line_1 9 rfl rfl)
theorem dX9_line_35 : decode cX9_line 35 = .ok (.iload 5, 2) := dk_21 5 (dk_at dksX9_line_1 11 rfl rfl)
theorem dX9_line_37 : decode cX9_line 37 = .ok (.iload_n 2, 1) := dk_28 (dk_at dksX9_line_1 13 rfl rfl)
theorem dX9_line_38 : decode cX9_line 38 = .ok (.if_icmp .ge 30, 3) := dk_162 0 30 (dk_at dksX9_line_1 14 rfl rfl)
theorem dX9_line_41 : decode cX9_line 41 = .ok (.iload 4, 2) := dk_21 4 (dk_at dksX9_line_1 17 rfl rfl)
theorem dX9_line_43 : decode cX9_line 43 = .ok (.iconst (-1), 1) := dk_2 (dk_at dksX9_line_1 19 rfl rfl)
theorem dX9_line_44 : decode cX9_line 44 = .ok (.if_icmp .eq 24, 3) := dk_159 0 24 (dk_at dksX9_line_1 20 rfl rfl)
theorem dX9_line_47 : decode cX9_line 47 = .ok (.iload_n 3, 1) := dk_29 (dk_at dksX9_line_1 23 rfl rfl)
theorem dX9_line_48 : decode cX9_line 48 = .ok (.iconst 1, 1) := dk_4 (dk_at dksX9_line_2 0 rfl rfl)
theorem dX9_line_49 : decode cX9_line 49 = .ok (.iload 4, 2) := dk_21 4 (dk_at dksX9_line_2 1 rfl rfl)
theorem dX9_line_51 : decode cX9_line 51 = .ok (.ishl, 1) := dk_120 (dk_at dksX9_line_2 3 rfl rfl)
theorem dX9_line_52 : decode cX9_line 52 = .ok (.ior, 1) := dk_128 (dk_at dksX9_line_2 4 rfl rfl)
theorem dX9_line_53 : decode cX9_line 53 = .ok (.istore_n 3, 1) := dk_62 (dk_at dksX9_line_2 5 rfl rfl)
theorem dX9_line_54 : decode cX9_line 54 = .ok (.aload_n 0, 1) := dk_42 (dk_at dksX9_line_2 6 rfl rfl)
theorem dX9_line_55 : decode cX9_line 55 = .ok (.iload_n 1, 1) := dk_27 (dk_at dksX9_line_2 7 rfl rfl)
theorem dX9_line_56 : decode cX9_line 56 = .ok (.iload_n 3, 1) := dk_29 (dk_at dksX9_line_2 8 rfl rfl)
theorem dX9_line_57 : decode cX9_line 57 = .ok (.invokevirtual 262, 3) := dk_182 1 6 (dk_at dksX9_line_2 9 rfl rfl)
theorem dX9_line_60 : decode cX9_line 60 = .ok (.istore 4, 2) := dk_54 4 (dk_at dksX9_line_2 12 rfl rfl)
theorem dX9_line_62 : decode cX9_line 62 = .ok (.iinc 5 1, 3) := dk_132 5 1 (dk_at dksX9_line_2 14 rfl rfl)
theorem dX9_line_65 : decode cX9_line 65 = .ok (.goto (-30), 3) := dk_167 255 226 (dk_at dksX9_line_2 17 rfl rfl)
theorem dX9_line_68 : decode cX9_line 68 = .ok (.iload 4, 2) := dk_21 4 (dk_at dksX9_line_2 20 rfl rfl)
theorem dX9_line_70 : decode cX9_line 70 = .ok (.ireturn, 1) := dk_172 (dk_at dksX9_line_2 22 rfl rfl)
abbrev cX9_eat : ByteArray := prog_25_method_63_code
def yX9_eat : MethodName := ⟨RX9, "eat", "(III)I"⟩
def dkwX9_eat_1 : List UInt8 := [16, 20, 184, 0, 149, 153, 0, 14, 42, 3, 27, 28, 29, 182, 1, 33, 167, 0, 4, 2, 172]
abbrev dktX9_eat_1 : List UInt8 := dkwX9_eat_1 ++ []
def dkwX9_eat_0 : List UInt8 := [42, 3, 181, 0, 82, 42, 27, 182, 0, 238, 153, 0, 32, 42, 28, 182, 0, 250, 153, 0, 24, 29, 4]
abbrev dktX9_eat_0 : List UInt8 := dkwX9_eat_0 ++ dktX9_eat_1
theorem dksX9_eat_0 : cX9_eat.data.toList.drop 0 = dktX9_eat_0 := by decide +kernel
theorem dksX9_eat_1 : cX9_eat.data.toList.drop 23 = dktX9_eat_1 := dk_seg dksX9_eat_0 23 rfl rfl
theorem dX9_eat_0 : decode cX9_eat 0 = .ok (.aload_n 0, 1) := dk_42 (dk_at dksX9_eat_0 0 rfl rfl)
theorem dX9_eat_1 : decode cX9_eat 1 = .ok (.iconst 0, 1) := dk_3 (dk_at dksX9_eat_0 1 rfl rfl)
theorem dX9_eat_2 : decode cX9_eat 2 = .ok (.putfield 82, 3) := dk_181 0 82 (dk_at dksX9_eat_0 2 rfl rfl)
theorem dX9_eat_5 : decode cX9_eat 5 = .ok (.aload_n 0, 1) := dk_42 (dk_at dksX9_eat_0 5 rfl rfl)
theorem dX9_eat_6 : decode cX9_eat 6 = .ok (.iload_n 1, 1) := dk_27 (dk_at dksX9_eat_0 6 rfl rfl)
theorem dX9_eat_7 : decode cX9_eat 7 = .ok (.invokevirtual 238, 3) := dk_182 0 238 (dk_at dksX9_eat_0 7 rfl rfl)
theorem dX9_eat_10 : decode cX9_eat 10 = .ok (.ifCond .eq 32, 3) := dk_153 0 32 (dk_at dksX9_eat_0 10 rfl rfl)
theorem dX9_eat_13 : decode cX9_eat 13 = .ok (.aload_n 0, 1) := dk_42 (dk_at dksX9_eat_0 13 rfl rfl)
theorem dX9_eat_14 : decode cX9_eat 14 = .ok (.iload_n 2, 1) := dk_28 (dk_at dksX9_eat_0 14 rfl rfl)
theorem dX9_eat_15 : decode cX9_eat 15 = .ok (.invokevirtual 250, 3) := dk_182 0 250 (dk_at dksX9_eat_0 15 rfl rfl)
theorem dX9_eat_18 : decode cX9_eat 18 = .ok (.ifCond .eq 24, 3) := dk_153 0 24 (dk_at dksX9_eat_0 18 rfl rfl)
theorem dX9_eat_21 : decode cX9_eat 21 = .ok (.iload_n 3, 1) := dk_29 (dk_at dksX9_eat_0 21 rfl rfl)
theorem dX9_eat_22 : decode cX9_eat 22 = .ok (.iconst 1, 1) := dk_4 (dk_at dksX9_eat_0 22 rfl rfl)
theorem dX9_eat_23 : decode cX9_eat 23 = .ok (.bipush 20, 2) := dk_16 20 (dk_at dksX9_eat_1 0 rfl rfl)
theorem dX9_eat_25 : decode cX9_eat 25 = .ok (.invokestatic 149, 3) := dk_184 0 149 (dk_at dksX9_eat_1 2 rfl rfl)
theorem dX9_eat_28 : decode cX9_eat 28 = .ok (.ifCond .eq 14, 3) := dk_153 0 14 (dk_at dksX9_eat_1 5 rfl rfl)
theorem dX9_eat_31 : decode cX9_eat 31 = .ok (.aload_n 0, 1) := dk_42 (dk_at dksX9_eat_1 8 rfl rfl)
theorem dX9_eat_32 : decode cX9_eat 32 = .ok (.iconst 0, 1) := dk_3 (dk_at dksX9_eat_1 9 rfl rfl)
theorem dX9_eat_33 : decode cX9_eat 33 = .ok (.iload_n 1, 1) := dk_27 (dk_at dksX9_eat_1 10 rfl rfl)
theorem dX9_eat_34 : decode cX9_eat 34 = .ok (.iload_n 2, 1) := dk_28 (dk_at dksX9_eat_1 11 rfl rfl)
theorem dX9_eat_35 : decode cX9_eat 35 = .ok (.iload_n 3, 1) := dk_29 (dk_at dksX9_eat_1 12 rfl rfl)
theorem dX9_eat_36 : decode cX9_eat 36 = .ok (.invokevirtual 289, 3) := dk_182 1 33 (dk_at dksX9_eat_1 13 rfl rfl)
theorem dX9_eat_39 : decode cX9_eat 39 = .ok (.goto 4, 3) := dk_167 0 4 (dk_at dksX9_eat_1 16 rfl rfl)
theorem dX9_eat_42 : decode cX9_eat 42 = .ok (.iconst (-1), 1) := dk_2 (dk_at dksX9_eat_1 19 rfl rfl)
theorem dX9_eat_43 : decode cX9_eat 43 = .ok (.ireturn, 1) := dk_172 (dk_at dksX9_eat_1 20 rfl rfl)
abbrev cX9_act : ByteArray := prog_25_method_62_code
def yX9_act : MethodName := ⟨RX9, "act", "(IIII)I"⟩
def dkwX9_act_1 : List UInt8 := [27, 28, 29, 21, 4, 182, 1, 29, 3, 172]
abbrev dktX9_act_1 : List UInt8 := dkwX9_act_1 ++ []
def dkwX9_act_0 : List UInt8 := [42, 27, 28, 29, 21, 4, 182, 1, 22, 54, 5, 21, 5, 153, 0, 6, 21, 5, 172, 42, 182, 1, 26, 42]
abbrev dktX9_act_0 : List UInt8 := dkwX9_act_0 ++ dktX9_act_1
theorem dksX9_act_0 : cX9_act.data.toList.drop 0 = dktX9_act_0 := by decide +kernel
theorem dksX9_act_1 : cX9_act.data.toList.drop 24 = dktX9_act_1 := dk_seg dksX9_act_0 24 rfl rfl
theorem dX9_act_0 : decode cX9_act 0 = .ok (.aload_n 0, 1) := dk_42 (dk_at dksX9_act_0 0 rfl rfl)
theorem dX9_act_1 : decode cX9_act 1 = .ok (.iload_n 1, 1) := dk_27 (dk_at dksX9_act_0 1 rfl rfl)
theorem dX9_act_2 : decode cX9_act 2 = .ok (.iload_n 2, 1) := dk_28 (dk_at dksX9_act_0 2 rfl rfl)
theorem dX9_act_3 : decode cX9_act 3 = .ok (.iload_n 3, 1) := dk_29 (dk_at dksX9_act_0 3 rfl rfl)
theorem dX9_act_4 : decode cX9_act 4 = .ok (.iload 4, 2) := dk_21 4 (dk_at dksX9_act_0 4 rfl rfl)
theorem dX9_act_6 : decode cX9_act 6 = .ok (.invokevirtual 278, 3) := dk_182 1 22 (dk_at dksX9_act_0 6 rfl rfl)
theorem dX9_act_9 : decode cX9_act 9 = .ok (.istore 5, 2) := dk_54 5 (dk_at dksX9_act_0 9 rfl rfl)
theorem dX9_act_11 : decode cX9_act 11 = .ok (.iload 5, 2) := dk_21 5 (dk_at dksX9_act_0 11 rfl rfl)
theorem dX9_act_13 : decode cX9_act 13 = .ok (.ifCond .eq 6, 3) := dk_153 0 6 (dk_at dksX9_act_0 13 rfl rfl)
theorem dX9_act_16 : decode cX9_act 16 = .ok (.iload 5, 2) := dk_21 5 (dk_at dksX9_act_0 16 rfl rfl)
theorem dX9_act_18 : decode cX9_act 18 = .ok (.ireturn, 1) := dk_172 (dk_at dksX9_act_0 18 rfl rfl)
theorem dX9_act_19 : decode cX9_act 19 = .ok (.aload_n 0, 1) := dk_42 (dk_at dksX9_act_0 19 rfl rfl)
theorem dX9_act_20 : decode cX9_act 20 = .ok (.invokevirtual 282, 3) := dk_182 1 26 (dk_at dksX9_act_0 20 rfl rfl)
theorem dX9_act_23 : decode cX9_act 23 = .ok (.aload_n 0, 1) := dk_42 (dk_at dksX9_act_0 23 rfl rfl)
theorem dX9_act_24 : decode cX9_act 24 = .ok (.iload_n 1, 1) := dk_27 (dk_at dksX9_act_1 0 rfl rfl)
theorem dX9_act_25 : decode cX9_act 25 = .ok (.iload_n 2, 1) := dk_28 (dk_at dksX9_act_1 1 rfl rfl)
theorem dX9_act_26 : decode cX9_act 26 = .ok (.iload_n 3, 1) := dk_29 (dk_at dksX9_act_1 2 rfl rfl)
theorem dX9_act_27 : decode cX9_act 27 = .ok (.iload 4, 2) := dk_21 4 (dk_at dksX9_act_1 3 rfl rfl)
theorem dX9_act_29 : decode cX9_act 29 = .ok (.invokevirtual 285, 3) := dk_182 1 29 (dk_at dksX9_act_1 5 rfl rfl)
theorem dX9_act_32 : decode cX9_act 32 = .ok (.iconst 0, 1) := dk_3 (dk_at dksX9_act_1 8 rfl rfl)
theorem dX9_act_33 : decode cX9_act 33 = .ok (.ireturn, 1) := dk_172 (dk_at dksX9_act_1 9 rfl rfl)
abbrev cX9_why : ByteArray := prog_25_method_59_code
def yX9_why : MethodName := ⟨RX9, "why", "(IIII)I"⟩
def dkwX9_why_6 : List UInt8 := [184, 0, 231, 153, 0, 7, 3, 167, 0, 4, 5, 172, 3, 172]
abbrev dktX9_why_6 : List UInt8 := dkwX9_why_6 ++ []
def dkwX9_why_5 : List UInt8 := [16, 74, 46, 28, 184, 0, 231, 153, 0, 7, 5, 167, 0, 4, 3, 172, 42, 180, 0, 13, 16, 74, 46, 28]
abbrev dktX9_why_5 : List UInt8 := dkwX9_why_5 ++ dktX9_why_6
def dkwX9_why_4 : List UInt8 := [167, 0, 4, 3, 172, 42, 28, 182, 0, 247, 154, 0, 7, 5, 167, 0, 4, 3, 172, 42, 180, 0, 13]
abbrev dktX9_why_4 : List UInt8 := dkwX9_why_4 ++ dktX9_why_5
def dkwX9_why_3 : List UInt8 := [164, 0, 7, 6, 167, 0, 4, 3, 172, 42, 180, 0, 13, 16, 78, 29, 96, 46, 21, 4, 162, 0, 7, 5]
abbrev dktX9_why_3 : List UInt8 := dkwX9_why_3 ++ dktX9_why_4
def dkwX9_why_2 : List UInt8 := [42, 28, 29, 182, 0, 234, 21, 4, 162, 0, 7, 5, 167, 0, 18, 21, 4, 42, 28, 182, 1, 12]
abbrev dktX9_why_2 : List UInt8 := dkwX9_why_2 ++ dktX9_why_3
def dkwX9_why_1 : List UInt8 := [170, 0, 0, 0, 138, 0, 0, 0, 0, 0, 0, 0, 4, 0, 0, 0, 33, 0, 0, 0, 64, 0, 0, 0, 84, 0, 0, 0, 98, 0, 0, 0, 118]
abbrev dktX9_why_1 : List UInt8 := dkwX9_why_1 ++ dktX9_why_2
def dkwX9_why_0 : List UInt8 := [42, 28, 182, 0, 244, 153, 0, 5, 4, 172, 27]
abbrev dktX9_why_0 : List UInt8 := dkwX9_why_0 ++ dktX9_why_1
theorem dksX9_why_0 : cX9_why.data.toList.drop 0 = dktX9_why_0 := by decide +kernel
theorem dksX9_why_1 : cX9_why.data.toList.drop 11 = dktX9_why_1 := dk_seg dksX9_why_0 11 rfl rfl
theorem dksX9_why_2 : cX9_why.data.toList.drop 44 = dktX9_why_2 := dk_seg dksX9_why_1 33 rfl rfl
theorem dksX9_why_3 : cX9_why.data.toList.drop 66 = dktX9_why_3 := dk_seg dksX9_why_2 22 rfl rfl
theorem dksX9_why_4 : cX9_why.data.toList.drop 90 = dktX9_why_4 := dk_seg dksX9_why_3 24 rfl rfl
theorem dksX9_why_5 : cX9_why.data.toList.drop 113 = dktX9_why_5 := dk_seg dksX9_why_4 23 rfl rfl
theorem dksX9_why_6 : cX9_why.data.toList.drop 137 = dktX9_why_6 := dk_seg dksX9_why_5 24 rfl rfl
theorem dX9_why_0 : decode cX9_why 0 = .ok (.aload_n 0, 1) := dk_42 (dk_at dksX9_why_0 0 rfl rfl)
theorem dX9_why_1 : decode cX9_why 1 = .ok (.iload_n 2, 1) := dk_28 (dk_at dksX9_why_0 1 rfl rfl)
theorem dX9_why_2 : decode cX9_why 2 = .ok (.invokevirtual 244, 3) := dk_182 0 244 (dk_at dksX9_why_0 2 rfl rfl)
theorem dX9_why_5 : decode cX9_why 5 = .ok (.ifCond .eq 5, 3) := dk_153 0 5 (dk_at dksX9_why_0 5 rfl rfl)
theorem dX9_why_8 : decode cX9_why 8 = .ok (.iconst 1, 1) := dk_4 (dk_at dksX9_why_0 8 rfl rfl)
theorem dX9_why_9 : decode cX9_why 9 = .ok (.ireturn, 1) := dk_172 (dk_at dksX9_why_0 9 rfl rfl)
theorem dX9_why_10 : decode cX9_why 10 = .ok (.iload_n 1, 1) := dk_27 (dk_at dksX9_why_0 10 rfl rfl)
theorem dX9_why_11 : decode cX9_why 11 = .ok (.tableswitch 138 0 4 #[33, 64, 84, 98, 118], 33) := by decide +kernel
theorem dX9_why_44 : decode cX9_why 44 = .ok (.aload_n 0, 1) := dk_42 (dk_at dksX9_why_2 0 rfl rfl)
theorem dX9_why_45 : decode cX9_why 45 = .ok (.iload_n 2, 1) := dk_28 (dk_at dksX9_why_2 1 rfl rfl)
theorem dX9_why_46 : decode cX9_why 46 = .ok (.iload_n 3, 1) := dk_29 (dk_at dksX9_why_2 2 rfl rfl)
theorem dX9_why_47 : decode cX9_why 47 = .ok (.invokevirtual 234, 3) := dk_182 0 234 (dk_at dksX9_why_2 3 rfl rfl)
theorem dX9_why_50 : decode cX9_why 50 = .ok (.iload 4, 2) := dk_21 4 (dk_at dksX9_why_2 6 rfl rfl)
theorem dX9_why_52 : decode cX9_why 52 = .ok (.if_icmp .ge 7, 3) := dk_162 0 7 (dk_at dksX9_why_2 8 rfl rfl)
theorem dX9_why_55 : decode cX9_why 55 = .ok (.iconst 2, 1) := dk_5 (dk_at dksX9_why_2 11 rfl rfl)
theorem dX9_why_56 : decode cX9_why 56 = .ok (.goto 18, 3) := dk_167 0 18 (dk_at dksX9_why_2 12 rfl rfl)
theorem dX9_why_59 : decode cX9_why 59 = .ok (.iload 4, 2) := dk_21 4 (dk_at dksX9_why_2 15 rfl rfl)
theorem dX9_why_61 : decode cX9_why 61 = .ok (.aload_n 0, 1) := dk_42 (dk_at dksX9_why_2 17 rfl rfl)
theorem dX9_why_62 : decode cX9_why 62 = .ok (.iload_n 2, 1) := dk_28 (dk_at dksX9_why_2 18 rfl rfl)
theorem dX9_why_63 : decode cX9_why 63 = .ok (.invokevirtual 268, 3) := dk_182 1 12 (dk_at dksX9_why_2 19 rfl rfl)
theorem dX9_why_66 : decode cX9_why 66 = .ok (.if_icmp .le 7, 3) := dk_164 0 7 (dk_at dksX9_why_3 0 rfl rfl)
theorem dX9_why_69 : decode cX9_why 69 = .ok (.iconst 3, 1) := dk_6 (dk_at dksX9_why_3 3 rfl rfl)
theorem dX9_why_70 : decode cX9_why 70 = .ok (.goto 4, 3) := dk_167 0 4 (dk_at dksX9_why_3 4 rfl rfl)
theorem dX9_why_73 : decode cX9_why 73 = .ok (.iconst 0, 1) := dk_3 (dk_at dksX9_why_3 7 rfl rfl)
theorem dX9_why_74 : decode cX9_why 74 = .ok (.ireturn, 1) := dk_172 (dk_at dksX9_why_3 8 rfl rfl)
theorem dX9_why_75 : decode cX9_why 75 = .ok (.aload_n 0, 1) := dk_42 (dk_at dksX9_why_3 9 rfl rfl)
theorem dX9_why_76 : decode cX9_why 76 = .ok (.getfield 13, 3) := dk_180 0 13 (dk_at dksX9_why_3 10 rfl rfl)
theorem dX9_why_79 : decode cX9_why 79 = .ok (.bipush 78, 2) := dk_16 78 (dk_at dksX9_why_3 13 rfl rfl)
theorem dX9_why_81 : decode cX9_why 81 = .ok (.iload_n 3, 1) := dk_29 (dk_at dksX9_why_3 15 rfl rfl)
theorem dX9_why_82 : decode cX9_why 82 = .ok (.iadd, 1) := dk_96 (dk_at dksX9_why_3 16 rfl rfl)
theorem dX9_why_83 : decode cX9_why 83 = .ok (.iaload, 1) := dk_46 (dk_at dksX9_why_3 17 rfl rfl)
theorem dX9_why_84 : decode cX9_why 84 = .ok (.iload 4, 2) := dk_21 4 (dk_at dksX9_why_3 18 rfl rfl)
theorem dX9_why_86 : decode cX9_why 86 = .ok (.if_icmp .ge 7, 3) := dk_162 0 7 (dk_at dksX9_why_3 20 rfl rfl)
theorem dX9_why_89 : decode cX9_why 89 = .ok (.iconst 2, 1) := dk_5 (dk_at dksX9_why_3 23 rfl rfl)
theorem dX9_why_90 : decode cX9_why 90 = .ok (.goto 4, 3) := dk_167 0 4 (dk_at dksX9_why_4 0 rfl rfl)
theorem dX9_why_93 : decode cX9_why 93 = .ok (.iconst 0, 1) := dk_3 (dk_at dksX9_why_4 3 rfl rfl)
theorem dX9_why_94 : decode cX9_why 94 = .ok (.ireturn, 1) := dk_172 (dk_at dksX9_why_4 4 rfl rfl)
theorem dX9_why_95 : decode cX9_why 95 = .ok (.aload_n 0, 1) := dk_42 (dk_at dksX9_why_4 5 rfl rfl)
theorem dX9_why_96 : decode cX9_why 96 = .ok (.iload_n 2, 1) := dk_28 (dk_at dksX9_why_4 6 rfl rfl)
theorem dX9_why_97 : decode cX9_why 97 = .ok (.invokevirtual 247, 3) := dk_182 0 247 (dk_at dksX9_why_4 7 rfl rfl)
theorem dX9_why_100 : decode cX9_why 100 = .ok (.ifCond .ne 7, 3) := dk_154 0 7 (dk_at dksX9_why_4 10 rfl rfl)
theorem dX9_why_103 : decode cX9_why 103 = .ok (.iconst 2, 1) := dk_5 (dk_at dksX9_why_4 13 rfl rfl)
theorem dX9_why_104 : decode cX9_why 104 = .ok (.goto 4, 3) := dk_167 0 4 (dk_at dksX9_why_4 14 rfl rfl)
theorem dX9_why_107 : decode cX9_why 107 = .ok (.iconst 0, 1) := dk_3 (dk_at dksX9_why_4 17 rfl rfl)
theorem dX9_why_108 : decode cX9_why 108 = .ok (.ireturn, 1) := dk_172 (dk_at dksX9_why_4 18 rfl rfl)
theorem dX9_why_109 : decode cX9_why 109 = .ok (.aload_n 0, 1) := dk_42 (dk_at dksX9_why_4 19 rfl rfl)
theorem dX9_why_110 : decode cX9_why 110 = .ok (.getfield 13, 3) := dk_180 0 13 (dk_at dksX9_why_4 20 rfl rfl)
theorem dX9_why_113 : decode cX9_why 113 = .ok (.bipush 74, 2) := dk_16 74 (dk_at dksX9_why_5 0 rfl rfl)
theorem dX9_why_115 : decode cX9_why 115 = .ok (.iaload, 1) := dk_46 (dk_at dksX9_why_5 2 rfl rfl)
theorem dX9_why_116 : decode cX9_why 116 = .ok (.iload_n 2, 1) := dk_28 (dk_at dksX9_why_5 3 rfl rfl)
theorem dX9_why_117 : decode cX9_why 117 = .ok (.invokestatic 231, 3) := dk_184 0 231 (dk_at dksX9_why_5 4 rfl rfl)
theorem dX9_why_120 : decode cX9_why 120 = .ok (.ifCond .eq 7, 3) := dk_153 0 7 (dk_at dksX9_why_5 7 rfl rfl)
theorem dX9_why_123 : decode cX9_why 123 = .ok (.iconst 2, 1) := dk_5 (dk_at dksX9_why_5 10 rfl rfl)
theorem dX9_why_124 : decode cX9_why 124 = .ok (.goto 4, 3) := dk_167 0 4 (dk_at dksX9_why_5 11 rfl rfl)
theorem dX9_why_127 : decode cX9_why 127 = .ok (.iconst 0, 1) := dk_3 (dk_at dksX9_why_5 14 rfl rfl)
theorem dX9_why_128 : decode cX9_why 128 = .ok (.ireturn, 1) := dk_172 (dk_at dksX9_why_5 15 rfl rfl)
theorem dX9_why_129 : decode cX9_why 129 = .ok (.aload_n 0, 1) := dk_42 (dk_at dksX9_why_5 16 rfl rfl)
theorem dX9_why_130 : decode cX9_why 130 = .ok (.getfield 13, 3) := dk_180 0 13 (dk_at dksX9_why_5 17 rfl rfl)
theorem dX9_why_133 : decode cX9_why 133 = .ok (.bipush 74, 2) := dk_16 74 (dk_at dksX9_why_5 20 rfl rfl)
theorem dX9_why_135 : decode cX9_why 135 = .ok (.iaload, 1) := dk_46 (dk_at dksX9_why_5 22 rfl rfl)
theorem dX9_why_136 : decode cX9_why 136 = .ok (.iload_n 2, 1) := dk_28 (dk_at dksX9_why_5 23 rfl rfl)
theorem dX9_why_137 : decode cX9_why 137 = .ok (.invokestatic 231, 3) := dk_184 0 231 (dk_at dksX9_why_6 0 rfl rfl)
theorem dX9_why_140 : decode cX9_why 140 = .ok (.ifCond .eq 7, 3) := dk_153 0 7 (dk_at dksX9_why_6 3 rfl rfl)
theorem dX9_why_143 : decode cX9_why 143 = .ok (.iconst 0, 1) := dk_3 (dk_at dksX9_why_6 6 rfl rfl)
theorem dX9_why_144 : decode cX9_why 144 = .ok (.goto 4, 3) := dk_167 0 4 (dk_at dksX9_why_6 7 rfl rfl)
theorem dX9_why_147 : decode cX9_why 147 = .ok (.iconst 2, 1) := dk_5 (dk_at dksX9_why_6 10 rfl rfl)
theorem dX9_why_148 : decode cX9_why 148 = .ok (.ireturn, 1) := dk_172 (dk_at dksX9_why_6 11 rfl rfl)
theorem dX9_why_149 : decode cX9_why 149 = .ok (.iconst 0, 1) := dk_3 (dk_at dksX9_why_6 12 rfl rfl)
theorem dX9_why_150 : decode cX9_why 150 = .ok (.ireturn, 1) := dk_172 (dk_at dksX9_why_6 13 rfl rfl)
abbrev cX9_wantsYet : ByteArray := prog_25_method_46_code
def yX9_wantsYet : MethodName := ⟨RX9, "wantsYet", "(I)I"⟩
def dkwX9_wantsYet_0 : List UInt8 := [42, 180, 0, 13, 7, 27, 96, 46, 42, 180, 0, 13, 16, 91, 27, 96, 46, 100, 172]
abbrev dktX9_wantsYet_0 : List UInt8 := dkwX9_wantsYet_0 ++ []
theorem dksX9_wantsYet_0 : cX9_wantsYet.data.toList.drop 0 = dktX9_wantsYet_0 := by decide +kernel
theorem dX9_wantsYet_0 : decode cX9_wantsYet 0 = .ok (.aload_n 0, 1) := dk_42 (dk_at dksX9_wantsYet_0 0 rfl rfl)
theorem dX9_wantsYet_1 : decode cX9_wantsYet 1 = .ok (.getfield 13, 3) := dk_180 0 13 (dk_at dksX9_wantsYet_0 1 rfl rfl)
theorem dX9_wantsYet_4 : decode cX9_wantsYet 4 = .ok (.iconst 4, 1) := dk_7 (dk_at dksX9_wantsYet_0 4 rfl rfl)
theorem dX9_wantsYet_5 : decode cX9_wantsYet 5 = .ok (.iload_n 1, 1) := dk_27 (dk_at dksX9_wantsYet_0 5 rfl rfl)
theorem dX9_wantsYet_6 : decode cX9_wantsYet 6 = .ok (.iadd, 1) := dk_96 (dk_at dksX9_wantsYet_0 6 rfl rfl)
theorem dX9_wantsYet_7 : decode cX9_wantsYet 7 = .ok (.iaload, 1) := dk_46 (dk_at dksX9_wantsYet_0 7 rfl rfl)
theorem dX9_wantsYet_8 : decode cX9_wantsYet 8 = .ok (.aload_n 0, 1) := dk_42 (dk_at dksX9_wantsYet_0 8 rfl rfl)
theorem dX9_wantsYet_9 : decode cX9_wantsYet 9 = .ok (.getfield 13, 3) := dk_180 0 13 (dk_at dksX9_wantsYet_0 9 rfl rfl)
theorem dX9_wantsYet_12 : decode cX9_wantsYet 12 = .ok (.bipush 91, 2) := dk_16 91 (dk_at dksX9_wantsYet_0 12 rfl rfl)
theorem dX9_wantsYet_14 : decode cX9_wantsYet 14 = .ok (.iload_n 1, 1) := dk_27 (dk_at dksX9_wantsYet_0 14 rfl rfl)
theorem dX9_wantsYet_15 : decode cX9_wantsYet 15 = .ok (.iadd, 1) := dk_96 (dk_at dksX9_wantsYet_0 15 rfl rfl)
theorem dX9_wantsYet_16 : decode cX9_wantsYet 16 = .ok (.iaload, 1) := dk_46 (dk_at dksX9_wantsYet_0 16 rfl rfl)
theorem dX9_wantsYet_17 : decode cX9_wantsYet 17 = .ok (.isub, 1) := dk_100 (dk_at dksX9_wantsYet_0 17 rfl rfl)
theorem dX9_wantsYet_18 : decode cX9_wantsYet 18 = .ok (.ireturn, 1) := dk_172 (dk_at dksX9_wantsYet_0 18 rfl rfl)
abbrev cX9_snap : ByteArray := prog_25_method_58_code
def yX9_snap : MethodName := ⟨RX9, "snap", "()V"⟩
def dkwX9_snap_4 : List UInt8 := [181, 0, 228, 177]
abbrev dktX9_snap_4 : List UInt8 := dkwX9_snap_4 ++ []
def dkwX9_snap_3 : List UInt8 := [42, 180, 0, 13, 16, 72, 27, 96, 46, 79, 132, 1, 1, 167, 255, 224, 42, 89, 180, 0, 228, 4, 96]
abbrev dktX9_snap_3 : List UInt8 := dkwX9_snap_3 ++ dktX9_snap_4
def dkwX9_snap_2 : List UInt8 := [181, 0, 228, 3, 60, 27, 16, 75, 162, 0, 32, 42, 180, 0, 22, 16, 75, 42, 180, 0, 228, 104, 27, 96]
abbrev dktX9_snap_2 : List UInt8 := dkwX9_snap_2 ++ dktX9_snap_3
def dkwX9_snap_1 : List UInt8 := [180, 0, 22, 27, 16, 75, 96, 46, 79, 132, 1, 1, 167, 255, 231, 42, 89, 180, 0, 228, 4, 100]
abbrev dktX9_snap_1 : List UInt8 := dkwX9_snap_1 ++ dktX9_snap_2
def dkwX9_snap_0 : List UInt8 := [42, 180, 0, 228, 16, 8, 160, 0, 43, 3, 60, 27, 17, 2, 13, 162, 0, 24, 42, 180, 0, 22, 27, 42]
abbrev dktX9_snap_0 : List UInt8 := dkwX9_snap_0 ++ dktX9_snap_1
theorem dksX9_snap_0 : cX9_snap.data.toList.drop 0 = dktX9_snap_0 := by decide +kernel
theorem dksX9_snap_1 : cX9_snap.data.toList.drop 24 = dktX9_snap_1 := dk_seg dksX9_snap_0 24 rfl rfl
theorem dksX9_snap_2 : cX9_snap.data.toList.drop 46 = dktX9_snap_2 := dk_seg dksX9_snap_1 22 rfl rfl
theorem dksX9_snap_3 : cX9_snap.data.toList.drop 70 = dktX9_snap_3 := dk_seg dksX9_snap_2 24 rfl rfl
theorem dksX9_snap_4 : cX9_snap.data.toList.drop 93 = dktX9_snap_4 := dk_seg dksX9_snap_3 23 rfl rfl
theorem dX9_snap_0 : decode cX9_snap 0 = .ok (.aload_n 0, 1) := dk_42 (dk_at dksX9_snap_0 0 rfl rfl)
theorem dX9_snap_1 : decode cX9_snap 1 = .ok (.getfield 228, 3) := dk_180 0 228 (dk_at dksX9_snap_0 1 rfl rfl)
theorem dX9_snap_4 : decode cX9_snap 4 = .ok (.bipush 8, 2) := dk_16 8 (dk_at dksX9_snap_0 4 rfl rfl)
theorem dX9_snap_6 : decode cX9_snap 6 = .ok (.if_icmp .ne 43, 3) := dk_160 0 43 (dk_at dksX9_snap_0 6 rfl rfl)
theorem dX9_snap_9 : decode cX9_snap 9 = .ok (.iconst 0, 1) := dk_3 (dk_at dksX9_snap_0 9 rfl rfl)
theorem dX9_snap_10 : decode cX9_snap 10 = .ok (.istore_n 1, 1) := dk_60 (dk_at dksX9_snap_0 10 rfl rfl)
theorem dX9_snap_11 : decode cX9_snap 11 = .ok (.iload_n 1, 1) := dk_27 (dk_at dksX9_snap_0 11 rfl rfl)
theorem dX9_snap_12 : decode cX9_snap 12 = .ok (.sipush 525, 3) := dk_17 2 13 (dk_at dksX9_snap_0 12 rfl rfl)
theorem dX9_snap_15 : decode cX9_snap 15 = .ok (.if_icmp .ge 24, 3) := dk_162 0 24 (dk_at dksX9_snap_0 15 rfl rfl)
theorem dX9_snap_18 : decode cX9_snap 18 = .ok (.aload_n 0, 1) := dk_42 (dk_at dksX9_snap_0 18 rfl rfl)
theorem dX9_snap_19 : decode cX9_snap 19 = .ok (.getfield 22, 3) := dk_180 0 22 (dk_at dksX9_snap_0 19 rfl rfl)
theorem dX9_snap_22 : decode cX9_snap 22 = .ok (.iload_n 1, 1) := dk_27 (dk_at dksX9_snap_0 22 rfl rfl)
theorem dX9_snap_23 : decode cX9_snap 23 = .ok (.aload_n 0, 1) := dk_42 (dk_at dksX9_snap_0 23 rfl rfl)
theorem dX9_snap_24 : decode cX9_snap 24 = .ok (.getfield 22, 3) := dk_180 0 22 (dk_at dksX9_snap_1 0 rfl rfl)
theorem dX9_snap_27 : decode cX9_snap 27 = .ok (.iload_n 1, 1) := dk_27 (dk_at dksX9_snap_1 3 rfl rfl)
theorem dX9_snap_28 : decode cX9_snap 28 = .ok (.bipush 75, 2) := dk_16 75 (dk_at dksX9_snap_1 4 rfl rfl)
theorem dX9_snap_30 : decode cX9_snap 30 = .ok (.iadd, 1) := dk_96 (dk_at dksX9_snap_1 6 rfl rfl)
theorem dX9_snap_31 : decode cX9_snap 31 = .ok (.iaload, 1) := dk_46 (dk_at dksX9_snap_1 7 rfl rfl)
theorem dX9_snap_32 : decode cX9_snap 32 = .ok (.iastore, 1) := dk_79 (dk_at dksX9_snap_1 8 rfl rfl)
theorem dX9_snap_33 : decode cX9_snap 33 = .ok (.iinc 1 1, 3) := dk_132 1 1 (dk_at dksX9_snap_1 9 rfl rfl)
theorem dX9_snap_36 : decode cX9_snap 36 = .ok (.goto (-25), 3) := dk_167 255 231 (dk_at dksX9_snap_1 12 rfl rfl)
theorem dX9_snap_39 : decode cX9_snap 39 = .ok (.aload_n 0, 1) := dk_42 (dk_at dksX9_snap_1 15 rfl rfl)
theorem dX9_snap_40 : decode cX9_snap 40 = .ok (.dup, 1) := dk_89 (dk_at dksX9_snap_1 16 rfl rfl)
theorem dX9_snap_41 : decode cX9_snap 41 = .ok (.getfield 228, 3) := dk_180 0 228 (dk_at dksX9_snap_1 17 rfl rfl)
theorem dX9_snap_44 : decode cX9_snap 44 = .ok (.iconst 1, 1) := dk_4 (dk_at dksX9_snap_1 20 rfl rfl)
theorem dX9_snap_45 : decode cX9_snap 45 = .ok (.isub, 1) := dk_100 (dk_at dksX9_snap_1 21 rfl rfl)
theorem dX9_snap_46 : decode cX9_snap 46 = .ok (.putfield 228, 3) := dk_181 0 228 (dk_at dksX9_snap_2 0 rfl rfl)
theorem dX9_snap_49 : decode cX9_snap 49 = .ok (.iconst 0, 1) := dk_3 (dk_at dksX9_snap_2 3 rfl rfl)
theorem dX9_snap_50 : decode cX9_snap 50 = .ok (.istore_n 1, 1) := dk_60 (dk_at dksX9_snap_2 4 rfl rfl)
theorem dX9_snap_51 : decode cX9_snap 51 = .ok (.iload_n 1, 1) := dk_27 (dk_at dksX9_snap_2 5 rfl rfl)
theorem dX9_snap_52 : decode cX9_snap 52 = .ok (.bipush 75, 2) := dk_16 75 (dk_at dksX9_snap_2 6 rfl rfl)
theorem dX9_snap_54 : decode cX9_snap 54 = .ok (.if_icmp .ge 32, 3) := dk_162 0 32 (dk_at dksX9_snap_2 8 rfl rfl)
theorem dX9_snap_57 : decode cX9_snap 57 = .ok (.aload_n 0, 1) := dk_42 (dk_at dksX9_snap_2 11 rfl rfl)
theorem dX9_snap_58 : decode cX9_snap 58 = .ok (.getfield 22, 3) := dk_180 0 22 (dk_at dksX9_snap_2 12 rfl rfl)
theorem dX9_snap_61 : decode cX9_snap 61 = .ok (.bipush 75, 2) := dk_16 75 (dk_at dksX9_snap_2 15 rfl rfl)
theorem dX9_snap_63 : decode cX9_snap 63 = .ok (.aload_n 0, 1) := dk_42 (dk_at dksX9_snap_2 17 rfl rfl)
theorem dX9_snap_64 : decode cX9_snap 64 = .ok (.getfield 228, 3) := dk_180 0 228 (dk_at dksX9_snap_2 18 rfl rfl)
theorem dX9_snap_67 : decode cX9_snap 67 = .ok (.imul, 1) := dk_104 (dk_at dksX9_snap_2 21 rfl rfl)
theorem dX9_snap_68 : decode cX9_snap 68 = .ok (.iload_n 1, 1) := dk_27 (dk_at dksX9_snap_2 22 rfl rfl)
theorem dX9_snap_69 : decode cX9_snap 69 = .ok (.iadd, 1) := dk_96 (dk_at dksX9_snap_2 23 rfl rfl)
theorem dX9_snap_70 : decode cX9_snap 70 = .ok (.aload_n 0, 1) := dk_42 (dk_at dksX9_snap_3 0 rfl rfl)
theorem dX9_snap_71 : decode cX9_snap 71 = .ok (.getfield 13, 3) := dk_180 0 13 (dk_at dksX9_snap_3 1 rfl rfl)
theorem dX9_snap_74 : decode cX9_snap 74 = .ok (.bipush 72, 2) := dk_16 72 (dk_at dksX9_snap_3 4 rfl rfl)
theorem dX9_snap_76 : decode cX9_snap 76 = .ok (.iload_n 1, 1) := dk_27 (dk_at dksX9_snap_3 6 rfl rfl)
theorem dX9_snap_77 : decode cX9_snap 77 = .ok (.iadd, 1) := dk_96 (dk_at dksX9_snap_3 7 rfl rfl)
theorem dX9_snap_78 : decode cX9_snap 78 = .ok (.iaload, 1) := dk_46 (dk_at dksX9_snap_3 8 rfl rfl)
theorem dX9_snap_79 : decode cX9_snap 79 = .ok (.iastore, 1) := dk_79 (dk_at dksX9_snap_3 9 rfl rfl)
theorem dX9_snap_80 : decode cX9_snap 80 = .ok (.iinc 1 1, 3) := dk_132 1 1 (dk_at dksX9_snap_3 10 rfl rfl)
theorem dX9_snap_83 : decode cX9_snap 83 = .ok (.goto (-32), 3) := dk_167 255 224 (dk_at dksX9_snap_3 13 rfl rfl)
theorem dX9_snap_86 : decode cX9_snap 86 = .ok (.aload_n 0, 1) := dk_42 (dk_at dksX9_snap_3 16 rfl rfl)
theorem dX9_snap_87 : decode cX9_snap 87 = .ok (.dup, 1) := dk_89 (dk_at dksX9_snap_3 17 rfl rfl)
theorem dX9_snap_88 : decode cX9_snap 88 = .ok (.getfield 228, 3) := dk_180 0 228 (dk_at dksX9_snap_3 18 rfl rfl)
theorem dX9_snap_91 : decode cX9_snap 91 = .ok (.iconst 1, 1) := dk_4 (dk_at dksX9_snap_3 21 rfl rfl)
theorem dX9_snap_92 : decode cX9_snap 92 = .ok (.iadd, 1) := dk_96 (dk_at dksX9_snap_3 22 rfl rfl)
theorem dX9_snap_93 : decode cX9_snap 93 = .ok (.putfield 228, 3) := dk_181 0 228 (dk_at dksX9_snap_4 0 rfl rfl)
theorem dX9_snap_96 : decode cX9_snap 96 = .ok (.return_, 1) := dk_177 (dk_at dksX9_snap_4 3 rfl rfl)
abbrev cX9_live : ByteArray := prog_25_method_61_code
def yX9_live : MethodName := ⟨RX9, "live", "(IIII)V"⟩
def dkwX9_live_5 : List UInt8 := [28, 120, 128, 79, 42, 28, 182, 0, 247, 158, 0, 8, 42, 28, 182, 1, 19, 177]
abbrev dktX9_live_5 : List UInt8 := dkwX9_live_5 ++ []
def dkwX9_live_4 : List UInt8 := [177, 42, 180, 0, 13, 16, 74, 92, 46, 4, 28, 120, 130, 79, 177, 42, 180, 0, 13, 16, 73, 92, 46, 4]
abbrev dktX9_live_4 : List UInt8 := dkwX9_live_4 ++ dktX9_live_5
def dkwX9_live_3 : List UInt8 := [180, 0, 13, 16, 105, 16, 6, 28, 104, 96, 29, 96, 92, 46, 21, 4, 96, 79, 177, 42, 28, 182, 1, 19]
abbrev dktX9_live_3 : List UInt8 := dkwX9_live_3 ++ dktX9_live_4
def dkwX9_live_2 : List UInt8 := [42, 28, 29, 21, 4, 182, 1, 15, 177, 42, 180, 0, 13, 16, 78, 29, 96, 92, 46, 21, 4, 100, 79, 42]
abbrev dktX9_live_2 : List UInt8 := dkwX9_live_2 ++ dktX9_live_3
def dkwX9_live_1 : List UInt8 := [170, 0, 0, 0, 0, 0, 98, 0, 0, 0, 0, 0, 0, 0, 4, 0, 0, 0, 35, 0, 0, 0, 44, 0, 0, 0, 78, 0, 0, 0, 84, 0, 0, 0, 84]
abbrev dktX9_live_1 : List UInt8 := dkwX9_live_1 ++ dktX9_live_2
def dkwX9_live_0 : List UInt8 := [27]
abbrev dktX9_live_0 : List UInt8 := dkwX9_live_0 ++ dktX9_live_1
theorem dksX9_live_0 : cX9_live.data.toList.drop 0 = dktX9_live_0 := by decide +kernel
theorem dksX9_live_1 : cX9_live.data.toList.drop 1 = dktX9_live_1 := dk_seg dksX9_live_0 1 rfl rfl
theorem dksX9_live_2 : cX9_live.data.toList.drop 36 = dktX9_live_2 := dk_seg dksX9_live_1 35 rfl rfl
theorem dksX9_live_3 : cX9_live.data.toList.drop 60 = dktX9_live_3 := dk_seg dksX9_live_2 24 rfl rfl
theorem dksX9_live_4 : cX9_live.data.toList.drop 84 = dktX9_live_4 := dk_seg dksX9_live_3 24 rfl rfl
theorem dksX9_live_5 : cX9_live.data.toList.drop 108 = dktX9_live_5 := dk_seg dksX9_live_4 24 rfl rfl
theorem dX9_live_0 : decode cX9_live 0 = .ok (.iload_n 1, 1) := dk_27 (dk_at dksX9_live_0 0 rfl rfl)
theorem dX9_live_1 : decode cX9_live 1 = .ok (.tableswitch 98 0 4 #[35, 44, 78, 84, 84], 35) := by decide +kernel
theorem dX9_live_36 : decode cX9_live 36 = .ok (.aload_n 0, 1) := dk_42 (dk_at dksX9_live_2 0 rfl rfl)
theorem dX9_live_37 : decode cX9_live 37 = .ok (.iload_n 2, 1) := dk_28 (dk_at dksX9_live_2 1 rfl rfl)
theorem dX9_live_38 : decode cX9_live 38 = .ok (.iload_n 3, 1) := dk_29 (dk_at dksX9_live_2 2 rfl rfl)
theorem dX9_live_39 : decode cX9_live 39 = .ok (.iload 4, 2) := dk_21 4 (dk_at dksX9_live_2 3 rfl rfl)
theorem dX9_live_41 : decode cX9_live 41 = .ok (.invokevirtual 271, 3) := dk_182 1 15 (dk_at dksX9_live_2 5 rfl rfl)
theorem dX9_live_44 : decode cX9_live 44 = .ok (.return_, 1) := dk_177 (dk_at dksX9_live_2 8 rfl rfl)
theorem dX9_live_45 : decode cX9_live 45 = .ok (.aload_n 0, 1) := dk_42 (dk_at dksX9_live_2 9 rfl rfl)
theorem dX9_live_46 : decode cX9_live 46 = .ok (.getfield 13, 3) := dk_180 0 13 (dk_at dksX9_live_2 10 rfl rfl)
theorem dX9_live_49 : decode cX9_live 49 = .ok (.bipush 78, 2) := dk_16 78 (dk_at dksX9_live_2 13 rfl rfl)
theorem dX9_live_51 : decode cX9_live 51 = .ok (.iload_n 3, 1) := dk_29 (dk_at dksX9_live_2 15 rfl rfl)
theorem dX9_live_52 : decode cX9_live 52 = .ok (.iadd, 1) := dk_96 (dk_at dksX9_live_2 16 rfl rfl)
theorem dX9_live_53 : decode cX9_live 53 = .ok (.dup2, 1) := dk_92 (dk_at dksX9_live_2 17 rfl rfl)
theorem dX9_live_54 : decode cX9_live 54 = .ok (.iaload, 1) := dk_46 (dk_at dksX9_live_2 18 rfl rfl)
theorem dX9_live_55 : decode cX9_live 55 = .ok (.iload 4, 2) := dk_21 4 (dk_at dksX9_live_2 19 rfl rfl)
theorem dX9_live_57 : decode cX9_live 57 = .ok (.isub, 1) := dk_100 (dk_at dksX9_live_2 21 rfl rfl)
theorem dX9_live_58 : decode cX9_live 58 = .ok (.iastore, 1) := dk_79 (dk_at dksX9_live_2 22 rfl rfl)
theorem dX9_live_59 : decode cX9_live 59 = .ok (.aload_n 0, 1) := dk_42 (dk_at dksX9_live_2 23 rfl rfl)
theorem dX9_live_60 : decode cX9_live 60 = .ok (.getfield 13, 3) := dk_180 0 13 (dk_at dksX9_live_3 0 rfl rfl)
theorem dX9_live_63 : decode cX9_live 63 = .ok (.bipush 105, 2) := dk_16 105 (dk_at dksX9_live_3 3 rfl rfl)
theorem dX9_live_65 : decode cX9_live 65 = .ok (.bipush 6, 2) := dk_16 6 (dk_at dksX9_live_3 5 rfl rfl)
theorem dX9_live_67 : decode cX9_live 67 = .ok (.iload_n 2, 1) := dk_28 (dk_at dksX9_live_3 7 rfl rfl)
theorem dX9_live_68 : decode cX9_live 68 = .ok (.imul, 1) := dk_104 (dk_at dksX9_live_3 8 rfl rfl)
theorem dX9_live_69 : decode cX9_live 69 = .ok (.iadd, 1) := dk_96 (dk_at dksX9_live_3 9 rfl rfl)
theorem dX9_live_70 : decode cX9_live 70 = .ok (.iload_n 3, 1) := dk_29 (dk_at dksX9_live_3 10 rfl rfl)
theorem dX9_live_71 : decode cX9_live 71 = .ok (.iadd, 1) := dk_96 (dk_at dksX9_live_3 11 rfl rfl)
theorem dX9_live_72 : decode cX9_live 72 = .ok (.dup2, 1) := dk_92 (dk_at dksX9_live_3 12 rfl rfl)
theorem dX9_live_73 : decode cX9_live 73 = .ok (.iaload, 1) := dk_46 (dk_at dksX9_live_3 13 rfl rfl)
theorem dX9_live_74 : decode cX9_live 74 = .ok (.iload 4, 2) := dk_21 4 (dk_at dksX9_live_3 14 rfl rfl)
theorem dX9_live_76 : decode cX9_live 76 = .ok (.iadd, 1) := dk_96 (dk_at dksX9_live_3 16 rfl rfl)
theorem dX9_live_77 : decode cX9_live 77 = .ok (.iastore, 1) := dk_79 (dk_at dksX9_live_3 17 rfl rfl)
theorem dX9_live_78 : decode cX9_live 78 = .ok (.return_, 1) := dk_177 (dk_at dksX9_live_3 18 rfl rfl)
theorem dX9_live_79 : decode cX9_live 79 = .ok (.aload_n 0, 1) := dk_42 (dk_at dksX9_live_3 19 rfl rfl)
theorem dX9_live_80 : decode cX9_live 80 = .ok (.iload_n 2, 1) := dk_28 (dk_at dksX9_live_3 20 rfl rfl)
theorem dX9_live_81 : decode cX9_live 81 = .ok (.invokevirtual 275, 3) := dk_182 1 19 (dk_at dksX9_live_3 21 rfl rfl)
theorem dX9_live_84 : decode cX9_live 84 = .ok (.return_, 1) := dk_177 (dk_at dksX9_live_4 0 rfl rfl)
theorem dX9_live_85 : decode cX9_live 85 = .ok (.aload_n 0, 1) := dk_42 (dk_at dksX9_live_4 1 rfl rfl)
theorem dX9_live_86 : decode cX9_live 86 = .ok (.getfield 13, 3) := dk_180 0 13 (dk_at dksX9_live_4 2 rfl rfl)
theorem dX9_live_89 : decode cX9_live 89 = .ok (.bipush 74, 2) := dk_16 74 (dk_at dksX9_live_4 5 rfl rfl)
theorem dX9_live_91 : decode cX9_live 91 = .ok (.dup2, 1) := dk_92 (dk_at dksX9_live_4 7 rfl rfl)
theorem dX9_live_92 : decode cX9_live 92 = .ok (.iaload, 1) := dk_46 (dk_at dksX9_live_4 8 rfl rfl)
theorem dX9_live_93 : decode cX9_live 93 = .ok (.iconst 1, 1) := dk_4 (dk_at dksX9_live_4 9 rfl rfl)
theorem dX9_live_94 : decode cX9_live 94 = .ok (.iload_n 2, 1) := dk_28 (dk_at dksX9_live_4 10 rfl rfl)
theorem dX9_live_95 : decode cX9_live 95 = .ok (.ishl, 1) := dk_120 (dk_at dksX9_live_4 11 rfl rfl)
theorem dX9_live_96 : decode cX9_live 96 = .ok (.ixor, 1) := dk_130 (dk_at dksX9_live_4 12 rfl rfl)
theorem dX9_live_97 : decode cX9_live 97 = .ok (.iastore, 1) := dk_79 (dk_at dksX9_live_4 13 rfl rfl)
theorem dX9_live_98 : decode cX9_live 98 = .ok (.return_, 1) := dk_177 (dk_at dksX9_live_4 14 rfl rfl)
theorem dX9_live_99 : decode cX9_live 99 = .ok (.aload_n 0, 1) := dk_42 (dk_at dksX9_live_4 15 rfl rfl)
theorem dX9_live_100 : decode cX9_live 100 = .ok (.getfield 13, 3) := dk_180 0 13 (dk_at dksX9_live_4 16 rfl rfl)
theorem dX9_live_103 : decode cX9_live 103 = .ok (.bipush 73, 2) := dk_16 73 (dk_at dksX9_live_4 19 rfl rfl)
theorem dX9_live_105 : decode cX9_live 105 = .ok (.dup2, 1) := dk_92 (dk_at dksX9_live_4 21 rfl rfl)
theorem dX9_live_106 : decode cX9_live 106 = .ok (.iaload, 1) := dk_46 (dk_at dksX9_live_4 22 rfl rfl)
theorem dX9_live_107 : decode cX9_live 107 = .ok (.iconst 1, 1) := dk_4 (dk_at dksX9_live_4 23 rfl rfl)
theorem dX9_live_108 : decode cX9_live 108 = .ok (.iload_n 2, 1) := dk_28 (dk_at dksX9_live_5 0 rfl rfl)
theorem dX9_live_109 : decode cX9_live 109 = .ok (.ishl, 1) := dk_120 (dk_at dksX9_live_5 1 rfl rfl)
theorem dX9_live_110 : decode cX9_live 110 = .ok (.ior, 1) := dk_128 (dk_at dksX9_live_5 2 rfl rfl)
theorem dX9_live_111 : decode cX9_live 111 = .ok (.iastore, 1) := dk_79 (dk_at dksX9_live_5 3 rfl rfl)
theorem dX9_live_112 : decode cX9_live 112 = .ok (.aload_n 0, 1) := dk_42 (dk_at dksX9_live_5 4 rfl rfl)
theorem dX9_live_113 : decode cX9_live 113 = .ok (.iload_n 2, 1) := dk_28 (dk_at dksX9_live_5 5 rfl rfl)
theorem dX9_live_114 : decode cX9_live 114 = .ok (.invokevirtual 247, 3) := dk_182 0 247 (dk_at dksX9_live_5 6 rfl rfl)
theorem dX9_live_117 : decode cX9_live 117 = .ok (.ifCond .le 8, 3) := dk_158 0 8 (dk_at dksX9_live_5 9 rfl rfl)
theorem dX9_live_120 : decode cX9_live 120 = .ok (.aload_n 0, 1) := dk_42 (dk_at dksX9_live_5 12 rfl rfl)
theorem dX9_live_121 : decode cX9_live 121 = .ok (.iload_n 2, 1) := dk_28 (dk_at dksX9_live_5 13 rfl rfl)
theorem dX9_live_122 : decode cX9_live 122 = .ok (.invokevirtual 275, 3) := dk_182 1 19 (dk_at dksX9_live_5 14 rfl rfl)
theorem dX9_live_125 : decode cX9_live 125 = .ok (.return_, 1) := dk_177 (dk_at dksX9_live_5 17 rfl rfl)
abbrev cX9_doEat : ByteArray := prog_25_method_60_code
def yX9_doEat : MethodName := ⟨RX9, "doEat", "(III)V"⟩
def dkwX9_doEat_1 : List UInt8 := [27, 96, 92, 46, 29, 96, 79, 42, 180, 0, 13, 16, 91, 27, 96, 92, 46, 29, 96, 79, 177]
abbrev dktX9_doEat_1 : List UInt8 := dkwX9_doEat_1 ++ []
def dkwX9_doEat_0 : List UInt8 := [42, 180, 0, 13, 16, 105, 16, 6, 27, 104, 96, 28, 96, 92, 46, 29, 100, 79, 42, 180, 0, 13, 16, 84]
abbrev dktX9_doEat_0 : List UInt8 := dkwX9_doEat_0 ++ dktX9_doEat_1
theorem dksX9_doEat_0 : cX9_doEat.data.toList.drop 0 = dktX9_doEat_0 := by decide +kernel
theorem dksX9_doEat_1 : cX9_doEat.data.toList.drop 24 = dktX9_doEat_1 := dk_seg dksX9_doEat_0 24 rfl rfl
theorem dX9_doEat_0 : decode cX9_doEat 0 = .ok (.aload_n 0, 1) := dk_42 (dk_at dksX9_doEat_0 0 rfl rfl)
theorem dX9_doEat_1 : decode cX9_doEat 1 = .ok (.getfield 13, 3) := dk_180 0 13 (dk_at dksX9_doEat_0 1 rfl rfl)
theorem dX9_doEat_4 : decode cX9_doEat 4 = .ok (.bipush 105, 2) := dk_16 105 (dk_at dksX9_doEat_0 4 rfl rfl)
theorem dX9_doEat_6 : decode cX9_doEat 6 = .ok (.bipush 6, 2) := dk_16 6 (dk_at dksX9_doEat_0 6 rfl rfl)
theorem dX9_doEat_8 : decode cX9_doEat 8 = .ok (.iload_n 1, 1) := dk_27 (dk_at dksX9_doEat_0 8 rfl rfl)
theorem dX9_doEat_9 : decode cX9_doEat 9 = .ok (.imul, 1) := dk_104 (dk_at dksX9_doEat_0 9 rfl rfl)
theorem dX9_doEat_10 : decode cX9_doEat 10 = .ok (.iadd, 1) := dk_96 (dk_at dksX9_doEat_0 10 rfl rfl)
theorem dX9_doEat_11 : decode cX9_doEat 11 = .ok (.iload_n 2, 1) := dk_28 (dk_at dksX9_doEat_0 11 rfl rfl)
theorem dX9_doEat_12 : decode cX9_doEat 12 = .ok (.iadd, 1) := dk_96 (dk_at dksX9_doEat_0 12 rfl rfl)
theorem dX9_doEat_13 : decode cX9_doEat 13 = .ok (.dup2, 1) := dk_92 (dk_at dksX9_doEat_0 13 rfl rfl)
theorem dX9_doEat_14 : decode cX9_doEat 14 = .ok (.iaload, 1) := dk_46 (dk_at dksX9_doEat_0 14 rfl rfl)
theorem dX9_doEat_15 : decode cX9_doEat 15 = .ok (.iload_n 3, 1) := dk_29 (dk_at dksX9_doEat_0 15 rfl rfl)
theorem dX9_doEat_16 : decode cX9_doEat 16 = .ok (.isub, 1) := dk_100 (dk_at dksX9_doEat_0 16 rfl rfl)
theorem dX9_doEat_17 : decode cX9_doEat 17 = .ok (.iastore, 1) := dk_79 (dk_at dksX9_doEat_0 17 rfl rfl)
theorem dX9_doEat_18 : decode cX9_doEat 18 = .ok (.aload_n 0, 1) := dk_42 (dk_at dksX9_doEat_0 18 rfl rfl)
theorem dX9_doEat_19 : decode cX9_doEat 19 = .ok (.getfield 13, 3) := dk_180 0 13 (dk_at dksX9_doEat_0 19 rfl rfl)
theorem dX9_doEat_22 : decode cX9_doEat 22 = .ok (.bipush 84, 2) := dk_16 84 (dk_at dksX9_doEat_0 22 rfl rfl)
theorem dX9_doEat_24 : decode cX9_doEat 24 = .ok (.iload_n 1, 1) := dk_27 (dk_at dksX9_doEat_1 0 rfl rfl)
theorem dX9_doEat_25 : decode cX9_doEat 25 = .ok (.iadd, 1) := dk_96 (dk_at dksX9_doEat_1 1 rfl rfl)
theorem dX9_doEat_26 : decode cX9_doEat 26 = .ok (.dup2, 1) := dk_92 (dk_at dksX9_doEat_1 2 rfl rfl)
theorem dX9_doEat_27 : decode cX9_doEat 27 = .ok (.iaload, 1) := dk_46 (dk_at dksX9_doEat_1 3 rfl rfl)
theorem dX9_doEat_28 : decode cX9_doEat 28 = .ok (.iload_n 3, 1) := dk_29 (dk_at dksX9_doEat_1 4 rfl rfl)
theorem dX9_doEat_29 : decode cX9_doEat 29 = .ok (.iadd, 1) := dk_96 (dk_at dksX9_doEat_1 5 rfl rfl)
theorem dX9_doEat_30 : decode cX9_doEat 30 = .ok (.iastore, 1) := dk_79 (dk_at dksX9_doEat_1 6 rfl rfl)
theorem dX9_doEat_31 : decode cX9_doEat 31 = .ok (.aload_n 0, 1) := dk_42 (dk_at dksX9_doEat_1 7 rfl rfl)
theorem dX9_doEat_32 : decode cX9_doEat 32 = .ok (.getfield 13, 3) := dk_180 0 13 (dk_at dksX9_doEat_1 8 rfl rfl)
theorem dX9_doEat_35 : decode cX9_doEat 35 = .ok (.bipush 91, 2) := dk_16 91 (dk_at dksX9_doEat_1 11 rfl rfl)
theorem dX9_doEat_37 : decode cX9_doEat 37 = .ok (.iload_n 1, 1) := dk_27 (dk_at dksX9_doEat_1 13 rfl rfl)
theorem dX9_doEat_38 : decode cX9_doEat 38 = .ok (.iadd, 1) := dk_96 (dk_at dksX9_doEat_1 14 rfl rfl)
theorem dX9_doEat_39 : decode cX9_doEat 39 = .ok (.dup2, 1) := dk_92 (dk_at dksX9_doEat_1 15 rfl rfl)
theorem dX9_doEat_40 : decode cX9_doEat 40 = .ok (.iaload, 1) := dk_46 (dk_at dksX9_doEat_1 16 rfl rfl)
theorem dX9_doEat_41 : decode cX9_doEat 41 = .ok (.iload_n 3, 1) := dk_29 (dk_at dksX9_doEat_1 17 rfl rfl)
theorem dX9_doEat_42 : decode cX9_doEat 42 = .ok (.iadd, 1) := dk_96 (dk_at dksX9_doEat_1 18 rfl rfl)
theorem dX9_doEat_43 : decode cX9_doEat 43 = .ok (.iastore, 1) := dk_79 (dk_at dksX9_doEat_1 19 rfl rfl)
theorem dX9_doEat_44 : decode cX9_doEat 44 = .ok (.return_, 1) := dk_177 (dk_at dksX9_doEat_1 20 rfl rfl)
abbrev cX9_pass : ByteArray := prog_25_method_55_code
def yX9_pass : MethodName := ⟨RX9, "pass", "(I)V"⟩
def dkwX9_pass_5 : List UInt8 := [180, 0, 13, 16, 77, 92, 46, 4, 96, 79, 177]
abbrev dktX9_pass_5 : List UInt8 := dkwX9_pass_5 ++ []
def dkwX9_pass_4 : List UInt8 := [16, 6, 28, 104, 96, 21, 4, 96, 92, 46, 21, 5, 21, 6, 100, 96, 79, 132, 4, 1, 167, 255, 160, 42]
abbrev dktX9_pass_4 : List UInt8 := dkwX9_pass_4 ++ dktX9_pass_5
def dkwX9_pass_3 : List UInt8 := [46, 21, 6, 96, 79, 42, 180, 0, 13, 28, 2, 160, 0, 11, 16, 78, 21, 4, 96, 167, 0, 13, 16, 105]
abbrev dktX9_pass_3 : List UInt8 := dkwX9_pass_3 ++ dktX9_pass_4
def dkwX9_pass_2 : List UInt8 := [62, 42, 180, 0, 13, 16, 105, 16, 6, 27, 104, 96, 21, 4, 96, 3, 79, 42, 180, 0, 13, 16, 75, 92]
abbrev dktX9_pass_2 : List UInt8 := dkwX9_pass_2 ++ dktX9_pass_3
def dkwX9_pass_1 : List UInt8 := [162, 0, 95, 42, 27, 21, 4, 182, 0, 234, 54, 5, 21, 5, 29, 184, 1, 9, 54, 6, 29, 21, 6, 100]
abbrev dktX9_pass_1 : List UInt8 := dkwX9_pass_1 ++ dktX9_pass_2
def dkwX9_pass_0 : List UInt8 := [42, 27, 42, 182, 1, 3, 182, 1, 6, 61, 42, 180, 0, 13, 6, 46, 62, 3, 54, 4, 21, 4, 16, 6]
abbrev dktX9_pass_0 : List UInt8 := dkwX9_pass_0 ++ dktX9_pass_1
theorem dksX9_pass_0 : cX9_pass.data.toList.drop 0 = dktX9_pass_0 := by decide +kernel
theorem dksX9_pass_1 : cX9_pass.data.toList.drop 24 = dktX9_pass_1 := dk_seg dksX9_pass_0 24 rfl rfl
theorem dksX9_pass_2 : cX9_pass.data.toList.drop 48 = dktX9_pass_2 := dk_seg dksX9_pass_1 24 rfl rfl
theorem dksX9_pass_3 : cX9_pass.data.toList.drop 72 = dktX9_pass_3 := dk_seg dksX9_pass_2 24 rfl rfl
theorem dksX9_pass_4 : cX9_pass.data.toList.drop 96 = dktX9_pass_4 := dk_seg dksX9_pass_3 24 rfl rfl
theorem dksX9_pass_5 : cX9_pass.data.toList.drop 120 = dktX9_pass_5 := dk_seg dksX9_pass_4 24 rfl rfl
theorem dX9_pass_0 : decode cX9_pass 0 = .ok (.aload_n 0, 1) := dk_42 (dk_at dksX9_pass_0 0 rfl rfl)
theorem dX9_pass_1 : decode cX9_pass 1 = .ok (.iload_n 1, 1) := dk_27 (dk_at dksX9_pass_0 1 rfl rfl)
theorem dX9_pass_2 : decode cX9_pass 2 = .ok (.aload_n 0, 1) := dk_42 (dk_at dksX9_pass_0 2 rfl rfl)
theorem dX9_pass_3 : decode cX9_pass 3 = .ok (.invokevirtual 259, 3) := dk_182 1 3 (dk_at dksX9_pass_0 3 rfl rfl)
theorem dX9_pass_6 : decode cX9_pass 6 = .ok (.invokevirtual 262, 3) := dk_182 1 6 (dk_at dksX9_pass_0 6 rfl rfl)
theorem dX9_pass_9 : decode cX9_pass 9 = .ok (.istore_n 2, 1) := dk_61 (dk_at dksX9_pass_0 9 rfl rfl)
theorem dX9_pass_10 : decode cX9_pass 10 = .ok (.aload_n 0, 1) := dk_42 (dk_at dksX9_pass_0 10 rfl rfl)
theorem dX9_pass_11 : decode cX9_pass 11 = .ok (.getfield 13, 3) := dk_180 0 13 (dk_at dksX9_pass_0 11 rfl rfl)
theorem dX9_pass_14 : decode cX9_pass 14 = .ok (.iconst 3, 1) := dk_6 (dk_at dksX9_pass_0 14 rfl rfl)
theorem dX9_pass_15 : decode cX9_pass 15 = .ok (.iaload, 1) := dk_46 (dk_at dksX9_pass_0 15 rfl rfl)
theorem dX9_pass_16 : decode cX9_pass 16 = .ok (.istore_n 3, 1) := dk_62 (dk_at dksX9_pass_0 16 rfl rfl)
theorem dX9_pass_17 : decode cX9_pass 17 = .ok (.iconst 0, 1) := dk_3 (dk_at dksX9_pass_0 17 rfl rfl)
theorem dX9_pass_18 : decode cX9_pass 18 = .ok (.istore 4, 2) := dk_54 4 (dk_at dksX9_pass_0 18 rfl rfl)
theorem dX9_pass_20 : decode cX9_pass 20 = .ok (.iload 4, 2) := dk_21 4 (dk_at dksX9_pass_0 20 rfl rfl)
theorem dX9_pass_22 : decode cX9_pass 22 = .ok (.bipush 6, 2) := dk_16 6 (dk_at dksX9_pass_0 22 rfl rfl)
theorem dX9_pass_24 : decode cX9_pass 24 = .ok (.if_icmp .ge 95, 3) := dk_162 0 95 (dk_at dksX9_pass_1 0 rfl rfl)
theorem dX9_pass_27 : decode cX9_pass 27 = .ok (.aload_n 0, 1) := dk_42 (dk_at dksX9_pass_1 3 rfl rfl)
theorem dX9_pass_28 : decode cX9_pass 28 = .ok (.iload_n 1, 1) := dk_27 (dk_at dksX9_pass_1 4 rfl rfl)
theorem dX9_pass_29 : decode cX9_pass 29 = .ok (.iload 4, 2) := dk_21 4 (dk_at dksX9_pass_1 5 rfl rfl)
theorem dX9_pass_31 : decode cX9_pass 31 = .ok (.invokevirtual 234, 3) := dk_182 0 234 (dk_at dksX9_pass_1 7 rfl rfl)
theorem dX9_pass_34 : decode cX9_pass 34 = .ok (.istore 5, 2) := dk_54 5 (dk_at dksX9_pass_1 10 rfl rfl)
theorem dX9_pass_36 : decode cX9_pass 36 = .ok (.iload 5, 2) := dk_21 5 (dk_at dksX9_pass_1 12 rfl rfl)
theorem dX9_pass_38 : decode cX9_pass 38 = .ok (.iload_n 3, 1) := dk_29 (dk_at dksX9_pass_1 14 rfl rfl)
theorem dX9_pass_39 : decode cX9_pass 39 = .ok (.invokestatic 265, 3) := dk_184 1 9 (dk_at dksX9_pass_1 15 rfl rfl)
theorem dX9_pass_42 : decode cX9_pass 42 = .ok (.istore 6, 2) := dk_54 6 (dk_at dksX9_pass_1 18 rfl rfl)
theorem dX9_pass_44 : decode cX9_pass 44 = .ok (.iload_n 3, 1) := dk_29 (dk_at dksX9_pass_1 20 rfl rfl)
theorem dX9_pass_45 : decode cX9_pass 45 = .ok (.iload 6, 2) := dk_21 6 (dk_at dksX9_pass_1 21 rfl rfl)
theorem dX9_pass_47 : decode cX9_pass 47 = .ok (.isub, 1) := dk_100 (dk_at dksX9_pass_1 23 rfl rfl)
theorem dX9_pass_48 : decode cX9_pass 48 = .ok (.istore_n 3, 1) := dk_62 (dk_at dksX9_pass_2 0 rfl rfl)
theorem dX9_pass_49 : decode cX9_pass 49 = .ok (.aload_n 0, 1) := dk_42 (dk_at dksX9_pass_2 1 rfl rfl)
theorem dX9_pass_50 : decode cX9_pass 50 = .ok (.getfield 13, 3) := dk_180 0 13 (dk_at dksX9_pass_2 2 rfl rfl)
theorem dX9_pass_53 : decode cX9_pass 53 = .ok (.bipush 105, 2) := dk_16 105 (dk_at dksX9_pass_2 5 rfl rfl)
theorem dX9_pass_55 : decode cX9_pass 55 = .ok (.bipush 6, 2) := dk_16 6 (dk_at dksX9_pass_2 7 rfl rfl)
theorem dX9_pass_57 : decode cX9_pass 57 = .ok (.iload_n 1, 1) := dk_27 (dk_at dksX9_pass_2 9 rfl rfl)
theorem dX9_pass_58 : decode cX9_pass 58 = .ok (.imul, 1) := dk_104 (dk_at dksX9_pass_2 10 rfl rfl)
theorem dX9_pass_59 : decode cX9_pass 59 = .ok (.iadd, 1) := dk_96 (dk_at dksX9_pass_2 11 rfl rfl)
theorem dX9_pass_60 : decode cX9_pass 60 = .ok (.iload 4, 2) := dk_21 4 (dk_at dksX9_pass_2 12 rfl rfl)
theorem dX9_pass_62 : decode cX9_pass 62 = .ok (.iadd, 1) := dk_96 (dk_at dksX9_pass_2 14 rfl rfl)
theorem dX9_pass_63 : decode cX9_pass 63 = .ok (.iconst 0, 1) := dk_3 (dk_at dksX9_pass_2 15 rfl rfl)
theorem dX9_pass_64 : decode cX9_pass 64 = .ok (.iastore, 1) := dk_79 (dk_at dksX9_pass_2 16 rfl rfl)
theorem dX9_pass_65 : decode cX9_pass 65 = .ok (.aload_n 0, 1) := dk_42 (dk_at dksX9_pass_2 17 rfl rfl)
theorem dX9_pass_66 : decode cX9_pass 66 = .ok (.getfield 13, 3) := dk_180 0 13 (dk_at dksX9_pass_2 18 rfl rfl)
theorem dX9_pass_69 : decode cX9_pass 69 = .ok (.bipush 75, 2) := dk_16 75 (dk_at dksX9_pass_2 21 rfl rfl)
theorem dX9_pass_71 : decode cX9_pass 71 = .ok (.dup2, 1) := dk_92 (dk_at dksX9_pass_2 23 rfl rfl)
theorem dX9_pass_72 : decode cX9_pass 72 = .ok (.iaload, 1) := dk_46 (dk_at dksX9_pass_3 0 rfl rfl)
theorem dX9_pass_73 : decode cX9_pass 73 = .ok (.iload 6, 2) := dk_21 6 (dk_at dksX9_pass_3 1 rfl rfl)
theorem dX9_pass_75 : decode cX9_pass 75 = .ok (.iadd, 1) := dk_96 (dk_at dksX9_pass_3 3 rfl rfl)
theorem dX9_pass_76 : decode cX9_pass 76 = .ok (.iastore, 1) := dk_79 (dk_at dksX9_pass_3 4 rfl rfl)
theorem dX9_pass_77 : decode cX9_pass 77 = .ok (.aload_n 0, 1) := dk_42 (dk_at dksX9_pass_3 5 rfl rfl)
theorem dX9_pass_78 : decode cX9_pass 78 = .ok (.getfield 13, 3) := dk_180 0 13 (dk_at dksX9_pass_3 6 rfl rfl)
theorem dX9_pass_81 : decode cX9_pass 81 = .ok (.iload_n 2, 1) := dk_28 (dk_at dksX9_pass_3 9 rfl rfl)
theorem dX9_pass_82 : decode cX9_pass 82 = .ok (.iconst (-1), 1) := dk_2 (dk_at dksX9_pass_3 10 rfl rfl)
theorem dX9_pass_83 : decode cX9_pass 83 = .ok (.if_icmp .ne 11, 3) := dk_160 0 11 (dk_at dksX9_pass_3 11 rfl rfl)
theorem dX9_pass_86 : decode cX9_pass 86 = .ok (.bipush 78, 2) := dk_16 78 (dk_at dksX9_pass_3 14 rfl rfl)
theorem dX9_pass_88 : decode cX9_pass 88 = .ok (.iload 4, 2) := dk_21 4 (dk_at dksX9_pass_3 16 rfl rfl)
theorem dX9_pass_90 : decode cX9_pass 90 = .ok (.iadd, 1) := dk_96 (dk_at dksX9_pass_3 18 rfl rfl)
theorem dX9_pass_91 : decode cX9_pass 91 = .ok (.goto 13, 3) := dk_167 0 13 (dk_at dksX9_pass_3 19 rfl rfl)
theorem dX9_pass_94 : decode cX9_pass 94 = .ok (.bipush 105, 2) := dk_16 105 (dk_at dksX9_pass_3 22 rfl rfl)
theorem dX9_pass_96 : decode cX9_pass 96 = .ok (.bipush 6, 2) := dk_16 6 (dk_at dksX9_pass_4 0 rfl rfl)
theorem dX9_pass_98 : decode cX9_pass 98 = .ok (.iload_n 2, 1) := dk_28 (dk_at dksX9_pass_4 2 rfl rfl)
theorem dX9_pass_99 : decode cX9_pass 99 = .ok (.imul, 1) := dk_104 (dk_at dksX9_pass_4 3 rfl rfl)
theorem dX9_pass_100 : decode cX9_pass 100 = .ok (.iadd, 1) := dk_96 (dk_at dksX9_pass_4 4 rfl rfl)
theorem dX9_pass_101 : decode cX9_pass 101 = .ok (.iload 4, 2) := dk_21 4 (dk_at dksX9_pass_4 5 rfl rfl)
theorem dX9_pass_103 : decode cX9_pass 103 = .ok (.iadd, 1) := dk_96 (dk_at dksX9_pass_4 7 rfl rfl)
theorem dX9_pass_104 : decode cX9_pass 104 = .ok (.dup2, 1) := dk_92 (dk_at dksX9_pass_4 8 rfl rfl)
theorem dX9_pass_105 : decode cX9_pass 105 = .ok (.iaload, 1) := dk_46 (dk_at dksX9_pass_4 9 rfl rfl)
theorem dX9_pass_106 : decode cX9_pass 106 = .ok (.iload 5, 2) := dk_21 5 (dk_at dksX9_pass_4 10 rfl rfl)
theorem dX9_pass_108 : decode cX9_pass 108 = .ok (.iload 6, 2) := dk_21 6 (dk_at dksX9_pass_4 12 rfl rfl)
theorem dX9_pass_110 : decode cX9_pass 110 = .ok (.isub, 1) := dk_100 (dk_at dksX9_pass_4 14 rfl rfl)
theorem dX9_pass_111 : decode cX9_pass 111 = .ok (.iadd, 1) := dk_96 (dk_at dksX9_pass_4 15 rfl rfl)
theorem dX9_pass_112 : decode cX9_pass 112 = .ok (.iastore, 1) := dk_79 (dk_at dksX9_pass_4 16 rfl rfl)
theorem dX9_pass_113 : decode cX9_pass 113 = .ok (.iinc 4 1, 3) := dk_132 4 1 (dk_at dksX9_pass_4 17 rfl rfl)
theorem dX9_pass_116 : decode cX9_pass 116 = .ok (.goto (-96), 3) := dk_167 255 160 (dk_at dksX9_pass_4 20 rfl rfl)
theorem dX9_pass_119 : decode cX9_pass 119 = .ok (.aload_n 0, 1) := dk_42 (dk_at dksX9_pass_4 23 rfl rfl)
theorem dX9_pass_120 : decode cX9_pass 120 = .ok (.getfield 13, 3) := dk_180 0 13 (dk_at dksX9_pass_5 0 rfl rfl)
theorem dX9_pass_123 : decode cX9_pass 123 = .ok (.bipush 77, 2) := dk_16 77 (dk_at dksX9_pass_5 3 rfl rfl)
theorem dX9_pass_125 : decode cX9_pass 125 = .ok (.dup2, 1) := dk_92 (dk_at dksX9_pass_5 5 rfl rfl)
theorem dX9_pass_126 : decode cX9_pass 126 = .ok (.iaload, 1) := dk_46 (dk_at dksX9_pass_5 6 rfl rfl)
theorem dX9_pass_127 : decode cX9_pass 127 = .ok (.iconst 1, 1) := dk_4 (dk_at dksX9_pass_5 7 rfl rfl)
theorem dX9_pass_128 : decode cX9_pass 128 = .ok (.iadd, 1) := dk_96 (dk_at dksX9_pass_5 8 rfl rfl)
theorem dX9_pass_129 : decode cX9_pass 129 = .ok (.iastore, 1) := dk_79 (dk_at dksX9_pass_5 9 rfl rfl)
theorem dX9_pass_130 : decode cX9_pass 130 = .ok (.return_, 1) := dk_177 (dk_at dksX9_pass_5 10 rfl rfl)
abbrev cX9_least : ByteArray := prog_25_method_11_code
def yX9_least : MethodName := ⟨RX9, "least", "(II)I"⟩
def dkwX9_least_0 : List UInt8 := [26, 27, 162, 0, 7, 26, 167, 0, 4, 27, 172]
abbrev dktX9_least_0 : List UInt8 := dkwX9_least_0 ++ []
theorem dksX9_least_0 : cX9_least.data.toList.drop 0 = dktX9_least_0 := by decide +kernel
theorem dX9_least_0 : decode cX9_least 0 = .ok (.iload_n 0, 1) := dk_26 (dk_at dksX9_least_0 0 rfl rfl)
theorem dX9_least_1 : decode cX9_least 1 = .ok (.iload_n 1, 1) := dk_27 (dk_at dksX9_least_0 1 rfl rfl)
theorem dX9_least_2 : decode cX9_least 2 = .ok (.if_icmp .ge 7, 3) := dk_162 0 7 (dk_at dksX9_least_0 2 rfl rfl)
theorem dX9_least_5 : decode cX9_least 5 = .ok (.iload_n 0, 1) := dk_26 (dk_at dksX9_least_0 5 rfl rfl)
theorem dX9_least_6 : decode cX9_least 6 = .ok (.goto 4, 3) := dk_167 0 4 (dk_at dksX9_least_0 6 rfl rfl)
theorem dX9_least_9 : decode cX9_least 9 = .ok (.iload_n 1, 1) := dk_27 (dk_at dksX9_least_0 9 rfl rfl)
theorem dX9_least_10 : decode cX9_least 10 = .ok (.ireturn, 1) := dk_172 (dk_at dksX9_least_0 10 rfl rfl)
abbrev cX9_serve : ByteArray := prog_25_method_64_code
def yX9_serve : MethodName := ⟨RX9, "serve", "(III)I"⟩
def dkwX9_serve_1 : List UInt8 := [16, 40, 184, 0, 149, 153, 0, 14, 42, 4, 27, 28, 29, 182, 1, 33, 167, 0, 4, 2, 172]
abbrev dktX9_serve_1 : List UInt8 := dkwX9_serve_1 ++ []
def dkwX9_serve_0 : List UInt8 := [42, 3, 181, 0, 82, 42, 27, 182, 0, 238, 153, 0, 32, 42, 28, 182, 0, 250, 153, 0, 24, 29, 4]
abbrev dktX9_serve_0 : List UInt8 := dkwX9_serve_0 ++ dktX9_serve_1
theorem dksX9_serve_0 : cX9_serve.data.toList.drop 0 = dktX9_serve_0 := by decide +kernel
theorem dksX9_serve_1 : cX9_serve.data.toList.drop 23 = dktX9_serve_1 := dk_seg dksX9_serve_0 23 rfl rfl
theorem dX9_serve_0 : decode cX9_serve 0 = .ok (.aload_n 0, 1) := dk_42 (dk_at dksX9_serve_0 0 rfl rfl)
theorem dX9_serve_1 : decode cX9_serve 1 = .ok (.iconst 0, 1) := dk_3 (dk_at dksX9_serve_0 1 rfl rfl)
theorem dX9_serve_2 : decode cX9_serve 2 = .ok (.putfield 82, 3) := dk_181 0 82 (dk_at dksX9_serve_0 2 rfl rfl)
theorem dX9_serve_5 : decode cX9_serve 5 = .ok (.aload_n 0, 1) := dk_42 (dk_at dksX9_serve_0 5 rfl rfl)
theorem dX9_serve_6 : decode cX9_serve 6 = .ok (.iload_n 1, 1) := dk_27 (dk_at dksX9_serve_0 6 rfl rfl)
theorem dX9_serve_7 : decode cX9_serve 7 = .ok (.invokevirtual 238, 3) := dk_182 0 238 (dk_at dksX9_serve_0 7 rfl rfl)
theorem dX9_serve_10 : decode cX9_serve 10 = .ok (.ifCond .eq 32, 3) := dk_153 0 32 (dk_at dksX9_serve_0 10 rfl rfl)
theorem dX9_serve_13 : decode cX9_serve 13 = .ok (.aload_n 0, 1) := dk_42 (dk_at dksX9_serve_0 13 rfl rfl)
theorem dX9_serve_14 : decode cX9_serve 14 = .ok (.iload_n 2, 1) := dk_28 (dk_at dksX9_serve_0 14 rfl rfl)
theorem dX9_serve_15 : decode cX9_serve 15 = .ok (.invokevirtual 250, 3) := dk_182 0 250 (dk_at dksX9_serve_0 15 rfl rfl)
theorem dX9_serve_18 : decode cX9_serve 18 = .ok (.ifCond .eq 24, 3) := dk_153 0 24 (dk_at dksX9_serve_0 18 rfl rfl)
theorem dX9_serve_21 : decode cX9_serve 21 = .ok (.iload_n 3, 1) := dk_29 (dk_at dksX9_serve_0 21 rfl rfl)
theorem dX9_serve_22 : decode cX9_serve 22 = .ok (.iconst 1, 1) := dk_4 (dk_at dksX9_serve_0 22 rfl rfl)
theorem dX9_serve_23 : decode cX9_serve 23 = .ok (.bipush 40, 2) := dk_16 40 (dk_at dksX9_serve_1 0 rfl rfl)
theorem dX9_serve_25 : decode cX9_serve 25 = .ok (.invokestatic 149, 3) := dk_184 0 149 (dk_at dksX9_serve_1 2 rfl rfl)
theorem dX9_serve_28 : decode cX9_serve 28 = .ok (.ifCond .eq 14, 3) := dk_153 0 14 (dk_at dksX9_serve_1 5 rfl rfl)
theorem dX9_serve_31 : decode cX9_serve 31 = .ok (.aload_n 0, 1) := dk_42 (dk_at dksX9_serve_1 8 rfl rfl)
theorem dX9_serve_32 : decode cX9_serve 32 = .ok (.iconst 1, 1) := dk_4 (dk_at dksX9_serve_1 9 rfl rfl)
theorem dX9_serve_33 : decode cX9_serve 33 = .ok (.iload_n 1, 1) := dk_27 (dk_at dksX9_serve_1 10 rfl rfl)
theorem dX9_serve_34 : decode cX9_serve 34 = .ok (.iload_n 2, 1) := dk_28 (dk_at dksX9_serve_1 11 rfl rfl)
theorem dX9_serve_35 : decode cX9_serve 35 = .ok (.iload_n 3, 1) := dk_29 (dk_at dksX9_serve_1 12 rfl rfl)
theorem dX9_serve_36 : decode cX9_serve 36 = .ok (.invokevirtual 289, 3) := dk_182 1 33 (dk_at dksX9_serve_1 13 rfl rfl)
theorem dX9_serve_39 : decode cX9_serve 39 = .ok (.goto 4, 3) := dk_167 0 4 (dk_at dksX9_serve_1 16 rfl rfl)
theorem dX9_serve_42 : decode cX9_serve 42 = .ok (.iconst (-1), 1) := dk_2 (dk_at dksX9_serve_1 19 rfl rfl)
theorem dX9_serve_43 : decode cX9_serve 43 = .ok (.ireturn, 1) := dk_172 (dk_at dksX9_serve_1 20 rfl rfl)
abbrev cX9_rise : ByteArray := prog_25_method_65_code
def yX9_rise : MethodName := ⟨RX9, "rise", "(I)I"⟩
def dkwX9_rise_1 : List UInt8 := [2, 172]
abbrev dktX9_rise_1 : List UInt8 := dkwX9_rise_1 ++ []
def dkwX9_rise_0 : List UInt8 := [42, 3, 181, 0, 82, 42, 27, 182, 0, 238, 153, 0, 14, 42, 5, 27, 3, 3, 182, 1, 33, 167, 0, 4]
abbrev dktX9_rise_0 : List UInt8 := dkwX9_rise_0 ++ dktX9_rise_1
theorem dksX9_rise_0 : cX9_rise.data.toList.drop 0 = dktX9_rise_0 := by decide +kernel
theorem dksX9_rise_1 : cX9_rise.data.toList.drop 24 = dktX9_rise_1 := dk_seg dksX9_rise_0 24 rfl rfl
theorem dX9_rise_0 : decode cX9_rise 0 = .ok (.aload_n 0, 1) := dk_42 (dk_at dksX9_rise_0 0 rfl rfl)
theorem dX9_rise_1 : decode cX9_rise 1 = .ok (.iconst 0, 1) := dk_3 (dk_at dksX9_rise_0 1 rfl rfl)
theorem dX9_rise_2 : decode cX9_rise 2 = .ok (.putfield 82, 3) := dk_181 0 82 (dk_at dksX9_rise_0 2 rfl rfl)
theorem dX9_rise_5 : decode cX9_rise 5 = .ok (.aload_n 0, 1) := dk_42 (dk_at dksX9_rise_0 5 rfl rfl)
theorem dX9_rise_6 : decode cX9_rise 6 = .ok (.iload_n 1, 1) := dk_27 (dk_at dksX9_rise_0 6 rfl rfl)
theorem dX9_rise_7 : decode cX9_rise 7 = .ok (.invokevirtual 238, 3) := dk_182 0 238 (dk_at dksX9_rise_0 7 rfl rfl)
theorem dX9_rise_10 : decode cX9_rise 10 = .ok (.ifCond .eq 14, 3) := dk_153 0 14 (dk_at dksX9_rise_0 10 rfl rfl)
theorem dX9_rise_13 : decode cX9_rise 13 = .ok (.aload_n 0, 1) := dk_42 (dk_at dksX9_rise_0 13 rfl rfl)
theorem dX9_rise_14 : decode cX9_rise 14 = .ok (.iconst 2, 1) := dk_5 (dk_at dksX9_rise_0 14 rfl rfl)
theorem dX9_rise_15 : decode cX9_rise 15 = .ok (.iload_n 1, 1) := dk_27 (dk_at dksX9_rise_0 15 rfl rfl)
theorem dX9_rise_16 : decode cX9_rise 16 = .ok (.iconst 0, 1) := dk_3 (dk_at dksX9_rise_0 16 rfl rfl)
theorem dX9_rise_17 : decode cX9_rise 17 = .ok (.iconst 0, 1) := dk_3 (dk_at dksX9_rise_0 17 rfl rfl)
theorem dX9_rise_18 : decode cX9_rise 18 = .ok (.invokevirtual 289, 3) := dk_182 1 33 (dk_at dksX9_rise_0 18 rfl rfl)
theorem dX9_rise_21 : decode cX9_rise 21 = .ok (.goto 4, 3) := dk_167 0 4 (dk_at dksX9_rise_0 21 rfl rfl)
theorem dX9_rise_24 : decode cX9_rise 24 = .ok (.iconst (-1), 1) := dk_2 (dk_at dksX9_rise_1 0 rfl rfl)
theorem dX9_rise_25 : decode cX9_rise 25 = .ok (.ireturn, 1) := dk_172 (dk_at dksX9_rise_1 1 rfl rfl)
abbrev cX9_refuse_2 : ByteArray := prog_25_method_66_code
def yX9_refuse_2 : MethodName := ⟨RX9, "refuse", "(I)I"⟩
def dkwX9_refuse_2_1 : List UInt8 := [2, 172]
abbrev dktX9_refuse_2_1 : List UInt8 := dkwX9_refuse_2_1 ++ []
def dkwX9_refuse_2_0 : List UInt8 := [42, 3, 181, 0, 82, 42, 27, 182, 0, 238, 153, 0, 14, 42, 6, 27, 3, 3, 182, 1, 33, 167, 0, 4]
abbrev dktX9_refuse_2_0 : List UInt8 := dkwX9_refuse_2_0 ++ dktX9_refuse_2_1
theorem dksX9_refuse_2_0 : cX9_refuse_2.data.toList.drop 0 = dktX9_refuse_2_0 := by decide +kernel
theorem dksX9_refuse_2_1 : cX9_refuse_2.data.toList.drop 24 = dktX9_refuse_2_1 := dk_seg dksX9_refuse_2_0 24 rfl rfl
theorem dX9_refuse_2_0 : decode cX9_refuse_2 0 = .ok (.aload_n 0, 1) := dk_42 (dk_at dksX9_refuse_2_0 0 rfl rfl)
theorem dX9_refuse_2_1 : decode cX9_refuse_2 1 = .ok (.iconst 0, 1) := dk_3 (dk_at dksX9_refuse_2_0 1 rfl rfl)
theorem dX9_refuse_2_2 : decode cX9_refuse_2 2 = .ok (.putfield 82, 3) := dk_181 0 82 (dk_at dksX9_refuse_2_0 2 rfl rfl)
theorem dX9_refuse_2_5 : decode cX9_refuse_2 5 = .ok (.aload_n 0, 1) := dk_42 (dk_at dksX9_refuse_2_0 5 rfl rfl)
theorem dX9_refuse_2_6 : decode cX9_refuse_2 6 = .ok (.iload_n 1, 1) := dk_27 (dk_at dksX9_refuse_2_0 6 rfl rfl)
theorem dX9_refuse_2_7 : decode cX9_refuse_2 7 = .ok (.invokevirtual 238, 3) := dk_182 0 238 (dk_at dksX9_refuse_2_0 7 rfl rfl)
theorem dX9_refuse_2_10 : decode cX9_refuse_2 10 = .ok (.ifCond .eq 14, 3) := dk_153 0 14 (dk_at dksX9_refuse_2_0 10 rfl rfl)
theorem dX9_refuse_2_13 : decode cX9_refuse_2 13 = .ok (.aload_n 0, 1) := dk_42 (dk_at dksX9_refuse_2_0 13 rfl rfl)
theorem dX9_refuse_2_14 : decode cX9_refuse_2 14 = .ok (.iconst 3, 1) := dk_6 (dk_at dksX9_refuse_2_0 14 rfl rfl)
theorem dX9_refuse_2_15 : decode cX9_refuse_2 15 = .ok (.iload_n 1, 1) := dk_27 (dk_at dksX9_refuse_2_0 15 rfl rfl)
theorem dX9_refuse_2_16 : decode cX9_refuse_2 16 = .ok (.iconst 0, 1) := dk_3 (dk_at dksX9_refuse_2_0 16 rfl rfl)
theorem dX9_refuse_2_17 : decode cX9_refuse_2 17 = .ok (.iconst 0, 1) := dk_3 (dk_at dksX9_refuse_2_0 17 rfl rfl)
theorem dX9_refuse_2_18 : decode cX9_refuse_2 18 = .ok (.invokevirtual 289, 3) := dk_182 1 33 (dk_at dksX9_refuse_2_0 18 rfl rfl)
theorem dX9_refuse_2_21 : decode cX9_refuse_2 21 = .ok (.goto 4, 3) := dk_167 0 4 (dk_at dksX9_refuse_2_0 21 rfl rfl)
theorem dX9_refuse_2_24 : decode cX9_refuse_2 24 = .ok (.iconst (-1), 1) := dk_2 (dk_at dksX9_refuse_2_1 0 rfl rfl)
theorem dX9_refuse_2_25 : decode cX9_refuse_2 25 = .ok (.ireturn, 1) := dk_172 (dk_at dksX9_refuse_2_1 1 rfl rfl)
abbrev cX9_accept : ByteArray := prog_25_method_67_code
def yX9_accept : MethodName := ⟨RX9, "accept", "(I)I"⟩
def dkwX9_accept_1 : List UInt8 := [2, 172]
abbrev dktX9_accept_1 : List UInt8 := dkwX9_accept_1 ++ []
def dkwX9_accept_0 : List UInt8 := [42, 3, 181, 0, 82, 42, 27, 182, 0, 238, 153, 0, 14, 42, 7, 27, 3, 3, 182, 1, 33, 167, 0, 4]
abbrev dktX9_accept_0 : List UInt8 := dkwX9_accept_0 ++ dktX9_accept_1
theorem dksX9_accept_0 : cX9_accept.data.toList.drop 0 = dktX9_accept_0 := by decide +kernel
theorem dksX9_accept_1 : cX9_accept.data.toList.drop 24 = dktX9_accept_1 := dk_seg dksX9_accept_0 24 rfl rfl
theorem dX9_accept_0 : decode cX9_accept 0 = .ok (.aload_n 0, 1) := dk_42 (dk_at dksX9_accept_0 0 rfl rfl)
theorem dX9_accept_1 : decode cX9_accept 1 = .ok (.iconst 0, 1) := dk_3 (dk_at dksX9_accept_0 1 rfl rfl)
theorem dX9_accept_2 : decode cX9_accept 2 = .ok (.putfield 82, 3) := dk_181 0 82 (dk_at dksX9_accept_0 2 rfl rfl)
theorem dX9_accept_5 : decode cX9_accept 5 = .ok (.aload_n 0, 1) := dk_42 (dk_at dksX9_accept_0 5 rfl rfl)
theorem dX9_accept_6 : decode cX9_accept 6 = .ok (.iload_n 1, 1) := dk_27 (dk_at dksX9_accept_0 6 rfl rfl)
theorem dX9_accept_7 : decode cX9_accept 7 = .ok (.invokevirtual 238, 3) := dk_182 0 238 (dk_at dksX9_accept_0 7 rfl rfl)
theorem dX9_accept_10 : decode cX9_accept 10 = .ok (.ifCond .eq 14, 3) := dk_153 0 14 (dk_at dksX9_accept_0 10 rfl rfl)
theorem dX9_accept_13 : decode cX9_accept 13 = .ok (.aload_n 0, 1) := dk_42 (dk_at dksX9_accept_0 13 rfl rfl)
theorem dX9_accept_14 : decode cX9_accept 14 = .ok (.iconst 4, 1) := dk_7 (dk_at dksX9_accept_0 14 rfl rfl)
theorem dX9_accept_15 : decode cX9_accept 15 = .ok (.iload_n 1, 1) := dk_27 (dk_at dksX9_accept_0 15 rfl rfl)
theorem dX9_accept_16 : decode cX9_accept 16 = .ok (.iconst 0, 1) := dk_3 (dk_at dksX9_accept_0 16 rfl rfl)
theorem dX9_accept_17 : decode cX9_accept 17 = .ok (.iconst 0, 1) := dk_3 (dk_at dksX9_accept_0 17 rfl rfl)
theorem dX9_accept_18 : decode cX9_accept 18 = .ok (.invokevirtual 289, 3) := dk_182 1 33 (dk_at dksX9_accept_0 18 rfl rfl)
theorem dX9_accept_21 : decode cX9_accept 21 = .ok (.goto 4, 3) := dk_167 0 4 (dk_at dksX9_accept_0 21 rfl rfl)
theorem dX9_accept_24 : decode cX9_accept 24 = .ok (.iconst (-1), 1) := dk_2 (dk_at dksX9_accept_1 0 rfl rfl)
theorem dX9_accept_25 : decode cX9_accept 25 = .ok (.ireturn, 1) := dk_172 (dk_at dksX9_accept_1 1 rfl rfl)
abbrev cX9_die : ByteArray := prog_25_method_68_code
def yX9_die : MethodName := ⟨RX9, "die", "(I)I"⟩
def dkwX9_die_1 : List UInt8 := [2, 172]
abbrev dktX9_die_1 : List UInt8 := dkwX9_die_1 ++ []
def dkwX9_die_0 : List UInt8 := [42, 3, 181, 0, 82, 42, 27, 182, 0, 238, 153, 0, 14, 42, 8, 27, 3, 3, 182, 1, 33, 167, 0, 4]
abbrev dktX9_die_0 : List UInt8 := dkwX9_die_0 ++ dktX9_die_1
theorem dksX9_die_0 : cX9_die.data.toList.drop 0 = dktX9_die_0 := by decide +kernel
theorem dksX9_die_1 : cX9_die.data.toList.drop 24 = dktX9_die_1 := dk_seg dksX9_die_0 24 rfl rfl
theorem dX9_die_0 : decode cX9_die 0 = .ok (.aload_n 0, 1) := dk_42 (dk_at dksX9_die_0 0 rfl rfl)
theorem dX9_die_1 : decode cX9_die 1 = .ok (.iconst 0, 1) := dk_3 (dk_at dksX9_die_0 1 rfl rfl)
theorem dX9_die_2 : decode cX9_die 2 = .ok (.putfield 82, 3) := dk_181 0 82 (dk_at dksX9_die_0 2 rfl rfl)
theorem dX9_die_5 : decode cX9_die 5 = .ok (.aload_n 0, 1) := dk_42 (dk_at dksX9_die_0 5 rfl rfl)
theorem dX9_die_6 : decode cX9_die 6 = .ok (.iload_n 1, 1) := dk_27 (dk_at dksX9_die_0 6 rfl rfl)
theorem dX9_die_7 : decode cX9_die 7 = .ok (.invokevirtual 238, 3) := dk_182 0 238 (dk_at dksX9_die_0 7 rfl rfl)
theorem dX9_die_10 : decode cX9_die 10 = .ok (.ifCond .eq 14, 3) := dk_153 0 14 (dk_at dksX9_die_0 10 rfl rfl)
theorem dX9_die_13 : decode cX9_die 13 = .ok (.aload_n 0, 1) := dk_42 (dk_at dksX9_die_0 13 rfl rfl)
theorem dX9_die_14 : decode cX9_die 14 = .ok (.iconst 5, 1) := dk_8 (dk_at dksX9_die_0 14 rfl rfl)
theorem dX9_die_15 : decode cX9_die 15 = .ok (.iload_n 1, 1) := dk_27 (dk_at dksX9_die_0 15 rfl rfl)
theorem dX9_die_16 : decode cX9_die 16 = .ok (.iconst 0, 1) := dk_3 (dk_at dksX9_die_0 16 rfl rfl)
theorem dX9_die_17 : decode cX9_die 17 = .ok (.iconst 0, 1) := dk_3 (dk_at dksX9_die_0 17 rfl rfl)
theorem dX9_die_18 : decode cX9_die 18 = .ok (.invokevirtual 289, 3) := dk_182 1 33 (dk_at dksX9_die_0 18 rfl rfl)
theorem dX9_die_21 : decode cX9_die 21 = .ok (.goto 4, 3) := dk_167 0 4 (dk_at dksX9_die_0 21 rfl rfl)
theorem dX9_die_24 : decode cX9_die 24 = .ok (.iconst (-1), 1) := dk_2 (dk_at dksX9_die_1 0 rfl rfl)
theorem dX9_die_25 : decode cX9_die 25 = .ok (.ireturn, 1) := dk_172 (dk_at dksX9_die_1 1 rfl rfl)
abbrev cX9_undo : ByteArray := prog_25_method_69_code
def yX9_undo : MethodName := ⟨RX9, "undo", "()I"⟩
def dkwX9_undo_2 : List UInt8 := [180, 0, 228, 104, 27, 96, 46, 79, 132, 1, 1, 167, 255, 224, 42, 180, 0, 228, 172]
abbrev dktX9_undo_2 : List UInt8 := dkwX9_undo_2 ++ []
def dkwX9_undo_1 : List UInt8 := [3, 60, 27, 16, 75, 162, 0, 32, 42, 180, 0, 13, 16, 72, 27, 96, 42, 180, 0, 22, 16, 75, 42]
abbrev dktX9_undo_1 : List UInt8 := dkwX9_undo_1 ++ dktX9_undo_2
def dkwX9_undo_0 : List UInt8 := [42, 3, 181, 0, 82, 42, 180, 0, 228, 154, 0, 5, 2, 172, 42, 89, 180, 0, 228, 4, 100, 181, 0, 228]
abbrev dktX9_undo_0 : List UInt8 := dkwX9_undo_0 ++ dktX9_undo_1
theorem dksX9_undo_0 : cX9_undo.data.toList.drop 0 = dktX9_undo_0 := by decide +kernel
theorem dksX9_undo_1 : cX9_undo.data.toList.drop 24 = dktX9_undo_1 := dk_seg dksX9_undo_0 24 rfl rfl
theorem dksX9_undo_2 : cX9_undo.data.toList.drop 47 = dktX9_undo_2 := dk_seg dksX9_undo_1 23 rfl rfl
theorem dX9_undo_0 : decode cX9_undo 0 = .ok (.aload_n 0, 1) := dk_42 (dk_at dksX9_undo_0 0 rfl rfl)
theorem dX9_undo_1 : decode cX9_undo 1 = .ok (.iconst 0, 1) := dk_3 (dk_at dksX9_undo_0 1 rfl rfl)
theorem dX9_undo_2 : decode cX9_undo 2 = .ok (.putfield 82, 3) := dk_181 0 82 (dk_at dksX9_undo_0 2 rfl rfl)
theorem dX9_undo_5 : decode cX9_undo 5 = .ok (.aload_n 0, 1) := dk_42 (dk_at dksX9_undo_0 5 rfl rfl)
theorem dX9_undo_6 : decode cX9_undo 6 = .ok (.getfield 228, 3) := dk_180 0 228 (dk_at dksX9_undo_0 6 rfl rfl)
theorem dX9_undo_9 : decode cX9_undo 9 = .ok (.ifCond .ne 5, 3) := dk_154 0 5 (dk_at dksX9_undo_0 9 rfl rfl)
theorem dX9_undo_12 : decode cX9_undo 12 = .ok (.iconst (-1), 1) := dk_2 (dk_at dksX9_undo_0 12 rfl rfl)
theorem dX9_undo_13 : decode cX9_undo 13 = .ok (.ireturn, 1) := dk_172 (dk_at dksX9_undo_0 13 rfl rfl)
theorem dX9_undo_14 : decode cX9_undo 14 = .ok (.aload_n 0, 1) := dk_42 (dk_at dksX9_undo_0 14 rfl rfl)
theorem dX9_undo_15 : decode cX9_undo 15 = .ok (.dup, 1) := dk_89 (dk_at dksX9_undo_0 15 rfl rfl)
theorem dX9_undo_16 : decode cX9_undo 16 = .ok (.getfield 228, 3) := dk_180 0 228 (dk_at dksX9_undo_0 16 rfl rfl)
theorem dX9_undo_19 : decode cX9_undo 19 = .ok (.iconst 1, 1) := dk_4 (dk_at dksX9_undo_0 19 rfl rfl)
theorem dX9_undo_20 : decode cX9_undo 20 = .ok (.isub, 1) := dk_100 (dk_at dksX9_undo_0 20 rfl rfl)
theorem dX9_undo_21 : decode cX9_undo 21 = .ok (.putfield 228, 3) := dk_181 0 228 (dk_at dksX9_undo_0 21 rfl rfl)
theorem dX9_undo_24 : decode cX9_undo 24 = .ok (.iconst 0, 1) := dk_3 (dk_at dksX9_undo_1 0 rfl rfl)
theorem dX9_undo_25 : decode cX9_undo 25 = .ok (.istore_n 1, 1) := dk_60 (dk_at dksX9_undo_1 1 rfl rfl)
theorem dX9_undo_26 : decode cX9_undo 26 = .ok (.iload_n 1, 1) := dk_27 (dk_at dksX9_undo_1 2 rfl rfl)
theorem dX9_undo_27 : decode cX9_undo 27 = .ok (.bipush 75, 2) := dk_16 75 (dk_at dksX9_undo_1 3 rfl rfl)
theorem dX9_undo_29 : decode cX9_undo 29 = .ok (.if_icmp .ge 32, 3) := dk_162 0 32 (dk_at dksX9_undo_1 5 rfl rfl)
theorem dX9_undo_32 : decode cX9_undo 32 = .ok (.aload_n 0, 1) := dk_42 (dk_at dksX9_undo_1 8 rfl rfl)
theorem dX9_undo_33 : decode cX9_undo 33 = .ok (.getfield 13, 3) := dk_180 0 13 (dk_at dksX9_undo_1 9 rfl rfl)
theorem dX9_undo_36 : decode cX9_undo 36 = .ok (.bipush 72, 2) := dk_16 72 (dk_at dksX9_undo_1 12 rfl rfl)
theorem dX9_undo_38 : decode cX9_undo 38 = .ok (.iload_n 1, 1) := dk_27 (dk_at dksX9_undo_1 14 rfl rfl)
theorem dX9_undo_39 : decode cX9_undo 39 = .ok (.iadd, 1) := dk_96 (dk_at dksX9_undo_1 15 rfl rfl)
theorem dX9_undo_40 : decode cX9_undo 40 = .ok (.aload_n 0, 1) := dk_42 (dk_at dksX9_undo_1 16 rfl rfl)
theorem dX9_undo_41 : decode cX9_undo 41 = .ok (.getfield 22, 3) := dk_180 0 22 (dk_at dksX9_undo_1 17 rfl rfl)
theorem dX9_undo_44 : decode cX9_undo 44 = .ok (.bipush 75, 2) := dk_16 75 (dk_at dksX9_undo_1 20 rfl rfl)
theorem dX9_undo_46 : decode cX9_undo 46 = .ok (.aload_n 0, 1) := dk_42 (dk_at dksX9_undo_1 22 rfl rfl)
theorem dX9_undo_47 : decode cX9_undo 47 = .ok (.getfield 228, 3) := dk_180 0 228 (dk_at dksX9_undo_2 0 rfl rfl)
theorem dX9_undo_50 : decode cX9_undo 50 = .ok (.imul, 1) := dk_104 (dk_at dksX9_undo_2 3 rfl rfl)
theorem dX9_undo_51 : decode cX9_undo 51 = .ok (.iload_n 1, 1) := dk_27 (dk_at dksX9_undo_2 4 rfl rfl)
theorem dX9_undo_52 : decode cX9_undo 52 = .ok (.iadd, 1) := dk_96 (dk_at dksX9_undo_2 5 rfl rfl)
theorem dX9_undo_53 : decode cX9_undo 53 = .ok (.iaload, 1) := dk_46 (dk_at dksX9_undo_2 6 rfl rfl)
theorem dX9_undo_54 : decode cX9_undo 54 = .ok (.iastore, 1) := dk_79 (dk_at dksX9_undo_2 7 rfl rfl)
theorem dX9_undo_55 : decode cX9_undo 55 = .ok (.iinc 1 1, 3) := dk_132 1 1 (dk_at dksX9_undo_2 8 rfl rfl)
theorem dX9_undo_58 : decode cX9_undo 58 = .ok (.goto (-32), 3) := dk_167 255 224 (dk_at dksX9_undo_2 11 rfl rfl)
theorem dX9_undo_61 : decode cX9_undo 61 = .ok (.aload_n 0, 1) := dk_42 (dk_at dksX9_undo_2 14 rfl rfl)
theorem dX9_undo_62 : decode cX9_undo 62 = .ok (.getfield 228, 3) := dk_180 0 228 (dk_at dksX9_undo_2 15 rfl rfl)
theorem dX9_undo_65 : decode cX9_undo 65 = .ok (.ireturn, 1) := dk_172 (dk_at dksX9_undo_2 18 rfl rfl)
abbrev cX9_meals : ByteArray := prog_25_method_72_code
def yX9_meals : MethodName := ⟨RX9, "meals", "(I)I"⟩
def dkwX9_meals_1 : List UInt8 := [17, 0, 200, 160, 0, 5, 3, 172, 42, 182, 1, 26, 42, 27, 182, 1, 39, 172]
abbrev dktX9_meals_1 : List UInt8 := dkwX9_meals_1 ++ []
def dkwX9_meals_0 : List UInt8 := [42, 3, 181, 0, 82, 27, 4, 16, 60, 184, 0, 149, 154, 0, 5, 2, 172, 42, 180, 0, 13, 16, 72, 46]
abbrev dktX9_meals_0 : List UInt8 := dkwX9_meals_0 ++ dktX9_meals_1
theorem dksX9_meals_0 : cX9_meals.data.toList.drop 0 = dktX9_meals_0 := by decide +kernel
theorem dksX9_meals_1 : cX9_meals.data.toList.drop 24 = dktX9_meals_1 := dk_seg dksX9_meals_0 24 rfl rfl
theorem dX9_meals_0 : decode cX9_meals 0 = .ok (.aload_n 0, 1) := dk_42 (dk_at dksX9_meals_0 0 rfl rfl)
theorem dX9_meals_1 : decode cX9_meals 1 = .ok (.iconst 0, 1) := dk_3 (dk_at dksX9_meals_0 1 rfl rfl)
theorem dX9_meals_2 : decode cX9_meals 2 = .ok (.putfield 82, 3) := dk_181 0 82 (dk_at dksX9_meals_0 2 rfl rfl)
theorem dX9_meals_5 : decode cX9_meals 5 = .ok (.iload_n 1, 1) := dk_27 (dk_at dksX9_meals_0 5 rfl rfl)
theorem dX9_meals_6 : decode cX9_meals 6 = .ok (.iconst 1, 1) := dk_4 (dk_at dksX9_meals_0 6 rfl rfl)
theorem dX9_meals_7 : decode cX9_meals 7 = .ok (.bipush 60, 2) := dk_16 60 (dk_at dksX9_meals_0 7 rfl rfl)
theorem dX9_meals_9 : decode cX9_meals 9 = .ok (.invokestatic 149, 3) := dk_184 0 149 (dk_at dksX9_meals_0 9 rfl rfl)
theorem dX9_meals_12 : decode cX9_meals 12 = .ok (.ifCond .ne 5, 3) := dk_154 0 5 (dk_at dksX9_meals_0 12 rfl rfl)
theorem dX9_meals_15 : decode cX9_meals 15 = .ok (.iconst (-1), 1) := dk_2 (dk_at dksX9_meals_0 15 rfl rfl)
theorem dX9_meals_16 : decode cX9_meals 16 = .ok (.ireturn, 1) := dk_172 (dk_at dksX9_meals_0 16 rfl rfl)
theorem dX9_meals_17 : decode cX9_meals 17 = .ok (.aload_n 0, 1) := dk_42 (dk_at dksX9_meals_0 17 rfl rfl)
theorem dX9_meals_18 : decode cX9_meals 18 = .ok (.getfield 13, 3) := dk_180 0 13 (dk_at dksX9_meals_0 18 rfl rfl)
theorem dX9_meals_21 : decode cX9_meals 21 = .ok (.bipush 72, 2) := dk_16 72 (dk_at dksX9_meals_0 21 rfl rfl)
theorem dX9_meals_23 : decode cX9_meals 23 = .ok (.iaload, 1) := dk_46 (dk_at dksX9_meals_0 23 rfl rfl)
theorem dX9_meals_24 : decode cX9_meals 24 = .ok (.sipush 200, 3) := dk_17 0 200 (dk_at dksX9_meals_1 0 rfl rfl)
theorem dX9_meals_27 : decode cX9_meals 27 = .ok (.if_icmp .ne 5, 3) := dk_160 0 5 (dk_at dksX9_meals_1 3 rfl rfl)
theorem dX9_meals_30 : decode cX9_meals 30 = .ok (.iconst 0, 1) := dk_3 (dk_at dksX9_meals_1 6 rfl rfl)
theorem dX9_meals_31 : decode cX9_meals 31 = .ok (.ireturn, 1) := dk_172 (dk_at dksX9_meals_1 7 rfl rfl)
theorem dX9_meals_32 : decode cX9_meals 32 = .ok (.aload_n 0, 1) := dk_42 (dk_at dksX9_meals_1 8 rfl rfl)
theorem dX9_meals_33 : decode cX9_meals 33 = .ok (.invokevirtual 282, 3) := dk_182 1 26 (dk_at dksX9_meals_1 9 rfl rfl)
theorem dX9_meals_36 : decode cX9_meals 36 = .ok (.aload_n 0, 1) := dk_42 (dk_at dksX9_meals_1 12 rfl rfl)
theorem dX9_meals_37 : decode cX9_meals 37 = .ok (.iload_n 1, 1) := dk_27 (dk_at dksX9_meals_1 13 rfl rfl)
theorem dX9_meals_38 : decode cX9_meals 38 = .ok (.invokevirtual 295, 3) := dk_182 1 39 (dk_at dksX9_meals_1 14 rfl rfl)
theorem dX9_meals_41 : decode cX9_meals 41 = .ok (.ireturn, 1) := dk_172 (dk_at dksX9_meals_1 17 rfl rfl)
abbrev cX9_passMeals : ByteArray := prog_25_method_71_code
def yX9_passMeals : MethodName := ⟨RX9, "passMeals", "(I)I"⟩
def dkwX9_passMeals_1 : List UInt8 := [182, 1, 36, 132, 3, 1, 167, 255, 244, 28, 172]
abbrev dktX9_passMeals_1 : List UInt8 := dkwX9_passMeals_1 ++ []
def dkwX9_passMeals_0 : List UInt8 := [27, 17, 0, 200, 42, 180, 0, 13, 16, 72, 46, 100, 184, 1, 9, 61, 3, 62, 29, 28, 162, 0, 13, 42]
abbrev dktX9_passMeals_0 : List UInt8 := dkwX9_passMeals_0 ++ dktX9_passMeals_1
theorem dksX9_passMeals_0 : cX9_passMeals.data.toList.drop 0 = dktX9_passMeals_0 := by decide +kernel
theorem dksX9_passMeals_1 : cX9_passMeals.data.toList.drop 24 = dktX9_passMeals_1 := dk_seg dksX9_passMeals_0 24 rfl rfl
theorem dX9_passMeals_0 : decode cX9_passMeals 0 = .ok (.iload_n 1, 1) := dk_27 (dk_at dksX9_passMeals_0 0 rfl rfl)
theorem dX9_passMeals_1 : decode cX9_passMeals 1 = .ok (.sipush 200, 3) := dk_17 0 200 (dk_at dksX9_passMeals_0 1 rfl rfl)
theorem dX9_passMeals_4 : decode cX9_passMeals 4 = .ok (.aload_n 0, 1) := dk_42 (dk_at dksX9_passMeals_0 4 rfl rfl)
theorem dX9_passMeals_5 : decode cX9_passMeals 5 = .ok (.getfield 13, 3) := dk_180 0 13 (dk_at dksX9_passMeals_0 5 rfl rfl)
theorem dX9_passMeals_8 : decode cX9_passMeals 8 = .ok (.bipush 72, 2) := dk_16 72 (dk_at dksX9_passMeals_0 8 rfl rfl)
theorem dX9_passMeals_10 : decode cX9_passMeals 10 = .ok (.iaload, 1) := dk_46 (dk_at dksX9_passMeals_0 10 rfl rfl)
theorem dX9_passMeals_11 : decode cX9_passMeals 11 = .ok (.isub, 1) := dk_100 (dk_at dksX9_passMeals_0 11 rfl rfl)
theorem dX9_passMeals_12 : decode cX9_passMeals 12 = .ok (.invokestatic 265, 3) := dk_184 1 9 (dk_at dksX9_passMeals_0 12 rfl rfl)
theorem dX9_passMeals_15 : decode cX9_passMeals 15 = .ok (.istore_n 2, 1) := dk_61 (dk_at dksX9_passMeals_0 15 rfl rfl)
theorem dX9_passMeals_16 : decode cX9_passMeals 16 = .ok (.iconst 0, 1) := dk_3 (dk_at dksX9_passMeals_0 16 rfl rfl)
theorem dX9_passMeals_17 : decode cX9_passMeals 17 = .ok (.istore_n 3, 1) := dk_62 (dk_at dksX9_passMeals_0 17 rfl rfl)
theorem dX9_passMeals_18 : decode cX9_passMeals 18 = .ok (.iload_n 3, 1) := dk_29 (dk_at dksX9_passMeals_0 18 rfl rfl)
theorem dX9_passMeals_19 : decode cX9_passMeals 19 = .ok (.iload_n 2, 1) := dk_28 (dk_at dksX9_passMeals_0 19 rfl rfl)
theorem dX9_passMeals_20 : decode cX9_passMeals 20 = .ok (.if_icmp .ge 13, 3) := dk_162 0 13 (dk_at dksX9_passMeals_0 20 rfl rfl)
theorem dX9_passMeals_23 : decode cX9_passMeals 23 = .ok (.aload_n 0, 1) := dk_42 (dk_at dksX9_passMeals_0 23 rfl rfl)
theorem dX9_passMeals_24 : decode cX9_passMeals 24 = .ok (.invokevirtual 292, 3) := dk_182 1 36 (dk_at dksX9_passMeals_1 0 rfl rfl)
theorem dX9_passMeals_27 : decode cX9_passMeals 27 = .ok (.iinc 3 1, 3) := dk_132 3 1 (dk_at dksX9_passMeals_1 3 rfl rfl)
theorem dX9_passMeals_30 : decode cX9_passMeals 30 = .ok (.goto (-12), 3) := dk_167 255 244 (dk_at dksX9_passMeals_1 6 rfl rfl)
theorem dX9_passMeals_33 : decode cX9_passMeals 33 = .ok (.iload_n 2, 1) := dk_28 (dk_at dksX9_passMeals_1 9 rfl rfl)
theorem dX9_passMeals_34 : decode cX9_passMeals 34 = .ok (.ireturn, 1) := dk_172 (dk_at dksX9_passMeals_1 10 rfl rfl)
abbrev cX9_oneMeal : ByteArray := prog_25_method_70_code
def yX9_oneMeal : MethodName := ⟨RX9, "oneMeal", "()V"⟩
def dkwX9_oneMeal_5 : List UInt8 := [180, 0, 13, 16, 72, 92, 46, 4, 96, 79, 177]
abbrev dktX9_oneMeal_5 : List UInt8 := dkwX9_oneMeal_5 ++ []
def dkwX9_oneMeal_4 : List UInt8 := [132, 2, 1, 167, 255, 199, 42, 180, 0, 13, 16, 91, 27, 96, 3, 79, 132, 1, 1, 167, 255, 146, 42]
abbrev dktX9_oneMeal_4 : List UInt8 := dkwX9_oneMeal_4 ++ dktX9_oneMeal_5
def dkwX9_oneMeal_3 : List UInt8 := [16, 6, 27, 104, 96, 28, 96, 92, 46, 29, 100, 79, 42, 180, 0, 13, 16, 76, 92, 46, 29, 96, 79]
abbrev dktX9_oneMeal_3 : List UInt8 := dkwX9_oneMeal_3 ++ dktX9_oneMeal_4
def dkwX9_oneMeal_2 : List UInt8 := [180, 0, 13, 16, 24, 28, 96, 46, 42, 27, 28, 182, 0, 234, 184, 1, 9, 62, 42, 180, 0, 13, 16, 105]
abbrev dktX9_oneMeal_2 : List UInt8 := dkwX9_oneMeal_2 ++ dktX9_oneMeal_3
def dkwX9_oneMeal_1 : List UInt8 := [16, 98, 27, 96, 92, 46, 42, 27, 182, 1, 12, 96, 79, 3, 61, 28, 16, 6, 162, 0, 57, 42]
abbrev dktX9_oneMeal_1 : List UInt8 := dkwX9_oneMeal_1 ++ dktX9_oneMeal_2
def dkwX9_oneMeal_0 : List UInt8 := [3, 60, 27, 42, 180, 0, 13, 3, 46, 162, 0, 106, 42, 27, 182, 0, 244, 154, 0, 20, 42, 180, 0, 13]
abbrev dktX9_oneMeal_0 : List UInt8 := dkwX9_oneMeal_0 ++ dktX9_oneMeal_1
theorem dksX9_oneMeal_0 : cX9_oneMeal.data.toList.drop 0 = dktX9_oneMeal_0 := by decide +kernel
theorem dksX9_oneMeal_1 : cX9_oneMeal.data.toList.drop 24 = dktX9_oneMeal_1 := dk_seg dksX9_oneMeal_0 24 rfl rfl
theorem dksX9_oneMeal_2 : cX9_oneMeal.data.toList.drop 46 = dktX9_oneMeal_2 := dk_seg dksX9_oneMeal_1 22 rfl rfl
theorem dksX9_oneMeal_3 : cX9_oneMeal.data.toList.drop 70 = dktX9_oneMeal_3 := dk_seg dksX9_oneMeal_2 24 rfl rfl
theorem dksX9_oneMeal_4 : cX9_oneMeal.data.toList.drop 93 = dktX9_oneMeal_4 := dk_seg dksX9_oneMeal_3 23 rfl rfl
theorem dksX9_oneMeal_5 : cX9_oneMeal.data.toList.drop 116 = dktX9_oneMeal_5 := dk_seg dksX9_oneMeal_4 23 rfl rfl
theorem dX9_oneMeal_0 : decode cX9_oneMeal 0 = .ok (.iconst 0, 1) := dk_3 (dk_at dksX9_oneMeal_0 0 rfl rfl)
theorem dX9_oneMeal_1 : decode cX9_oneMeal 1 = .ok (.istore_n 1, 1) := dk_60 (dk_at dksX9_oneMeal_0 1 rfl rfl)
theorem dX9_oneMeal_2 : decode cX9_oneMeal 2 = .ok (.iload_n 1, 1) := dk_27 (dk_at dksX9_oneMeal_0 2 rfl rfl)
theorem dX9_oneMeal_3 : decode cX9_oneMeal 3 = .ok (.aload_n 0, 1) := dk_42 (dk_at dksX9_oneMeal_0 3 rfl rfl)
theorem dX9_oneMeal_4 : decode cX9_oneMeal 4 = .ok (.getfield 13, 3) := dk_180 0 13 (dk_at dksX9_oneMeal_0 4 rfl rfl)
theorem dX9_oneMeal_7 : decode cX9_oneMeal 7 = .ok (.iconst 0, 1) := dk_3 (dk_at dksX9_oneMeal_0 7 rfl rfl)
theorem dX9_oneMeal_8 : decode cX9_oneMeal 8 = .ok (.iaload, 1) := dk_46 (dk_at dksX9_oneMeal_0 8 rfl rfl)
theorem dX9_oneMeal_9 : decode cX9_oneMeal 9 = .ok (.if_icmp .ge 106, 3) := dk_162 0 106 (dk_at dksX9_oneMeal_0 9 rfl rfl)
theorem dX9_oneMeal_12 : decode cX9_oneMeal 12 = .ok (.aload_n 0, 1) := dk_42 (dk_at dksX9_oneMeal_0 12 rfl rfl)
theorem dX9_oneMeal_13 : decode cX9_oneMeal 13 = .ok (.iload_n 1, 1) := dk_27 (dk_at dksX9_oneMeal_0 13 rfl rfl)
theorem dX9_oneMeal_14 : decode cX9_oneMeal 14 = .ok (.invokevirtual 244, 3) := dk_182 0 244 (dk_at dksX9_oneMeal_0 14 rfl rfl)
theorem dX9_oneMeal_17 : decode cX9_oneMeal 17 = .ok (.ifCond .ne 20, 3) := dk_154 0 20 (dk_at dksX9_oneMeal_0 17 rfl rfl)
theorem dX9_oneMeal_20 : decode cX9_oneMeal 20 = .ok (.aload_n 0, 1) := dk_42 (dk_at dksX9_oneMeal_0 20 rfl rfl)
theorem dX9_oneMeal_21 : decode cX9_oneMeal 21 = .ok (.getfield 13, 3) := dk_180 0 13 (dk_at dksX9_oneMeal_0 21 rfl rfl)
theorem dX9_oneMeal_24 : decode cX9_oneMeal 24 = .ok (.bipush 98, 2) := dk_16 98 (dk_at dksX9_oneMeal_1 0 rfl rfl)
theorem dX9_oneMeal_26 : decode cX9_oneMeal 26 = .ok (.iload_n 1, 1) := dk_27 (dk_at dksX9_oneMeal_1 2 rfl rfl)
theorem dX9_oneMeal_27 : decode cX9_oneMeal 27 = .ok (.iadd, 1) := dk_96 (dk_at dksX9_oneMeal_1 3 rfl rfl)
theorem dX9_oneMeal_28 : decode cX9_oneMeal 28 = .ok (.dup2, 1) := dk_92 (dk_at dksX9_oneMeal_1 4 rfl rfl)
theorem dX9_oneMeal_29 : decode cX9_oneMeal 29 = .ok (.iaload, 1) := dk_46 (dk_at dksX9_oneMeal_1 5 rfl rfl)
theorem dX9_oneMeal_30 : decode cX9_oneMeal 30 = .ok (.aload_n 0, 1) := dk_42 (dk_at dksX9_oneMeal_1 6 rfl rfl)
theorem dX9_oneMeal_31 : decode cX9_oneMeal 31 = .ok (.iload_n 1, 1) := dk_27 (dk_at dksX9_oneMeal_1 7 rfl rfl)
theorem dX9_oneMeal_32 : decode cX9_oneMeal 32 = .ok (.invokevirtual 268, 3) := dk_182 1 12 (dk_at dksX9_oneMeal_1 8 rfl rfl)
theorem dX9_oneMeal_35 : decode cX9_oneMeal 35 = .ok (.iadd, 1) := dk_96 (dk_at dksX9_oneMeal_1 11 rfl rfl)
theorem dX9_oneMeal_36 : decode cX9_oneMeal 36 = .ok (.iastore, 1) := dk_79 (dk_at dksX9_oneMeal_1 12 rfl rfl)
theorem dX9_oneMeal_37 : decode cX9_oneMeal 37 = .ok (.iconst 0, 1) := dk_3 (dk_at dksX9_oneMeal_1 13 rfl rfl)
theorem dX9_oneMeal_38 : decode cX9_oneMeal 38 = .ok (.istore_n 2, 1) := dk_61 (dk_at dksX9_oneMeal_1 14 rfl rfl)
theorem dX9_oneMeal_39 : decode cX9_oneMeal 39 = .ok (.iload_n 2, 1) := dk_28 (dk_at dksX9_oneMeal_1 15 rfl rfl)
theorem dX9_oneMeal_40 : decode cX9_oneMeal 40 = .ok (.bipush 6, 2) := dk_16 6 (dk_at dksX9_oneMeal_1 16 rfl rfl)
theorem dX9_oneMeal_42 : decode cX9_oneMeal 42 = .ok (.if_icmp .ge 57, 3) := dk_162 0 57 (dk_at dksX9_oneMeal_1 18 rfl rfl)
theorem dX9_oneMeal_45 : decode cX9_oneMeal 45 = .ok (.aload_n 0, 1) := dk_42 (dk_at dksX9_oneMeal_1 21 rfl rfl)
theorem dX9_oneMeal_46 : decode cX9_oneMeal 46 = .ok (.getfield 13, 3) := dk_180 0 13 (dk_at dksX9_oneMeal_2 0 rfl rfl)
theorem dX9_oneMeal_49 : decode cX9_oneMeal 49 = .ok (.bipush 24, 2) := dk_16 24 (dk_at dksX9_oneMeal_2 3 rfl rfl)
theorem dX9_oneMeal_51 : decode cX9_oneMeal 51 = .ok (.iload_n 2, 1) := dk_28 (dk_at dksX9_oneMeal_2 5 rfl rfl)
theorem dX9_oneMeal_52 : decode cX9_oneMeal 52 = .ok (.iadd, 1) := dk_96 (dk_at dksX9_oneMeal_2 6 rfl rfl)
theorem dX9_oneMeal_53 : decode cX9_oneMeal 53 = .ok (.iaload, 1) := dk_46 (dk_at dksX9_oneMeal_2 7 rfl rfl)
theorem dX9_oneMeal_54 : decode cX9_oneMeal 54 = .ok (.aload_n 0, 1) := dk_42 (dk_at dksX9_oneMeal_2 8 rfl rfl)
theorem dX9_oneMeal_55 : decode cX9_oneMeal 55 = .ok (.iload_n 1, 1) := dk_27 (dk_at dksX9_oneMeal_2 9 rfl rfl)
theorem dX9_oneMeal_56 : decode cX9_oneMeal 56 = .ok (.iload_n 2, 1) := dk_28 (dk_at dksX9_oneMeal_2 10 rfl rfl)
theorem dX9_oneMeal_57 : decode cX9_oneMeal 57 = .ok (.invokevirtual 234, 3) := dk_182 0 234 (dk_at dksX9_oneMeal_2 11 rfl rfl)
theorem dX9_oneMeal_60 : decode cX9_oneMeal 60 = .ok (.invokestatic 265, 3) := dk_184 1 9 (dk_at dksX9_oneMeal_2 14 rfl rfl)
theorem dX9_oneMeal_63 : decode cX9_oneMeal 63 = .ok (.istore_n 3, 1) := dk_62 (dk_at dksX9_oneMeal_2 17 rfl rfl)
theorem dX9_oneMeal_64 : decode cX9_oneMeal 64 = .ok (.aload_n 0, 1) := dk_42 (dk_at dksX9_oneMeal_2 18 rfl rfl)
theorem dX9_oneMeal_65 : decode cX9_oneMeal 65 = .ok (.getfield 13, 3) := dk_180 0 13 (dk_at dksX9_oneMeal_2 19 rfl rfl)
theorem dX9_oneMeal_68 : decode cX9_oneMeal 68 = .ok (.bipush 105, 2) := dk_16 105 (dk_at dksX9_oneMeal_2 22 rfl rfl)
theorem dX9_oneMeal_70 : decode cX9_oneMeal 70 = .ok (.bipush 6, 2) := dk_16 6 (dk_at dksX9_oneMeal_3 0 rfl rfl)
theorem dX9_oneMeal_72 : decode cX9_oneMeal 72 = .ok (.iload_n 1, 1) := dk_27 (dk_at dksX9_oneMeal_3 2 rfl rfl)
theorem dX9_oneMeal_73 : decode cX9_oneMeal 73 = .ok (.imul, 1) := dk_104 (dk_at dksX9_oneMeal_3 3 rfl rfl)
theorem dX9_oneMeal_74 : decode cX9_oneMeal 74 = .ok (.iadd, 1) := dk_96 (dk_at dksX9_oneMeal_3 4 rfl rfl)
theorem dX9_oneMeal_75 : decode cX9_oneMeal 75 = .ok (.iload_n 2, 1) := dk_28 (dk_at dksX9_oneMeal_3 5 rfl rfl)
theorem dX9_oneMeal_76 : decode cX9_oneMeal 76 = .ok (.iadd, 1) := dk_96 (dk_at dksX9_oneMeal_3 6 rfl rfl)
theorem dX9_oneMeal_77 : decode cX9_oneMeal 77 = .ok (.dup2, 1) := dk_92 (dk_at dksX9_oneMeal_3 7 rfl rfl)
theorem dX9_oneMeal_78 : decode cX9_oneMeal 78 = .ok (.iaload, 1) := dk_46 (dk_at dksX9_oneMeal_3 8 rfl rfl)
theorem dX9_oneMeal_79 : decode cX9_oneMeal 79 = .ok (.iload_n 3, 1) := dk_29 (dk_at dksX9_oneMeal_3 9 rfl rfl)
theorem dX9_oneMeal_80 : decode cX9_oneMeal 80 = .ok (.isub, 1) := dk_100 (dk_at dksX9_oneMeal_3 10 rfl rfl)
theorem dX9_oneMeal_81 : decode cX9_oneMeal 81 = .ok (.iastore, 1) := dk_79 (dk_at dksX9_oneMeal_3 11 rfl rfl)
theorem dX9_oneMeal_82 : decode cX9_oneMeal 82 = .ok (.aload_n 0, 1) := dk_42 (dk_at dksX9_oneMeal_3 12 rfl rfl)
theorem dX9_oneMeal_83 : decode cX9_oneMeal 83 = .ok (.getfield 13, 3) := dk_180 0 13 (dk_at dksX9_oneMeal_3 13 rfl rfl)
theorem dX9_oneMeal_86 : decode cX9_oneMeal 86 = .ok (.bipush 76, 2) := dk_16 76 (dk_at dksX9_oneMeal_3 16 rfl rfl)
theorem dX9_oneMeal_88 : decode cX9_oneMeal 88 = .ok (.dup2, 1) := dk_92 (dk_at dksX9_oneMeal_3 18 rfl rfl)
theorem dX9_oneMeal_89 : decode cX9_oneMeal 89 = .ok (.iaload, 1) := dk_46 (dk_at dksX9_oneMeal_3 19 rfl rfl)
theorem dX9_oneMeal_90 : decode cX9_oneMeal 90 = .ok (.iload_n 3, 1) := dk_29 (dk_at dksX9_oneMeal_3 20 rfl rfl)
theorem dX9_oneMeal_91 : decode cX9_oneMeal 91 = .ok (.iadd, 1) := dk_96 (dk_at dksX9_oneMeal_3 21 rfl rfl)
theorem dX9_oneMeal_92 : decode cX9_oneMeal 92 = .ok (.iastore, 1) := dk_79 (dk_at dksX9_oneMeal_3 22 rfl rfl)
theorem dX9_oneMeal_93 : decode cX9_oneMeal 93 = .ok (.iinc 2 1, 3) := dk_132 2 1 (dk_at dksX9_oneMeal_4 0 rfl rfl)
theorem dX9_oneMeal_96 : decode cX9_oneMeal 96 = .ok (.goto (-57), 3) := dk_167 255 199 (dk_at dksX9_oneMeal_4 3 rfl rfl)
theorem dX9_oneMeal_99 : decode cX9_oneMeal 99 = .ok (.aload_n 0, 1) := dk_42 (dk_at dksX9_oneMeal_4 6 rfl rfl)
theorem dX9_oneMeal_100 : decode cX9_oneMeal 100 = .ok (.getfield 13, 3) := dk_180 0 13 (dk_at dksX9_oneMeal_4 7 rfl rfl)
theorem dX9_oneMeal_103 : decode cX9_oneMeal 103 = .ok (.bipush 91, 2) := dk_16 91 (dk_at dksX9_oneMeal_4 10 rfl rfl)
theorem dX9_oneMeal_105 : decode cX9_oneMeal 105 = .ok (.iload_n 1, 1) := dk_27 (dk_at dksX9_oneMeal_4 12 rfl rfl)
theorem dX9_oneMeal_106 : decode cX9_oneMeal 106 = .ok (.iadd, 1) := dk_96 (dk_at dksX9_oneMeal_4 13 rfl rfl)
theorem dX9_oneMeal_107 : decode cX9_oneMeal 107 = .ok (.iconst 0, 1) := dk_3 (dk_at dksX9_oneMeal_4 14 rfl rfl)
theorem dX9_oneMeal_108 : decode cX9_oneMeal 108 = .ok (.iastore, 1) := dk_79 (dk_at dksX9_oneMeal_4 15 rfl rfl)
theorem dX9_oneMeal_109 : decode cX9_oneMeal 109 = .ok (.iinc 1 1, 3) := dk_132 1 1 (dk_at dksX9_oneMeal_4 16 rfl rfl)
theorem dX9_oneMeal_112 : decode cX9_oneMeal 112 = .ok (.goto (-110), 3) := dk_167 255 146 (dk_at dksX9_oneMeal_4 19 rfl rfl)
theorem dX9_oneMeal_115 : decode cX9_oneMeal 115 = .ok (.aload_n 0, 1) := dk_42 (dk_at dksX9_oneMeal_4 22 rfl rfl)
theorem dX9_oneMeal_116 : decode cX9_oneMeal 116 = .ok (.getfield 13, 3) := dk_180 0 13 (dk_at dksX9_oneMeal_5 0 rfl rfl)
theorem dX9_oneMeal_119 : decode cX9_oneMeal 119 = .ok (.bipush 72, 2) := dk_16 72 (dk_at dksX9_oneMeal_5 3 rfl rfl)
theorem dX9_oneMeal_121 : decode cX9_oneMeal 121 = .ok (.dup2, 1) := dk_92 (dk_at dksX9_oneMeal_5 5 rfl rfl)
theorem dX9_oneMeal_122 : decode cX9_oneMeal 122 = .ok (.iaload, 1) := dk_46 (dk_at dksX9_oneMeal_5 6 rfl rfl)
theorem dX9_oneMeal_123 : decode cX9_oneMeal 123 = .ok (.iconst 1, 1) := dk_4 (dk_at dksX9_oneMeal_5 7 rfl rfl)
theorem dX9_oneMeal_124 : decode cX9_oneMeal 124 = .ok (.iadd, 1) := dk_96 (dk_at dksX9_oneMeal_5 8 rfl rfl)
theorem dX9_oneMeal_125 : decode cX9_oneMeal 125 = .ok (.iastore, 1) := dk_79 (dk_at dksX9_oneMeal_5 9 rfl rfl)
theorem dX9_oneMeal_126 : decode cX9_oneMeal 126 = .ok (.return_, 1) := dk_177 (dk_at dksX9_oneMeal_5 10 rfl rfl)
abbrev cX9_order : ByteArray := prog_25_method_76_code
def yX9_order : MethodName := ⟨RX9, "order", "()I"⟩
def dkwX9_order_1 : List UInt8 := [3, 42, 182, 1, 53, 182, 1, 48, 42, 180, 1, 42, 172]
abbrev dktX9_order_1 : List UInt8 := dkwX9_order_1 ++ []
def dkwX9_order_0 : List UInt8 := [42, 3, 181, 0, 82, 42, 19, 1, 52, 181, 1, 42, 42, 42, 182, 1, 53, 184, 1, 56, 181, 1, 59, 42]
abbrev dktX9_order_0 : List UInt8 := dkwX9_order_0 ++ dktX9_order_1
theorem dksX9_order_0 : cX9_order.data.toList.drop 0 = dktX9_order_0 := by decide +kernel
theorem dksX9_order_1 : cX9_order.data.toList.drop 24 = dktX9_order_1 := dk_seg dksX9_order_0 24 rfl rfl
theorem dX9_order_0 : decode cX9_order 0 = .ok (.aload_n 0, 1) := dk_42 (dk_at dksX9_order_0 0 rfl rfl)
theorem dX9_order_1 : decode cX9_order 1 = .ok (.iconst 0, 1) := dk_3 (dk_at dksX9_order_0 1 rfl rfl)
theorem dX9_order_2 : decode cX9_order 2 = .ok (.putfield 82, 3) := dk_181 0 82 (dk_at dksX9_order_0 2 rfl rfl)
theorem dX9_order_5 : decode cX9_order 5 = .ok (.aload_n 0, 1) := dk_42 (dk_at dksX9_order_0 5 rfl rfl)
theorem dX9_order_6 : decode cX9_order 6 = .ok (.ldc_w 308, 3) := dk_19 1 52 (dk_at dksX9_order_0 6 rfl rfl)
theorem dX9_order_9 : decode cX9_order 9 = .ok (.putfield 298, 3) := dk_181 1 42 (dk_at dksX9_order_0 9 rfl rfl)
theorem dX9_order_12 : decode cX9_order 12 = .ok (.aload_n 0, 1) := dk_42 (dk_at dksX9_order_0 12 rfl rfl)
theorem dX9_order_13 : decode cX9_order 13 = .ok (.aload_n 0, 1) := dk_42 (dk_at dksX9_order_0 13 rfl rfl)
theorem dX9_order_14 : decode cX9_order 14 = .ok (.invokevirtual 309, 3) := dk_182 1 53 (dk_at dksX9_order_0 14 rfl rfl)
theorem dX9_order_17 : decode cX9_order 17 = .ok (.invokestatic 312, 3) := dk_184 1 56 (dk_at dksX9_order_0 17 rfl rfl)
theorem dX9_order_20 : decode cX9_order 20 = .ok (.putfield 315, 3) := dk_181 1 59 (dk_at dksX9_order_0 20 rfl rfl)
theorem dX9_order_23 : decode cX9_order 23 = .ok (.aload_n 0, 1) := dk_42 (dk_at dksX9_order_0 23 rfl rfl)
theorem dX9_order_24 : decode cX9_order 24 = .ok (.iconst 0, 1) := dk_3 (dk_at dksX9_order_1 0 rfl rfl)
theorem dX9_order_25 : decode cX9_order 25 = .ok (.aload_n 0, 1) := dk_42 (dk_at dksX9_order_1 1 rfl rfl)
theorem dX9_order_26 : decode cX9_order 26 = .ok (.invokevirtual 309, 3) := dk_182 1 53 (dk_at dksX9_order_1 2 rfl rfl)
theorem dX9_order_29 : decode cX9_order 29 = .ok (.invokevirtual 304, 3) := dk_182 1 48 (dk_at dksX9_order_1 5 rfl rfl)
theorem dX9_order_32 : decode cX9_order 32 = .ok (.aload_n 0, 1) := dk_42 (dk_at dksX9_order_1 8 rfl rfl)
theorem dX9_order_33 : decode cX9_order 33 = .ok (.getfield 298, 3) := dk_180 1 42 (dk_at dksX9_order_1 9 rfl rfl)
theorem dX9_order_36 : decode cX9_order 36 = .ok (.ireturn, 1) := dk_172 (dk_at dksX9_order_1 12 rfl rfl)
abbrev cX9_living : ByteArray := prog_25_method_75_code
def yX9_living : MethodName := ⟨RX9, "living", "()I"⟩
def dkwX9_living_0 : List UInt8 := [4, 42, 180, 0, 13, 3, 46, 120, 4, 100, 42, 180, 0, 13, 16, 73, 46, 2, 130, 126, 172]
abbrev dktX9_living_0 : List UInt8 := dkwX9_living_0 ++ []
theorem dksX9_living_0 : cX9_living.data.toList.drop 0 = dktX9_living_0 := by decide +kernel
theorem dX9_living_0 : decode cX9_living 0 = .ok (.iconst 1, 1) := dk_4 (dk_at dksX9_living_0 0 rfl rfl)
theorem dX9_living_1 : decode cX9_living 1 = .ok (.aload_n 0, 1) := dk_42 (dk_at dksX9_living_0 1 rfl rfl)
theorem dX9_living_2 : decode cX9_living 2 = .ok (.getfield 13, 3) := dk_180 0 13 (dk_at dksX9_living_0 2 rfl rfl)
theorem dX9_living_5 : decode cX9_living 5 = .ok (.iconst 0, 1) := dk_3 (dk_at dksX9_living_0 5 rfl rfl)
theorem dX9_living_6 : decode cX9_living 6 = .ok (.iaload, 1) := dk_46 (dk_at dksX9_living_0 6 rfl rfl)
theorem dX9_living_7 : decode cX9_living 7 = .ok (.ishl, 1) := dk_120 (dk_at dksX9_living_0 7 rfl rfl)
theorem dX9_living_8 : decode cX9_living 8 = .ok (.iconst 1, 1) := dk_4 (dk_at dksX9_living_0 8 rfl rfl)
theorem dX9_living_9 : decode cX9_living 9 = .ok (.isub, 1) := dk_100 (dk_at dksX9_living_0 9 rfl rfl)
theorem dX9_living_10 : decode cX9_living 10 = .ok (.aload_n 0, 1) := dk_42 (dk_at dksX9_living_0 10 rfl rfl)
theorem dX9_living_11 : decode cX9_living 11 = .ok (.getfield 13, 3) := dk_180 0 13 (dk_at dksX9_living_0 11 rfl rfl)
theorem dX9_living_14 : decode cX9_living 14 = .ok (.bipush 73, 2) := dk_16 73 (dk_at dksX9_living_0 14 rfl rfl)
theorem dX9_living_16 : decode cX9_living 16 = .ok (.iaload, 1) := dk_46 (dk_at dksX9_living_0 16 rfl rfl)
theorem dX9_living_17 : decode cX9_living 17 = .ok (.iconst (-1), 1) := dk_2 (dk_at dksX9_living_0 17 rfl rfl)
theorem dX9_living_18 : decode cX9_living 18 = .ok (.ixor, 1) := dk_130 (dk_at dksX9_living_0 18 rfl rfl)
theorem dX9_living_19 : decode cX9_living 19 = .ok (.iand, 1) := dk_126 (dk_at dksX9_living_0 19 rfl rfl)
theorem dX9_living_20 : decode cX9_living 20 = .ok (.ireturn, 1) := dk_172 (dk_at dksX9_living_0 20 rfl rfl)
abbrev cX9_bits : ByteArray := prog_25_method_10_code
def yX9_bits : MethodName := ⟨RX9, "bits", "(I)I"⟩
def dkwX9_bits_0 : List UInt8 := [3, 60, 26, 61, 28, 153, 0, 15, 132, 1, 1, 28, 28, 4, 100, 126, 61, 167, 255, 243, 27, 172]
abbrev dktX9_bits_0 : List UInt8 := dkwX9_bits_0 ++ []
theorem dksX9_bits_0 : cX9_bits.data.toList.drop 0 = dktX9_bits_0 := by decide +kernel
theorem dX9_bits_0 : decode cX9_bits 0 = .ok (.iconst 0, 1) := dk_3 (dk_at dksX9_bits_0 0 rfl rfl)
theorem dX9_bits_1 : decode cX9_bits 1 = .ok (.istore_n 1, 1) := dk_60 (dk_at dksX9_bits_0 1 rfl rfl)
theorem dX9_bits_2 : decode cX9_bits 2 = .ok (.iload_n 0, 1) := dk_26 (dk_at dksX9_bits_0 2 rfl rfl)
theorem dX9_bits_3 : decode cX9_bits 3 = .ok (.istore_n 2, 1) := dk_61 (dk_at dksX9_bits_0 3 rfl rfl)
theorem dX9_bits_4 : decode cX9_bits 4 = .ok (.iload_n 2, 1) := dk_28 (dk_at dksX9_bits_0 4 rfl rfl)
theorem dX9_bits_5 : decode cX9_bits 5 = .ok (.ifCond .eq 15, 3) := dk_153 0 15 (dk_at dksX9_bits_0 5 rfl rfl)
theorem dX9_bits_8 : decode cX9_bits 8 = .ok (.iinc 1 1, 3) := dk_132 1 1 (dk_at dksX9_bits_0 8 rfl rfl)
theorem dX9_bits_11 : decode cX9_bits 11 = .ok (.iload_n 2, 1) := dk_28 (dk_at dksX9_bits_0 11 rfl rfl)
theorem dX9_bits_12 : decode cX9_bits 12 = .ok (.iload_n 2, 1) := dk_28 (dk_at dksX9_bits_0 12 rfl rfl)
theorem dX9_bits_13 : decode cX9_bits 13 = .ok (.iconst 1, 1) := dk_4 (dk_at dksX9_bits_0 13 rfl rfl)
theorem dX9_bits_14 : decode cX9_bits 14 = .ok (.isub, 1) := dk_100 (dk_at dksX9_bits_0 14 rfl rfl)
theorem dX9_bits_15 : decode cX9_bits 15 = .ok (.iand, 1) := dk_126 (dk_at dksX9_bits_0 15 rfl rfl)
theorem dX9_bits_16 : decode cX9_bits 16 = .ok (.istore_n 2, 1) := dk_61 (dk_at dksX9_bits_0 16 rfl rfl)
theorem dX9_bits_17 : decode cX9_bits 17 = .ok (.goto (-13), 3) := dk_167 255 243 (dk_at dksX9_bits_0 17 rfl rfl)
theorem dX9_bits_20 : decode cX9_bits 20 = .ok (.iload_n 1, 1) := dk_27 (dk_at dksX9_bits_0 20 rfl rfl)
theorem dX9_bits_21 : decode cX9_bits 21 = .ok (.ireturn, 1) := dk_172 (dk_at dksX9_bits_0 21 rfl rfl)
abbrev cX9_orderFrom : ByteArray := prog_25_method_74_code
def yX9_orderFrom : MethodName := ⟨RX9, "orderFrom", "(II)V"⟩
def dkwX9_orderFrom_9 : List UInt8 := [27, 104, 21, 4, 96, 46, 79, 132, 4, 1, 167, 255, 224, 132, 3, 1, 167, 255, 155, 177]
abbrev dktX9_orderFrom_9 : List UInt8 := dkwX9_orderFrom_9 ++ []
def dkwX9_orderFrom_8 : List UInt8 := [54, 4, 21, 4, 16, 75, 162, 0, 31, 42, 180, 0, 13, 16, 72, 21, 4, 96, 42, 180, 0, 48, 16, 75]
abbrev dktX9_orderFrom_8 : List UInt8 := dkwX9_orderFrom_8 ++ dktX9_orderFrom_9
def dkwX9_orderFrom_7 : List UInt8 := [158, 0, 8, 42, 29, 182, 1, 19, 42, 27, 4, 96, 28, 4, 29, 120, 2, 130, 126, 182, 1, 48, 3]
abbrev dktX9_orderFrom_7 : List UInt8 := dkwX9_orderFrom_7 ++ dktX9_orderFrom_8
def dkwX9_orderFrom_6 : List UInt8 := [154, 0, 6, 167, 0, 80, 42, 180, 0, 42, 27, 29, 79, 42, 29, 182, 1, 45, 42, 29, 182, 0, 247]
abbrev dktX9_orderFrom_6 : List UInt8 := dkwX9_orderFrom_6 ++ dktX9_orderFrom_7
def dkwX9_orderFrom_5 : List UInt8 := [79, 132, 3, 1, 167, 255, 227, 3, 62, 29, 42, 180, 0, 13, 3, 46, 162, 0, 97, 28, 29, 184, 0, 231]
abbrev dktX9_orderFrom_5 : List UInt8 := dkwX9_orderFrom_5 ++ dktX9_orderFrom_6
def dkwX9_orderFrom_4 : List UInt8 := [16, 75, 162, 0, 29, 42, 180, 0, 48, 16, 75, 27, 104, 29, 96, 42, 180, 0, 13, 16, 72, 29, 96, 46]
abbrev dktX9_orderFrom_4 : List UInt8 := dkwX9_orderFrom_4 ++ dktX9_orderFrom_5
def dkwX9_orderFrom_3 : List UInt8 := [180, 0, 45, 21, 4, 42, 180, 0, 42, 21, 4, 46, 79, 132, 4, 1, 167, 255, 233, 177, 3, 62, 29]
abbrev dktX9_orderFrom_3 : List UInt8 := dkwX9_orderFrom_3 ++ dktX9_orderFrom_4
def dkwX9_orderFrom_2 : List UInt8 := [180, 1, 42, 161, 0, 4, 177, 42, 29, 181, 1, 42, 3, 54, 4, 21, 4, 27, 162, 0, 23, 42]
abbrev dktX9_orderFrom_2 : List UInt8 := dkwX9_orderFrom_2 ++ dktX9_orderFrom_3
def dkwX9_orderFrom_1 : List UInt8 := [182, 0, 244, 154, 0, 12, 29, 42, 21, 4, 182, 1, 12, 96, 62, 132, 4, 1, 167, 255, 224, 29, 42]
abbrev dktX9_orderFrom_1 : List UInt8 := dkwX9_orderFrom_1 ++ dktX9_orderFrom_2
def dkwX9_orderFrom_0 : List UInt8 := [28, 154, 0, 87, 3, 62, 3, 54, 4, 21, 4, 42, 180, 0, 13, 3, 46, 162, 0, 27, 42, 21, 4]
abbrev dktX9_orderFrom_0 : List UInt8 := dkwX9_orderFrom_0 ++ dktX9_orderFrom_1
theorem dksX9_orderFrom_0 : cX9_orderFrom.data.toList.drop 0 = dktX9_orderFrom_0 := by decide +kernel
theorem dksX9_orderFrom_1 : cX9_orderFrom.data.toList.drop 23 = dktX9_orderFrom_1 := dk_seg dksX9_orderFrom_0 23 rfl rfl
theorem dksX9_orderFrom_2 : cX9_orderFrom.data.toList.drop 46 = dktX9_orderFrom_2 := dk_seg dksX9_orderFrom_1 23 rfl rfl
theorem dksX9_orderFrom_3 : cX9_orderFrom.data.toList.drop 68 = dktX9_orderFrom_3 := dk_seg dksX9_orderFrom_2 22 rfl rfl
theorem dksX9_orderFrom_4 : cX9_orderFrom.data.toList.drop 91 = dktX9_orderFrom_4 := dk_seg dksX9_orderFrom_3 23 rfl rfl
theorem dksX9_orderFrom_5 : cX9_orderFrom.data.toList.drop 115 = dktX9_orderFrom_5 := dk_seg dksX9_orderFrom_4 24 rfl rfl
theorem dksX9_orderFrom_6 : cX9_orderFrom.data.toList.drop 139 = dktX9_orderFrom_6 := dk_seg dksX9_orderFrom_5 24 rfl rfl
theorem dksX9_orderFrom_7 : cX9_orderFrom.data.toList.drop 162 = dktX9_orderFrom_7 := dk_seg dksX9_orderFrom_6 23 rfl rfl
theorem dksX9_orderFrom_8 : cX9_orderFrom.data.toList.drop 185 = dktX9_orderFrom_8 := dk_seg dksX9_orderFrom_7 23 rfl rfl
theorem dksX9_orderFrom_9 : cX9_orderFrom.data.toList.drop 209 = dktX9_orderFrom_9 := dk_seg dksX9_orderFrom_8 24 rfl rfl
theorem dX9_orderFrom_0 : decode cX9_orderFrom 0 = .ok (.iload_n 2, 1) := dk_28 (dk_at dksX9_orderFrom_0 0 rfl rfl)
theorem dX9_orderFrom_1 : decode cX9_orderFrom 1 = .ok (.ifCond .ne 87, 3) := dk_154 0 87 (dk_at dksX9_orderFrom_0 1 rfl rfl)
theorem dX9_orderFrom_4 : decode cX9_orderFrom 4 = .ok (.iconst 0, 1) := dk_3 (dk_at dksX9_orderFrom_0 4 rfl rfl)
theorem dX9_orderFrom_5 : decode cX9_orderFrom 5 = .ok (.istore_n 3, 1) := dk_62 (dk_at dksX9_orderFrom_0 5 rfl rfl)
theorem dX9_orderFrom_6 : decode cX9_orderFrom 6 = .ok (.iconst 0, 1) := dk_3 (dk_at dksX9_orderFrom_0 6 rfl rfl)
theorem dX9_orderFrom_7 : decode cX9_orderFrom 7 = .ok (.istore 4, 2) := dk_54 4 (dk_at dksX9_orderFrom_0 7 rfl rfl)
theorem dX9_orderFrom_9 : decode cX9_orderFrom 9 = .ok (.iload 4, 2) := dk_21 4 (dk_at dksX9_orderFrom_0 9 rfl rfl)
theorem dX9_orderFrom_11 : decode cX9_orderFrom 11 = .ok (.aload_n 0, 1) := dk_42 (dk_at dksX9_orderFrom_0 11 rfl rfl)
theorem dX9_orderFrom_12 : decode cX9_orderFrom 12 = .ok (.getfield 13, 3) := dk_180 0 13 (dk_at dksX9_orderFrom_0 12 rfl rfl)
theorem dX9_orderFrom_15 : decode cX9_orderFrom 15 = .ok (.iconst 0, 1) := dk_3 (dk_at dksX9_orderFrom_0 15 rfl rfl)
theorem dX9_orderFrom_16 : decode cX9_orderFrom 16 = .ok (.iaload, 1) := dk_46 (dk_at dksX9_orderFrom_0 16 rfl rfl)
theorem dX9_orderFrom_17 : decode cX9_orderFrom 17 = .ok (.if_icmp .ge 27, 3) := dk_162 0 27 (dk_at dksX9_orderFrom_0 17 rfl rfl)
theorem dX9_orderFrom_20 : decode cX9_orderFrom 20 = .ok (.aload_n 0, 1) := dk_42 (dk_at dksX9_orderFrom_0 20 rfl rfl)
theorem dX9_orderFrom_21 : decode cX9_orderFrom 21 = .ok (.iload 4, 2) := dk_21 4 (dk_at dksX9_orderFrom_0 21 rfl rfl)
theorem dX9_orderFrom_23 : decode cX9_orderFrom 23 = .ok (.invokevirtual 244, 3) := dk_182 0 244 (dk_at dksX9_orderFrom_1 0 rfl rfl)
theorem dX9_orderFrom_26 : decode cX9_orderFrom 26 = .ok (.ifCond .ne 12, 3) := dk_154 0 12 (dk_at dksX9_orderFrom_1 3 rfl rfl)
theorem dX9_orderFrom_29 : decode cX9_orderFrom 29 = .ok (.iload_n 3, 1) := dk_29 (dk_at dksX9_orderFrom_1 6 rfl rfl)
theorem dX9_orderFrom_30 : decode cX9_orderFrom 30 = .ok (.aload_n 0, 1) := dk_42 (dk_at dksX9_orderFrom_1 7 rfl rfl)
theorem dX9_orderFrom_31 : decode cX9_orderFrom 31 = .ok (.iload 4, 2) := dk_21 4 (dk_at dksX9_orderFrom_1 8 rfl rfl)
theorem dX9_orderFrom_33 : decode cX9_orderFrom 33 = .ok (.invokevirtual 268, 3) := dk_182 1 12 (dk_at dksX9_orderFrom_1 10 rfl rfl)
theorem dX9_orderFrom_36 : decode cX9_orderFrom 36 = .ok (.iadd, 1) := dk_96 (dk_at dksX9_orderFrom_1 13 rfl rfl)
theorem dX9_orderFrom_37 : decode cX9_orderFrom 37 = .ok (.istore_n 3, 1) := dk_62 (dk_at dksX9_orderFrom_1 14 rfl rfl)
theorem dX9_orderFrom_38 : decode cX9_orderFrom 38 = .ok (.iinc 4 1, 3) := dk_132 4 1 (dk_at dksX9_orderFrom_1 15 rfl rfl)
theorem dX9_orderFrom_41 : decode cX9_orderFrom 41 = .ok (.goto (-32), 3) := dk_167 255 224 (dk_at dksX9_orderFrom_1 18 rfl rfl)
theorem dX9_orderFrom_44 : decode cX9_orderFrom 44 = .ok (.iload_n 3, 1) := dk_29 (dk_at dksX9_orderFrom_1 21 rfl rfl)
theorem dX9_orderFrom_45 : decode cX9_orderFrom 45 = .ok (.aload_n 0, 1) := dk_42 (dk_at dksX9_orderFrom_1 22 rfl rfl)
theorem dX9_orderFrom_46 : decode cX9_orderFrom 46 = .ok (.getfield 298, 3) := dk_180 1 42 (dk_at dksX9_orderFrom_2 0 rfl rfl)
theorem dX9_orderFrom_49 : decode cX9_orderFrom 49 = .ok (.if_icmp .lt 4, 3) := dk_161 0 4 (dk_at dksX9_orderFrom_2 3 rfl rfl)
theorem dX9_orderFrom_52 : decode cX9_orderFrom 52 = .ok (.return_, 1) := dk_177 (dk_at dksX9_orderFrom_2 6 rfl rfl)
theorem dX9_orderFrom_53 : decode cX9_orderFrom 53 = .ok (.aload_n 0, 1) := dk_42 (dk_at dksX9_orderFrom_2 7 rfl rfl)
theorem dX9_orderFrom_54 : decode cX9_orderFrom 54 = .ok (.iload_n 3, 1) := dk_29 (dk_at dksX9_orderFrom_2 8 rfl rfl)
theorem dX9_orderFrom_55 : decode cX9_orderFrom 55 = .ok (.putfield 298, 3) := dk_181 1 42 (dk_at dksX9_orderFrom_2 9 rfl rfl)
theorem dX9_orderFrom_58 : decode cX9_orderFrom 58 = .ok (.iconst 0, 1) := dk_3 (dk_at dksX9_orderFrom_2 12 rfl rfl)
theorem dX9_orderFrom_59 : decode cX9_orderFrom 59 = .ok (.istore 4, 2) := dk_54 4 (dk_at dksX9_orderFrom_2 13 rfl rfl)
theorem dX9_orderFrom_61 : decode cX9_orderFrom 61 = .ok (.iload 4, 2) := dk_21 4 (dk_at dksX9_orderFrom_2 15 rfl rfl)
theorem dX9_orderFrom_63 : decode cX9_orderFrom 63 = .ok (.iload_n 1, 1) := dk_27 (dk_at dksX9_orderFrom_2 17 rfl rfl)
theorem dX9_orderFrom_64 : decode cX9_orderFrom 64 = .ok (.if_icmp .ge 23, 3) := dk_162 0 23 (dk_at dksX9_orderFrom_2 18 rfl rfl)
theorem dX9_orderFrom_67 : decode cX9_orderFrom 67 = .ok (.aload_n 0, 1) := dk_42 (dk_at dksX9_orderFrom_2 21 rfl rfl)
theorem dX9_orderFrom_68 : decode cX9_orderFrom 68 = .ok (.getfield 45, 3) := dk_180 0 45 (dk_at dksX9_orderFrom_3 0 rfl rfl)
theorem dX9_orderFrom_71 : decode cX9_orderFrom 71 = .ok (.iload 4, 2) := dk_21 4 (dk_at dksX9_orderFrom_3 3 rfl rfl)
theorem dX9_orderFrom_73 : decode cX9_orderFrom 73 = .ok (.aload_n 0, 1) := dk_42 (dk_at dksX9_orderFrom_3 5 rfl rfl)
theorem dX9_orderFrom_74 : decode cX9_orderFrom 74 = .ok (.getfield 42, 3) := dk_180 0 42 (dk_at dksX9_orderFrom_3 6 rfl rfl)
theorem dX9_orderFrom_77 : decode cX9_orderFrom 77 = .ok (.iload 4, 2) := dk_21 4 (dk_at dksX9_orderFrom_3 9 rfl rfl)
theorem dX9_orderFrom_79 : decode cX9_orderFrom 79 = .ok (.iaload, 1) := dk_46 (dk_at dksX9_orderFrom_3 11 rfl rfl)
theorem dX9_orderFrom_80 : decode cX9_orderFrom 80 = .ok (.iastore, 1) := dk_79 (dk_at dksX9_orderFrom_3 12 rfl rfl)
theorem dX9_orderFrom_81 : decode cX9_orderFrom 81 = .ok (.iinc 4 1, 3) := dk_132 4 1 (dk_at dksX9_orderFrom_3 13 rfl rfl)
theorem dX9_orderFrom_84 : decode cX9_orderFrom 84 = .ok (.goto (-23), 3) := dk_167 255 233 (dk_at dksX9_orderFrom_3 16 rfl rfl)
theorem dX9_orderFrom_87 : decode cX9_orderFrom 87 = .ok (.return_, 1) := dk_177 (dk_at dksX9_orderFrom_3 19 rfl rfl)
theorem dX9_orderFrom_88 : decode cX9_orderFrom 88 = .ok (.iconst 0, 1) := dk_3 (dk_at dksX9_orderFrom_3 20 rfl rfl)
theorem dX9_orderFrom_89 : decode cX9_orderFrom 89 = .ok (.istore_n 3, 1) := dk_62 (dk_at dksX9_orderFrom_3 21 rfl rfl)
theorem dX9_orderFrom_90 : decode cX9_orderFrom 90 = .ok (.iload_n 3, 1) := dk_29 (dk_at dksX9_orderFrom_3 22 rfl rfl)
theorem dX9_orderFrom_91 : decode cX9_orderFrom 91 = .ok (.bipush 75, 2) := dk_16 75 (dk_at dksX9_orderFrom_4 0 rfl rfl)
theorem dX9_orderFrom_93 : decode cX9_orderFrom 93 = .ok (.if_icmp .ge 29, 3) := dk_162 0 29 (dk_at dksX9_orderFrom_4 2 rfl rfl)
theorem dX9_orderFrom_96 : decode cX9_orderFrom 96 = .ok (.aload_n 0, 1) := dk_42 (dk_at dksX9_orderFrom_4 5 rfl rfl)
theorem dX9_orderFrom_97 : decode cX9_orderFrom 97 = .ok (.getfield 48, 3) := dk_180 0 48 (dk_at dksX9_orderFrom_4 6 rfl rfl)
theorem dX9_orderFrom_100 : decode cX9_orderFrom 100 = .ok (.bipush 75, 2) := dk_16 75 (dk_at dksX9_orderFrom_4 9 rfl rfl)
theorem dX9_orderFrom_102 : decode cX9_orderFrom 102 = .ok (.iload_n 1, 1) := dk_27 (dk_at dksX9_orderFrom_4 11 rfl rfl)
theorem dX9_orderFrom_103 : decode cX9_orderFrom 103 = .ok (.imul, 1) := dk_104 (dk_at dksX9_orderFrom_4 12 rfl rfl)
theorem dX9_orderFrom_104 : decode cX9_orderFrom 104 = .ok (.iload_n 3, 1) := dk_29 (dk_at dksX9_orderFrom_4 13 rfl rfl)
theorem dX9_orderFrom_105 : decode cX9_orderFrom 105 = .ok (.iadd, 1) := dk_96 (dk_at dksX9_orderFrom_4 14 rfl rfl)
theorem dX9_orderFrom_106 : decode cX9_orderFrom 106 = .ok (.aload_n 0, 1) := dk_42 (dk_at dksX9_orderFrom_4 15 rfl rfl)
theorem dX9_orderFrom_107 : decode cX9_orderFrom 107 = .ok (.getfield 13, 3) := dk_180 0 13 (dk_at dksX9_orderFrom_4 16 rfl rfl)
theorem dX9_orderFrom_110 : decode cX9_orderFrom 110 = .ok (.bipush 72, 2) := dk_16 72 (dk_at dksX9_orderFrom_4 19 rfl rfl)
theorem dX9_orderFrom_112 : decode cX9_orderFrom 112 = .ok (.iload_n 3, 1) := dk_29 (dk_at dksX9_orderFrom_4 21 rfl rfl)
theorem dX9_orderFrom_113 : decode cX9_orderFrom 113 = .ok (.iadd, 1) := dk_96 (dk_at dksX9_orderFrom_4 22 rfl rfl)
theorem dX9_orderFrom_114 : decode cX9_orderFrom 114 = .ok (.iaload, 1) := dk_46 (dk_at dksX9_orderFrom_4 23 rfl rfl)
theorem dX9_orderFrom_115 : decode cX9_orderFrom 115 = .ok (.iastore, 1) := dk_79 (dk_at dksX9_orderFrom_5 0 rfl rfl)
theorem dX9_orderFrom_116 : decode cX9_orderFrom 116 = .ok (.iinc 3 1, 3) := dk_132 3 1 (dk_at dksX9_orderFrom_5 1 rfl rfl)
theorem dX9_orderFrom_119 : decode cX9_orderFrom 119 = .ok (.goto (-29), 3) := dk_167 255 227 (dk_at dksX9_orderFrom_5 4 rfl rfl)
theorem dX9_orderFrom_122 : decode cX9_orderFrom 122 = .ok (.iconst 0, 1) := dk_3 (dk_at dksX9_orderFrom_5 7 rfl rfl)
theorem dX9_orderFrom_123 : decode cX9_orderFrom 123 = .ok (.istore_n 3, 1) := dk_62 (dk_at dksX9_orderFrom_5 8 rfl rfl)
theorem dX9_orderFrom_124 : decode cX9_orderFrom 124 = .ok (.iload_n 3, 1) := dk_29 (dk_at dksX9_orderFrom_5 9 rfl rfl)
theorem dX9_orderFrom_125 : decode cX9_orderFrom 125 = .ok (.aload_n 0, 1) := dk_42 (dk_at dksX9_orderFrom_5 10 rfl rfl)
theorem dX9_orderFrom_126 : decode cX9_orderFrom 126 = .ok (.getfield 13, 3) := dk_180 0 13 (dk_at dksX9_orderFrom_5 11 rfl rfl)
theorem dX9_orderFrom_129 : decode cX9_orderFrom 129 = .ok (.iconst 0, 1) := dk_3 (dk_at dksX9_orderFrom_5 14 rfl rfl)
theorem dX9_orderFrom_130 : decode cX9_orderFrom 130 = .ok (.iaload, 1) := dk_46 (dk_at dksX9_orderFrom_5 15 rfl rfl)
theorem dX9_orderFrom_131 : decode cX9_orderFrom 131 = .ok (.if_icmp .ge 97, 3) := dk_162 0 97 (dk_at dksX9_orderFrom_5 16 rfl rfl)
theorem dX9_orderFrom_134 : decode cX9_orderFrom 134 = .ok (.iload_n 2, 1) := dk_28 (dk_at dksX9_orderFrom_5 19 rfl rfl)
theorem dX9_orderFrom_135 : decode cX9_orderFrom 135 = .ok (.iload_n 3, 1) := dk_29 (dk_at dksX9_orderFrom_5 20 rfl rfl)
theorem dX9_orderFrom_136 : decode cX9_orderFrom 136 = .ok (.invokestatic 231, 3) := dk_184 0 231 (dk_at dksX9_orderFrom_5 21 rfl rfl)
theorem dX9_orderFrom_139 : decode cX9_orderFrom 139 = .ok (.ifCond .ne 6, 3) := dk_154 0 6 (dk_at dksX9_orderFrom_6 0 rfl rfl)
theorem dX9_orderFrom_142 : decode cX9_orderFrom 142 = .ok (.goto 80, 3) := dk_167 0 80 (dk_at dksX9_orderFrom_6 3 rfl rfl)
theorem dX9_orderFrom_145 : decode cX9_orderFrom 145 = .ok (.aload_n 0, 1) := dk_42 (dk_at dksX9_orderFrom_6 6 rfl rfl)
theorem dX9_orderFrom_146 : decode cX9_orderFrom 146 = .ok (.getfield 42, 3) := dk_180 0 42 (dk_at dksX9_orderFrom_6 7 rfl rfl)
theorem dX9_orderFrom_149 : decode cX9_orderFrom 149 = .ok (.iload_n 1, 1) := dk_27 (dk_at dksX9_orderFrom_6 10 rfl rfl)
theorem dX9_orderFrom_150 : decode cX9_orderFrom 150 = .ok (.iload_n 3, 1) := dk_29 (dk_at dksX9_orderFrom_6 11 rfl rfl)
theorem dX9_orderFrom_151 : decode cX9_orderFrom 151 = .ok (.iastore, 1) := dk_79 (dk_at dksX9_orderFrom_6 12 rfl rfl)
theorem dX9_orderFrom_152 : decode cX9_orderFrom 152 = .ok (.aload_n 0, 1) := dk_42 (dk_at dksX9_orderFrom_6 13 rfl rfl)
theorem dX9_orderFrom_153 : decode cX9_orderFrom 153 = .ok (.iload_n 3, 1) := dk_29 (dk_at dksX9_orderFrom_6 14 rfl rfl)
theorem dX9_orderFrom_154 : decode cX9_orderFrom 154 = .ok (.invokevirtual 301, 3) := dk_182 1 45 (dk_at dksX9_orderFrom_6 15 rfl rfl)
theorem dX9_orderFrom_157 : decode cX9_orderFrom 157 = .ok (.aload_n 0, 1) := dk_42 (dk_at dksX9_orderFrom_6 18 rfl rfl)
theorem dX9_orderFrom_158 : decode cX9_orderFrom 158 = .ok (.iload_n 3, 1) := dk_29 (dk_at dksX9_orderFrom_6 19 rfl rfl)
theorem dX9_orderFrom_159 : decode cX9_orderFrom 159 = .ok (.invokevirtual 247, 3) := dk_182 0 247 (dk_at dksX9_orderFrom_6 20 rfl rfl)
theorem dX9_orderFrom_162 : decode cX9_orderFrom 162 = .ok (.ifCond .le 8, 3) := dk_158 0 8 (dk_at dksX9_orderFrom_7 0 rfl rfl)
theorem dX9_orderFrom_165 : decode cX9_orderFrom 165 = .ok (.aload_n 0, 1) := dk_42 (dk_at dksX9_orderFrom_7 3 rfl rfl)
theorem dX9_orderFrom_166 : decode cX9_orderFrom 166 = .ok (.iload_n 3, 1) := dk_29 (dk_at dksX9_orderFrom_7 4 rfl rfl)
theorem dX9_orderFrom_167 : decode cX9_orderFrom 167 = .ok (.invokevirtual 275, 3) := dk_182 1 19 (dk_at dksX9_orderFrom_7 5 rfl rfl)
theorem dX9_orderFrom_170 : decode cX9_orderFrom 170 = .ok (.aload_n 0, 1) := dk_42 (dk_at dksX9_orderFrom_7 8 rfl rfl)
theorem dX9_orderFrom_171 : decode cX9_orderFrom 171 = .ok (.iload_n 1, 1) := dk_27 (dk_at dksX9_orderFrom_7 9 rfl rfl)
theorem dX9_orderFrom_172 : decode cX9_orderFrom 172 = .ok (.iconst 1, 1) := dk_4 (dk_at dksX9_orderFrom_7 10 rfl rfl)
theorem dX9_orderFrom_173 : decode cX9_orderFrom 173 = .ok (.iadd, 1) := dk_96 (dk_at dksX9_orderFrom_7 11 rfl rfl)
theorem dX9_orderFrom_174 : decode cX9_orderFrom 174 = .ok (.iload_n 2, 1) := dk_28 (dk_at dksX9_orderFrom_7 12 rfl rfl)
theorem dX9_orderFrom_175 : decode cX9_orderFrom 175 = .ok (.iconst 1, 1) := dk_4 (dk_at dksX9_orderFrom_7 13 rfl rfl)
theorem dX9_orderFrom_176 : decode cX9_orderFrom 176 = .ok (.iload_n 3, 1) := dk_29 (dk_at dksX9_orderFrom_7 14 rfl rfl)
theorem dX9_orderFrom_177 : decode cX9_orderFrom 177 = .ok (.ishl, 1) := dk_120 (dk_at dksX9_orderFrom_7 15 rfl rfl)
theorem dX9_orderFrom_178 : decode cX9_orderFrom 178 = .ok (.iconst (-1), 1) := dk_2 (dk_at dksX9_orderFrom_7 16 rfl rfl)
theorem dX9_orderFrom_179 : decode cX9_orderFrom 179 = .ok (.ixor, 1) := dk_130 (dk_at dksX9_orderFrom_7 17 rfl rfl)
theorem dX9_orderFrom_180 : decode cX9_orderFrom 180 = .ok (.iand, 1) := dk_126 (dk_at dksX9_orderFrom_7 18 rfl rfl)
theorem dX9_orderFrom_181 : decode cX9_orderFrom 181 = .ok (.invokevirtual 304, 3) := dk_182 1 48 (dk_at dksX9_orderFrom_7 19 rfl rfl)
theorem dX9_orderFrom_184 : decode cX9_orderFrom 184 = .ok (.iconst 0, 1) := dk_3 (dk_at dksX9_orderFrom_7 22 rfl rfl)
theorem dX9_orderFrom_185 : decode cX9_orderFrom 185 = .ok (.istore 4, 2) := dk_54 4 (dk_at dksX9_orderFrom_8 0 rfl rfl)
theorem dX9_orderFrom_187 : decode cX9_orderFrom 187 = .ok (.iload 4, 2) := dk_21 4 (dk_at dksX9_orderFrom_8 2 rfl rfl)
theorem dX9_orderFrom_189 : decode cX9_orderFrom 189 = .ok (.bipush 75, 2) := dk_16 75 (dk_at dksX9_orderFrom_8 4 rfl rfl)
theorem dX9_orderFrom_191 : decode cX9_orderFrom 191 = .ok (.if_icmp .ge 31, 3) := dk_162 0 31 (dk_at dksX9_orderFrom_8 6 rfl rfl)
theorem dX9_orderFrom_194 : decode cX9_orderFrom 194 = .ok (.aload_n 0, 1) := dk_42 (dk_at dksX9_orderFrom_8 9 rfl rfl)
theorem dX9_orderFrom_195 : decode cX9_orderFrom 195 = .ok (.getfield 13, 3) := dk_180 0 13 (dk_at dksX9_orderFrom_8 10 rfl rfl)
theorem dX9_orderFrom_198 : decode cX9_orderFrom 198 = .ok (.bipush 72, 2) := dk_16 72 (dk_at dksX9_orderFrom_8 13 rfl rfl)
theorem dX9_orderFrom_200 : decode cX9_orderFrom 200 = .ok (.iload 4, 2) := dk_21 4 (dk_at dksX9_orderFrom_8 15 rfl rfl)
theorem dX9_orderFrom_202 : decode cX9_orderFrom 202 = .ok (.iadd, 1) := dk_96 (dk_at dksX9_orderFrom_8 17 rfl rfl)
theorem dX9_orderFrom_203 : decode cX9_orderFrom 203 = .ok (.aload_n 0, 1) := dk_42 (dk_at dksX9_orderFrom_8 18 rfl rfl)
theorem dX9_orderFrom_204 : decode cX9_orderFrom 204 = .ok (.getfield 48, 3) := dk_180 0 48 (dk_at dksX9_orderFrom_8 19 rfl rfl)
theorem dX9_orderFrom_207 : decode cX9_orderFrom 207 = .ok (.bipush 75, 2) := dk_16 75 (dk_at dksX9_orderFrom_8 22 rfl rfl)
theorem dX9_orderFrom_209 : decode cX9_orderFrom 209 = .ok (.iload_n 1, 1) := dk_27 (dk_at dksX9_orderFrom_9 0 rfl rfl)
theorem dX9_orderFrom_210 : decode cX9_orderFrom 210 = .ok (.imul, 1) := dk_104 (dk_at dksX9_orderFrom_9 1 rfl rfl)
theorem dX9_orderFrom_211 : decode cX9_orderFrom 211 = .ok (.iload 4, 2) := dk_21 4 (dk_at dksX9_orderFrom_9 2 rfl rfl)
theorem dX9_orderFrom_213 : decode cX9_orderFrom 213 = .ok (.iadd, 1) := dk_96 (dk_at dksX9_orderFrom_9 4 rfl rfl)
theorem dX9_orderFrom_214 : decode cX9_orderFrom 214 = .ok (.iaload, 1) := dk_46 (dk_at dksX9_orderFrom_9 5 rfl rfl)
theorem dX9_orderFrom_215 : decode cX9_orderFrom 215 = .ok (.iastore, 1) := dk_79 (dk_at dksX9_orderFrom_9 6 rfl rfl)
theorem dX9_orderFrom_216 : decode cX9_orderFrom 216 = .ok (.iinc 4 1, 3) := dk_132 4 1 (dk_at dksX9_orderFrom_9 7 rfl rfl)
theorem dX9_orderFrom_219 : decode cX9_orderFrom 219 = .ok (.goto (-32), 3) := dk_167 255 224 (dk_at dksX9_orderFrom_9 10 rfl rfl)
theorem dX9_orderFrom_222 : decode cX9_orderFrom 222 = .ok (.iinc 3 1, 3) := dk_132 3 1 (dk_at dksX9_orderFrom_9 13 rfl rfl)
theorem dX9_orderFrom_225 : decode cX9_orderFrom 225 = .ok (.goto (-101), 3) := dk_167 255 155 (dk_at dksX9_orderFrom_9 16 rfl rfl)
theorem dX9_orderFrom_228 : decode cX9_orderFrom 228 = .ok (.return_, 1) := dk_177 (dk_at dksX9_orderFrom_9 19 rfl rfl)
abbrev cX9_eatsAll : ByteArray := prog_25_method_73_code
def yX9_eatsAll : MethodName := ⟨RX9, "eatsAll", "(I)V"⟩
def dkwX9_eatsAll_1 : List UInt8 := [184, 1, 9, 182, 1, 15, 132, 2, 1, 167, 255, 227, 177]
abbrev dktX9_eatsAll_1 : List UInt8 := dkwX9_eatsAll_1 ++ []
def dkwX9_eatsAll_0 : List UInt8 := [3, 61, 28, 16, 6, 162, 0, 29, 42, 27, 28, 42, 27, 28, 182, 0, 234, 42, 27, 182, 1, 12]
abbrev dktX9_eatsAll_0 : List UInt8 := dkwX9_eatsAll_0 ++ dktX9_eatsAll_1
theorem dksX9_eatsAll_0 : cX9_eatsAll.data.toList.drop 0 = dktX9_eatsAll_0 := by decide +kernel
theorem dksX9_eatsAll_1 : cX9_eatsAll.data.toList.drop 22 = dktX9_eatsAll_1 := dk_seg dksX9_eatsAll_0 22 rfl rfl
theorem dX9_eatsAll_0 : decode cX9_eatsAll 0 = .ok (.iconst 0, 1) := dk_3 (dk_at dksX9_eatsAll_0 0 rfl rfl)
theorem dX9_eatsAll_1 : decode cX9_eatsAll 1 = .ok (.istore_n 2, 1) := dk_61 (dk_at dksX9_eatsAll_0 1 rfl rfl)
theorem dX9_eatsAll_2 : decode cX9_eatsAll 2 = .ok (.iload_n 2, 1) := dk_28 (dk_at dksX9_eatsAll_0 2 rfl rfl)
theorem dX9_eatsAll_3 : decode cX9_eatsAll 3 = .ok (.bipush 6, 2) := dk_16 6 (dk_at dksX9_eatsAll_0 3 rfl rfl)
theorem dX9_eatsAll_5 : decode cX9_eatsAll 5 = .ok (.if_icmp .ge 29, 3) := dk_162 0 29 (dk_at dksX9_eatsAll_0 5 rfl rfl)
theorem dX9_eatsAll_8 : decode cX9_eatsAll 8 = .ok (.aload_n 0, 1) := dk_42 (dk_at dksX9_eatsAll_0 8 rfl rfl)
theorem dX9_eatsAll_9 : decode cX9_eatsAll 9 = .ok (.iload_n 1, 1) := dk_27 (dk_at dksX9_eatsAll_0 9 rfl rfl)
theorem dX9_eatsAll_10 : decode cX9_eatsAll 10 = .ok (.iload_n 2, 1) := dk_28 (dk_at dksX9_eatsAll_0 10 rfl rfl)
theorem dX9_eatsAll_11 : decode cX9_eatsAll 11 = .ok (.aload_n 0, 1) := dk_42 (dk_at dksX9_eatsAll_0 11 rfl rfl)
theorem dX9_eatsAll_12 : decode cX9_eatsAll 12 = .ok (.iload_n 1, 1) := dk_27 (dk_at dksX9_eatsAll_0 12 rfl rfl)
theorem dX9_eatsAll_13 : decode cX9_eatsAll 13 = .ok (.iload_n 2, 1) := dk_28 (dk_at dksX9_eatsAll_0 13 rfl rfl)
theorem dX9_eatsAll_14 : decode cX9_eatsAll 14 = .ok (.invokevirtual 234, 3) := dk_182 0 234 (dk_at dksX9_eatsAll_0 14 rfl rfl)
theorem dX9_eatsAll_17 : decode cX9_eatsAll 17 = .ok (.aload_n 0, 1) := dk_42 (dk_at dksX9_eatsAll_0 17 rfl rfl)
theorem dX9_eatsAll_18 : decode cX9_eatsAll 18 = .ok (.iload_n 1, 1) := dk_27 (dk_at dksX9_eatsAll_0 18 rfl rfl)
theorem dX9_eatsAll_19 : decode cX9_eatsAll 19 = .ok (.invokevirtual 268, 3) := dk_182 1 12 (dk_at dksX9_eatsAll_0 19 rfl rfl)
theorem dX9_eatsAll_22 : decode cX9_eatsAll 22 = .ok (.invokestatic 265, 3) := dk_184 1 9 (dk_at dksX9_eatsAll_1 0 rfl rfl)
theorem dX9_eatsAll_25 : decode cX9_eatsAll 25 = .ok (.invokevirtual 271, 3) := dk_182 1 15 (dk_at dksX9_eatsAll_1 3 rfl rfl)
theorem dX9_eatsAll_28 : decode cX9_eatsAll 28 = .ok (.iinc 2 1, 3) := dk_132 2 1 (dk_at dksX9_eatsAll_1 6 rfl rfl)
theorem dX9_eatsAll_31 : decode cX9_eatsAll 31 = .ok (.goto (-29), 3) := dk_167 255 227 (dk_at dksX9_eatsAll_1 9 rfl rfl)
theorem dX9_eatsAll_34 : decode cX9_eatsAll 34 = .ok (.return_, 1) := dk_177 (dk_at dksX9_eatsAll_1 12 rfl rfl)
abbrev cX9_orderAt : ByteArray := prog_25_method_77_code
def yX9_orderAt : MethodName := ⟨RX9, "orderAt", "(I)I"⟩
def dkwX9_orderAt_1 : List UInt8 := [46, 167, 0, 4, 2, 172]
abbrev dktX9_orderAt_1 : List UInt8 := dkwX9_orderAt_1 ++ []
def dkwX9_orderAt_0 : List UInt8 := [42, 3, 181, 0, 82, 27, 3, 42, 180, 1, 59, 4, 100, 184, 0, 149, 153, 0, 12, 42, 180, 0, 45, 27]
abbrev dktX9_orderAt_0 : List UInt8 := dkwX9_orderAt_0 ++ dktX9_orderAt_1
theorem dksX9_orderAt_0 : cX9_orderAt.data.toList.drop 0 = dktX9_orderAt_0 := by decide +kernel
theorem dksX9_orderAt_1 : cX9_orderAt.data.toList.drop 24 = dktX9_orderAt_1 := dk_seg dksX9_orderAt_0 24 rfl rfl
theorem dX9_orderAt_0 : decode cX9_orderAt 0 = .ok (.aload_n 0, 1) := dk_42 (dk_at dksX9_orderAt_0 0 rfl rfl)
theorem dX9_orderAt_1 : decode cX9_orderAt 1 = .ok (.iconst 0, 1) := dk_3 (dk_at dksX9_orderAt_0 1 rfl rfl)
theorem dX9_orderAt_2 : decode cX9_orderAt 2 = .ok (.putfield 82, 3) := dk_181 0 82 (dk_at dksX9_orderAt_0 2 rfl rfl)
theorem dX9_orderAt_5 : decode cX9_orderAt 5 = .ok (.iload_n 1, 1) := dk_27 (dk_at dksX9_orderAt_0 5 rfl rfl)
theorem dX9_orderAt_6 : decode cX9_orderAt 6 = .ok (.iconst 0, 1) := dk_3 (dk_at dksX9_orderAt_0 6 rfl rfl)
theorem dX9_orderAt_7 : decode cX9_orderAt 7 = .ok (.aload_n 0, 1) := dk_42 (dk_at dksX9_orderAt_0 7 rfl rfl)
theorem dX9_orderAt_8 : decode cX9_orderAt 8 = .ok (.getfield 315, 3) := dk_180 1 59 (dk_at dksX9_orderAt_0 8 rfl rfl)
theorem dX9_orderAt_11 : decode cX9_orderAt 11 = .ok (.iconst 1, 1) := dk_4 (dk_at dksX9_orderAt_0 11 rfl rfl)
theorem dX9_orderAt_12 : decode cX9_orderAt 12 = .ok (.isub, 1) := dk_100 (dk_at dksX9_orderAt_0 12 rfl rfl)
theorem dX9_orderAt_13 : decode cX9_orderAt 13 = .ok (.invokestatic 149, 3) := dk_184 0 149 (dk_at dksX9_orderAt_0 13 rfl rfl)
theorem dX9_orderAt_16 : decode cX9_orderAt 16 = .ok (.ifCond .eq 12, 3) := dk_153 0 12 (dk_at dksX9_orderAt_0 16 rfl rfl)
theorem dX9_orderAt_19 : decode cX9_orderAt 19 = .ok (.aload_n 0, 1) := dk_42 (dk_at dksX9_orderAt_0 19 rfl rfl)
theorem dX9_orderAt_20 : decode cX9_orderAt 20 = .ok (.getfield 45, 3) := dk_180 0 45 (dk_at dksX9_orderAt_0 20 rfl rfl)
theorem dX9_orderAt_23 : decode cX9_orderAt 23 = .ok (.iload_n 1, 1) := dk_27 (dk_at dksX9_orderAt_0 23 rfl rfl)
theorem dX9_orderAt_24 : decode cX9_orderAt 24 = .ok (.iaload, 1) := dk_46 (dk_at dksX9_orderAt_1 0 rfl rfl)
theorem dX9_orderAt_25 : decode cX9_orderAt 25 = .ok (.goto 4, 3) := dk_167 0 4 (dk_at dksX9_orderAt_1 1 rfl rfl)
theorem dX9_orderAt_28 : decode cX9_orderAt 28 = .ok (.iconst (-1), 1) := dk_2 (dk_at dksX9_orderAt_1 4 rfl rfl)
theorem dX9_orderAt_29 : decode cX9_orderAt 29 = .ok (.ireturn, 1) := dk_172 (dk_at dksX9_orderAt_1 5 rfl rfl)
abbrev cX9_eaters : ByteArray := prog_25_method_78_code
def yX9_eaters : MethodName := ⟨RX9, "eaters", "()I"⟩
def dkwX9_eaters_11 : List UInt8 := [132, 3, 1, 167, 255, 198, 27, 172]
abbrev dktX9_eaters_11 : List UInt8 := dkwX9_eaters_11 ++ []
def dkwX9_eaters_10 : List UInt8 := [5, 42, 180, 0, 51, 42, 180, 0, 58, 46, 104, 27, 100, 184, 1, 62, 162, 0, 8, 42, 29, 181, 0, 58]
abbrev dktX9_eaters_10 : List UInt8 := dkwX9_eaters_10 ++ dktX9_eaters_11
def dkwX9_eaters_9 : List UInt8 := [162, 0, 54, 42, 180, 0, 58, 2, 159, 0, 35, 5, 42, 180, 0, 51, 29, 46, 104, 27, 100, 184, 1, 62]
abbrev dktX9_eaters_9 : List UInt8 := dkwX9_eaters_9 ++ dktX9_eaters_10
def dkwX9_eaters_8 : List UInt8 := [154, 0, 5, 3, 172, 42, 28, 181, 0, 54, 42, 2, 181, 0, 58, 3, 62, 29, 42, 180, 0, 13, 3, 46]
abbrev dktX9_eaters_8 : List UInt8 := dkwX9_eaters_8 ++ dktX9_eaters_9
def dkwX9_eaters_7 : List UInt8 := [180, 0, 51, 21, 5, 92, 46, 4, 96, 79, 132, 5, 1, 167, 255, 226, 132, 3, 1, 167, 255, 139, 27]
abbrev dktX9_eaters_7 : List UInt8 := dkwX9_eaters_7 ++ dktX9_eaters_8
def dkwX9_eaters_6 : List UInt8 := [29, 126, 61, 3, 54, 5, 21, 5, 16, 7, 162, 0, 29, 29, 21, 5, 184, 0, 231, 153, 0, 14, 42]
abbrev dktX9_eaters_6 : List UInt8 := dkwX9_eaters_6 ++ dktX9_eaters_7
def dkwX9_eaters_5 : List UInt8 := [132, 5, 1, 167, 255, 220, 21, 4, 42, 180, 0, 7, 4, 46, 159, 0, 6, 167, 0, 46, 132, 1, 1, 28]
abbrev dktX9_eaters_5 : List UInt8 := dkwX9_eaters_5 ++ dktX9_eaters_6
def dkwX9_eaters_4 : List UInt8 := [184, 0, 231, 153, 0, 20, 21, 4, 42, 21, 5, 42, 180, 0, 7, 3, 46, 182, 0, 234, 96, 54, 4]
abbrev dktX9_eaters_4 : List UInt8 := dkwX9_eaters_4 ++ dktX9_eaters_5
def dkwX9_eaters_3 : List UInt8 := [3, 46, 120, 162, 0, 111, 3, 54, 4, 3, 54, 5, 21, 5, 16, 7, 162, 0, 35, 29, 21, 5]
abbrev dktX9_eaters_3 : List UInt8 := dkwX9_eaters_3 ++ dktX9_eaters_4
def dkwX9_eaters_2 : List UInt8 := [162, 0, 16, 42, 180, 0, 51, 29, 3, 79, 132, 3, 1, 167, 255, 240, 3, 62, 29, 4, 42, 180, 0, 13]
abbrev dktX9_eaters_2 : List UInt8 := dkwX9_eaters_2 ++ dktX9_eaters_3
def dkwX9_eaters_1 : List UInt8 := [154, 0, 5, 2, 172, 3, 60, 4, 42, 180, 0, 13, 3, 46, 120, 4, 100, 61, 3, 62, 29, 16, 7]
abbrev dktX9_eaters_1 : List UInt8 := dkwX9_eaters_1 ++ dktX9_eaters_2
def dkwX9_eaters_0 : List UInt8 := [42, 3, 181, 0, 82, 42, 182, 0, 162, 5, 160, 0, 16, 42, 42, 180, 0, 7, 3, 46, 182, 0, 250]
abbrev dktX9_eaters_0 : List UInt8 := dkwX9_eaters_0 ++ dktX9_eaters_1
theorem dksX9_eaters_0 : cX9_eaters.data.toList.drop 0 = dktX9_eaters_0 := by decide +kernel
theorem dksX9_eaters_1 : cX9_eaters.data.toList.drop 23 = dktX9_eaters_1 := dk_seg dksX9_eaters_0 23 rfl rfl
theorem dksX9_eaters_2 : cX9_eaters.data.toList.drop 46 = dktX9_eaters_2 := dk_seg dksX9_eaters_1 23 rfl rfl
theorem dksX9_eaters_3 : cX9_eaters.data.toList.drop 70 = dktX9_eaters_3 := dk_seg dksX9_eaters_2 24 rfl rfl
theorem dksX9_eaters_4 : cX9_eaters.data.toList.drop 92 = dktX9_eaters_4 := dk_seg dksX9_eaters_3 22 rfl rfl
theorem dksX9_eaters_5 : cX9_eaters.data.toList.drop 115 = dktX9_eaters_5 := dk_seg dksX9_eaters_4 23 rfl rfl
theorem dksX9_eaters_6 : cX9_eaters.data.toList.drop 139 = dktX9_eaters_6 := dk_seg dksX9_eaters_5 24 rfl rfl
theorem dksX9_eaters_7 : cX9_eaters.data.toList.drop 162 = dktX9_eaters_7 := dk_seg dksX9_eaters_6 23 rfl rfl
theorem dksX9_eaters_8 : cX9_eaters.data.toList.drop 185 = dktX9_eaters_8 := dk_seg dksX9_eaters_7 23 rfl rfl
theorem dksX9_eaters_9 : cX9_eaters.data.toList.drop 209 = dktX9_eaters_9 := dk_seg dksX9_eaters_8 24 rfl rfl
theorem dksX9_eaters_10 : cX9_eaters.data.toList.drop 233 = dktX9_eaters_10 := dk_seg dksX9_eaters_9 24 rfl rfl
theorem dksX9_eaters_11 : cX9_eaters.data.toList.drop 257 = dktX9_eaters_11 := dk_seg dksX9_eaters_10 24 rfl rfl
theorem dX9_eaters_0 : decode cX9_eaters 0 = .ok (.aload_n 0, 1) := dk_42 (dk_at dksX9_eaters_0 0 rfl rfl)
theorem dX9_eaters_1 : decode cX9_eaters 1 = .ok (.iconst 0, 1) := dk_3 (dk_at dksX9_eaters_0 1 rfl rfl)
theorem dX9_eaters_2 : decode cX9_eaters 2 = .ok (.putfield 82, 3) := dk_181 0 82 (dk_at dksX9_eaters_0 2 rfl rfl)
theorem dX9_eaters_5 : decode cX9_eaters 5 = .ok (.aload_n 0, 1) := dk_42 (dk_at dksX9_eaters_0 5 rfl rfl)
theorem dX9_eaters_6 : decode cX9_eaters 6 = .ok (.invokevirtual 162, 3) := dk_182 0 162 (dk_at dksX9_eaters_0 6 rfl rfl)
theorem dX9_eaters_9 : decode cX9_eaters 9 = .ok (.iconst 2, 1) := dk_5 (dk_at dksX9_eaters_0 9 rfl rfl)
theorem dX9_eaters_10 : decode cX9_eaters 10 = .ok (.if_icmp .ne 16, 3) := dk_160 0 16 (dk_at dksX9_eaters_0 10 rfl rfl)
theorem dX9_eaters_13 : decode cX9_eaters 13 = .ok (.aload_n 0, 1) := dk_42 (dk_at dksX9_eaters_0 13 rfl rfl)
theorem dX9_eaters_14 : decode cX9_eaters 14 = .ok (.aload_n 0, 1) := dk_42 (dk_at dksX9_eaters_0 14 rfl rfl)
theorem dX9_eaters_15 : decode cX9_eaters 15 = .ok (.getfield 7, 3) := dk_180 0 7 (dk_at dksX9_eaters_0 15 rfl rfl)
theorem dX9_eaters_18 : decode cX9_eaters 18 = .ok (.iconst 0, 1) := dk_3 (dk_at dksX9_eaters_0 18 rfl rfl)
theorem dX9_eaters_19 : decode cX9_eaters 19 = .ok (.iaload, 1) := dk_46 (dk_at dksX9_eaters_0 19 rfl rfl)
theorem dX9_eaters_20 : decode cX9_eaters 20 = .ok (.invokevirtual 250, 3) := dk_182 0 250 (dk_at dksX9_eaters_0 20 rfl rfl)
theorem dX9_eaters_23 : decode cX9_eaters 23 = .ok (.ifCond .ne 5, 3) := dk_154 0 5 (dk_at dksX9_eaters_1 0 rfl rfl)
theorem dX9_eaters_26 : decode cX9_eaters 26 = .ok (.iconst (-1), 1) := dk_2 (dk_at dksX9_eaters_1 3 rfl rfl)
theorem dX9_eaters_27 : decode cX9_eaters 27 = .ok (.ireturn, 1) := dk_172 (dk_at dksX9_eaters_1 4 rfl rfl)
theorem dX9_eaters_28 : decode cX9_eaters 28 = .ok (.iconst 0, 1) := dk_3 (dk_at dksX9_eaters_1 5 rfl rfl)
theorem dX9_eaters_29 : decode cX9_eaters 29 = .ok (.istore_n 1, 1) := dk_60 (dk_at dksX9_eaters_1 6 rfl rfl)
theorem dX9_eaters_30 : decode cX9_eaters 30 = .ok (.iconst 1, 1) := dk_4 (dk_at dksX9_eaters_1 7 rfl rfl)
theorem dX9_eaters_31 : decode cX9_eaters 31 = .ok (.aload_n 0, 1) := dk_42 (dk_at dksX9_eaters_1 8 rfl rfl)
theorem dX9_eaters_32 : decode cX9_eaters 32 = .ok (.getfield 13, 3) := dk_180 0 13 (dk_at dksX9_eaters_1 9 rfl rfl)
theorem dX9_eaters_35 : decode cX9_eaters 35 = .ok (.iconst 0, 1) := dk_3 (dk_at dksX9_eaters_1 12 rfl rfl)
theorem dX9_eaters_36 : decode cX9_eaters 36 = .ok (.iaload, 1) := dk_46 (dk_at dksX9_eaters_1 13 rfl rfl)
theorem dX9_eaters_37 : decode cX9_eaters 37 = .ok (.ishl, 1) := dk_120 (dk_at dksX9_eaters_1 14 rfl rfl)
theorem dX9_eaters_38 : decode cX9_eaters 38 = .ok (.iconst 1, 1) := dk_4 (dk_at dksX9_eaters_1 15 rfl rfl)
theorem dX9_eaters_39 : decode cX9_eaters 39 = .ok (.isub, 1) := dk_100 (dk_at dksX9_eaters_1 16 rfl rfl)
theorem dX9_eaters_40 : decode cX9_eaters 40 = .ok (.istore_n 2, 1) := dk_61 (dk_at dksX9_eaters_1 17 rfl rfl)
theorem dX9_eaters_41 : decode cX9_eaters 41 = .ok (.iconst 0, 1) := dk_3 (dk_at dksX9_eaters_1 18 rfl rfl)
theorem dX9_eaters_42 : decode cX9_eaters 42 = .ok (.istore_n 3, 1) := dk_62 (dk_at dksX9_eaters_1 19 rfl rfl)
theorem dX9_eaters_43 : decode cX9_eaters 43 = .ok (.iload_n 3, 1) := dk_29 (dk_at dksX9_eaters_1 20 rfl rfl)
theorem dX9_eaters_44 : decode cX9_eaters 44 = .ok (.bipush 7, 2) := dk_16 7 (dk_at dksX9_eaters_1 21 rfl rfl)
theorem dX9_eaters_46 : decode cX9_eaters 46 = .ok (.if_icmp .ge 16, 3) := dk_162 0 16 (dk_at dksX9_eaters_2 0 rfl rfl)
theorem dX9_eaters_49 : decode cX9_eaters 49 = .ok (.aload_n 0, 1) := dk_42 (dk_at dksX9_eaters_2 3 rfl rfl)
theorem dX9_eaters_50 : decode cX9_eaters 50 = .ok (.getfield 51, 3) := dk_180 0 51 (dk_at dksX9_eaters_2 4 rfl rfl)
theorem dX9_eaters_53 : decode cX9_eaters 53 = .ok (.iload_n 3, 1) := dk_29 (dk_at dksX9_eaters_2 7 rfl rfl)
theorem dX9_eaters_54 : decode cX9_eaters 54 = .ok (.iconst 0, 1) := dk_3 (dk_at dksX9_eaters_2 8 rfl rfl)
theorem dX9_eaters_55 : decode cX9_eaters 55 = .ok (.iastore, 1) := dk_79 (dk_at dksX9_eaters_2 9 rfl rfl)
theorem dX9_eaters_56 : decode cX9_eaters 56 = .ok (.iinc 3 1, 3) := dk_132 3 1 (dk_at dksX9_eaters_2 10 rfl rfl)
theorem dX9_eaters_59 : decode cX9_eaters 59 = .ok (.goto (-16), 3) := dk_167 255 240 (dk_at dksX9_eaters_2 13 rfl rfl)
theorem dX9_eaters_62 : decode cX9_eaters 62 = .ok (.iconst 0, 1) := dk_3 (dk_at dksX9_eaters_2 16 rfl rfl)
theorem dX9_eaters_63 : decode cX9_eaters 63 = .ok (.istore_n 3, 1) := dk_62 (dk_at dksX9_eaters_2 17 rfl rfl)
theorem dX9_eaters_64 : decode cX9_eaters 64 = .ok (.iload_n 3, 1) := dk_29 (dk_at dksX9_eaters_2 18 rfl rfl)
theorem dX9_eaters_65 : decode cX9_eaters 65 = .ok (.iconst 1, 1) := dk_4 (dk_at dksX9_eaters_2 19 rfl rfl)
theorem dX9_eaters_66 : decode cX9_eaters 66 = .ok (.aload_n 0, 1) := dk_42 (dk_at dksX9_eaters_2 20 rfl rfl)
theorem dX9_eaters_67 : decode cX9_eaters 67 = .ok (.getfield 13, 3) := dk_180 0 13 (dk_at dksX9_eaters_2 21 rfl rfl)
theorem dX9_eaters_70 : decode cX9_eaters 70 = .ok (.iconst 0, 1) := dk_3 (dk_at dksX9_eaters_3 0 rfl rfl)
theorem dX9_eaters_71 : decode cX9_eaters 71 = .ok (.iaload, 1) := dk_46 (dk_at dksX9_eaters_3 1 rfl rfl)
theorem dX9_eaters_72 : decode cX9_eaters 72 = .ok (.ishl, 1) := dk_120 (dk_at dksX9_eaters_3 2 rfl rfl)
theorem dX9_eaters_73 : decode cX9_eaters 73 = .ok (.if_icmp .ge 111, 3) := dk_162 0 111 (dk_at dksX9_eaters_3 3 rfl rfl)
theorem dX9_eaters_76 : decode cX9_eaters 76 = .ok (.iconst 0, 1) := dk_3 (dk_at dksX9_eaters_3 6 rfl rfl)
theorem dX9_eaters_77 : decode cX9_eaters 77 = .ok (.istore 4, 2) := dk_54 4 (dk_at dksX9_eaters_3 7 rfl rfl)
theorem dX9_eaters_79 : decode cX9_eaters 79 = .ok (.iconst 0, 1) := dk_3 (dk_at dksX9_eaters_3 9 rfl rfl)
theorem dX9_eaters_80 : decode cX9_eaters 80 = .ok (.istore 5, 2) := dk_54 5 (dk_at dksX9_eaters_3 10 rfl rfl)
theorem dX9_eaters_82 : decode cX9_eaters 82 = .ok (.iload 5, 2) := dk_21 5 (dk_at dksX9_eaters_3 12 rfl rfl)
theorem dX9_eaters_84 : decode cX9_eaters 84 = .ok (.bipush 7, 2) := dk_16 7 (dk_at dksX9_eaters_3 14 rfl rfl)
theorem dX9_eaters_86 : decode cX9_eaters 86 = .ok (.if_icmp .ge 35, 3) := dk_162 0 35 (dk_at dksX9_eaters_3 16 rfl rfl)
theorem dX9_eaters_89 : decode cX9_eaters 89 = .ok (.iload_n 3, 1) := dk_29 (dk_at dksX9_eaters_3 19 rfl rfl)
theorem dX9_eaters_90 : decode cX9_eaters 90 = .ok (.iload 5, 2) := dk_21 5 (dk_at dksX9_eaters_3 20 rfl rfl)
theorem dX9_eaters_92 : decode cX9_eaters 92 = .ok (.invokestatic 231, 3) := dk_184 0 231 (dk_at dksX9_eaters_4 0 rfl rfl)
theorem dX9_eaters_95 : decode cX9_eaters 95 = .ok (.ifCond .eq 20, 3) := dk_153 0 20 (dk_at dksX9_eaters_4 3 rfl rfl)
theorem dX9_eaters_98 : decode cX9_eaters 98 = .ok (.iload 4, 2) := dk_21 4 (dk_at dksX9_eaters_4 6 rfl rfl)
theorem dX9_eaters_100 : decode cX9_eaters 100 = .ok (.aload_n 0, 1) := dk_42 (dk_at dksX9_eaters_4 8 rfl rfl)
theorem dX9_eaters_101 : decode cX9_eaters 101 = .ok (.iload 5, 2) := dk_21 5 (dk_at dksX9_eaters_4 9 rfl rfl)
theorem dX9_eaters_103 : decode cX9_eaters 103 = .ok (.aload_n 0, 1) := dk_42 (dk_at dksX9_eaters_4 11 rfl rfl)
theorem dX9_eaters_104 : decode cX9_eaters 104 = .ok (.getfield 7, 3) := dk_180 0 7 (dk_at dksX9_eaters_4 12 rfl rfl)
theorem dX9_eaters_107 : decode cX9_eaters 107 = .ok (.iconst 0, 1) := dk_3 (dk_at dksX9_eaters_4 15 rfl rfl)
theorem dX9_eaters_108 : decode cX9_eaters 108 = .ok (.iaload, 1) := dk_46 (dk_at dksX9_eaters_4 16 rfl rfl)
theorem dX9_eaters_109 : decode cX9_eaters 109 = .ok (.invokevirtual 234, 3) := dk_182 0 234 (dk_at dksX9_eaters_4 17 rfl rfl)
theorem dX9_eaters_112 : decode cX9_eaters 112 = .ok (.iadd, 1) := dk_96 (dk_at dksX9_eaters_4 20 rfl rfl)
theorem dX9_eaters_113 : decode cX9_eaters 113 = .ok (.istore 4, 2) := dk_54 4 (dk_at dksX9_eaters_4 21 rfl rfl)
theorem dX9_eaters_115 : decode cX9_eaters 115 = .ok (.iinc 5 1, 3) := dk_132 5 1 (dk_at dksX9_eaters_5 0 rfl rfl)
theorem dX9_eaters_118 : decode cX9_eaters 118 = .ok (.goto (-36), 3) := dk_167 255 220 (dk_at dksX9_eaters_5 3 rfl rfl)
theorem dX9_eaters_121 : decode cX9_eaters 121 = .ok (.iload 4, 2) := dk_21 4 (dk_at dksX9_eaters_5 6 rfl rfl)
theorem dX9_eaters_123 : decode cX9_eaters 123 = .ok (.aload_n 0, 1) := dk_42 (dk_at dksX9_eaters_5 8 rfl rfl)
theorem dX9_eaters_124 : decode cX9_eaters 124 = .ok (.getfield 7, 3) := dk_180 0 7 (dk_at dksX9_eaters_5 9 rfl rfl)
theorem dX9_eaters_127 : decode cX9_eaters 127 = .ok (.iconst 1, 1) := dk_4 (dk_at dksX9_eaters_5 12 rfl rfl)
theorem dX9_eaters_128 : decode cX9_eaters 128 = .ok (.iaload, 1) := dk_46 (dk_at dksX9_eaters_5 13 rfl rfl)
theorem dX9_eaters_129 : decode cX9_eaters 129 = .ok (.if_icmp .eq 6, 3) := dk_159 0 6 (dk_at dksX9_eaters_5 14 rfl rfl)
theorem dX9_eaters_132 : decode cX9_eaters 132 = .ok (.goto 46, 3) := dk_167 0 46 (dk_at dksX9_eaters_5 17 rfl rfl)
theorem dX9_eaters_135 : decode cX9_eaters 135 = .ok (.iinc 1 1, 3) := dk_132 1 1 (dk_at dksX9_eaters_5 20 rfl rfl)
theorem dX9_eaters_138 : decode cX9_eaters 138 = .ok (.iload_n 2, 1) := dk_28 (dk_at dksX9_eaters_5 23 rfl rfl)
theorem dX9_eaters_139 : decode cX9_eaters 139 = .ok (.iload_n 3, 1) := dk_29 (dk_at dksX9_eaters_6 0 rfl rfl)
theorem dX9_eaters_140 : decode cX9_eaters 140 = .ok (.iand, 1) := dk_126 (dk_at dksX9_eaters_6 1 rfl rfl)
theorem dX9_eaters_141 : decode cX9_eaters 141 = .ok (.istore_n 2, 1) := dk_61 (dk_at dksX9_eaters_6 2 rfl rfl)
theorem dX9_eaters_142 : decode cX9_eaters 142 = .ok (.iconst 0, 1) := dk_3 (dk_at dksX9_eaters_6 3 rfl rfl)
theorem dX9_eaters_143 : decode cX9_eaters 143 = .ok (.istore 5, 2) := dk_54 5 (dk_at dksX9_eaters_6 4 rfl rfl)
theorem dX9_eaters_145 : decode cX9_eaters 145 = .ok (.iload 5, 2) := dk_21 5 (dk_at dksX9_eaters_6 6 rfl rfl)
theorem dX9_eaters_147 : decode cX9_eaters 147 = .ok (.bipush 7, 2) := dk_16 7 (dk_at dksX9_eaters_6 8 rfl rfl)
theorem dX9_eaters_149 : decode cX9_eaters 149 = .ok (.if_icmp .ge 29, 3) := dk_162 0 29 (dk_at dksX9_eaters_6 10 rfl rfl)
theorem dX9_eaters_152 : decode cX9_eaters 152 = .ok (.iload_n 3, 1) := dk_29 (dk_at dksX9_eaters_6 13 rfl rfl)
theorem dX9_eaters_153 : decode cX9_eaters 153 = .ok (.iload 5, 2) := dk_21 5 (dk_at dksX9_eaters_6 14 rfl rfl)
theorem dX9_eaters_155 : decode cX9_eaters 155 = .ok (.invokestatic 231, 3) := dk_184 0 231 (dk_at dksX9_eaters_6 16 rfl rfl)
theorem dX9_eaters_158 : decode cX9_eaters 158 = .ok (.ifCond .eq 14, 3) := dk_153 0 14 (dk_at dksX9_eaters_6 19 rfl rfl)
theorem dX9_eaters_161 : decode cX9_eaters 161 = .ok (.aload_n 0, 1) := dk_42 (dk_at dksX9_eaters_6 22 rfl rfl)
theorem dX9_eaters_162 : decode cX9_eaters 162 = .ok (.getfield 51, 3) := dk_180 0 51 (dk_at dksX9_eaters_7 0 rfl rfl)
theorem dX9_eaters_165 : decode cX9_eaters 165 = .ok (.iload 5, 2) := dk_21 5 (dk_at dksX9_eaters_7 3 rfl rfl)
theorem dX9_eaters_167 : decode cX9_eaters 167 = .ok (.dup2, 1) := dk_92 (dk_at dksX9_eaters_7 5 rfl rfl)
theorem dX9_eaters_168 : decode cX9_eaters 168 = .ok (.iaload, 1) := dk_46 (dk_at dksX9_eaters_7 6 rfl rfl)
theorem dX9_eaters_169 : decode cX9_eaters 169 = .ok (.iconst 1, 1) := dk_4 (dk_at dksX9_eaters_7 7 rfl rfl)
theorem dX9_eaters_170 : decode cX9_eaters 170 = .ok (.iadd, 1) := dk_96 (dk_at dksX9_eaters_7 8 rfl rfl)
theorem dX9_eaters_171 : decode cX9_eaters 171 = .ok (.iastore, 1) := dk_79 (dk_at dksX9_eaters_7 9 rfl rfl)
theorem dX9_eaters_172 : decode cX9_eaters 172 = .ok (.iinc 5 1, 3) := dk_132 5 1 (dk_at dksX9_eaters_7 10 rfl rfl)
theorem dX9_eaters_175 : decode cX9_eaters 175 = .ok (.goto (-30), 3) := dk_167 255 226 (dk_at dksX9_eaters_7 13 rfl rfl)
theorem dX9_eaters_178 : decode cX9_eaters 178 = .ok (.iinc 3 1, 3) := dk_132 3 1 (dk_at dksX9_eaters_7 16 rfl rfl)
theorem dX9_eaters_181 : decode cX9_eaters 181 = .ok (.goto (-117), 3) := dk_167 255 139 (dk_at dksX9_eaters_7 19 rfl rfl)
theorem dX9_eaters_184 : decode cX9_eaters 184 = .ok (.iload_n 1, 1) := dk_27 (dk_at dksX9_eaters_7 22 rfl rfl)
theorem dX9_eaters_185 : decode cX9_eaters 185 = .ok (.ifCond .ne 5, 3) := dk_154 0 5 (dk_at dksX9_eaters_8 0 rfl rfl)
theorem dX9_eaters_188 : decode cX9_eaters 188 = .ok (.iconst 0, 1) := dk_3 (dk_at dksX9_eaters_8 3 rfl rfl)
theorem dX9_eaters_189 : decode cX9_eaters 189 = .ok (.ireturn, 1) := dk_172 (dk_at dksX9_eaters_8 4 rfl rfl)
theorem dX9_eaters_190 : decode cX9_eaters 190 = .ok (.aload_n 0, 1) := dk_42 (dk_at dksX9_eaters_8 5 rfl rfl)
theorem dX9_eaters_191 : decode cX9_eaters 191 = .ok (.iload_n 2, 1) := dk_28 (dk_at dksX9_eaters_8 6 rfl rfl)
theorem dX9_eaters_192 : decode cX9_eaters 192 = .ok (.putfield 54, 3) := dk_181 0 54 (dk_at dksX9_eaters_8 7 rfl rfl)
theorem dX9_eaters_195 : decode cX9_eaters 195 = .ok (.aload_n 0, 1) := dk_42 (dk_at dksX9_eaters_8 10 rfl rfl)
theorem dX9_eaters_196 : decode cX9_eaters 196 = .ok (.iconst (-1), 1) := dk_2 (dk_at dksX9_eaters_8 11 rfl rfl)
theorem dX9_eaters_197 : decode cX9_eaters 197 = .ok (.putfield 58, 3) := dk_181 0 58 (dk_at dksX9_eaters_8 12 rfl rfl)
theorem dX9_eaters_200 : decode cX9_eaters 200 = .ok (.iconst 0, 1) := dk_3 (dk_at dksX9_eaters_8 15 rfl rfl)
theorem dX9_eaters_201 : decode cX9_eaters 201 = .ok (.istore_n 3, 1) := dk_62 (dk_at dksX9_eaters_8 16 rfl rfl)
theorem dX9_eaters_202 : decode cX9_eaters 202 = .ok (.iload_n 3, 1) := dk_29 (dk_at dksX9_eaters_8 17 rfl rfl)
theorem dX9_eaters_203 : decode cX9_eaters 203 = .ok (.aload_n 0, 1) := dk_42 (dk_at dksX9_eaters_8 18 rfl rfl)
theorem dX9_eaters_204 : decode cX9_eaters 204 = .ok (.getfield 13, 3) := dk_180 0 13 (dk_at dksX9_eaters_8 19 rfl rfl)
theorem dX9_eaters_207 : decode cX9_eaters 207 = .ok (.iconst 0, 1) := dk_3 (dk_at dksX9_eaters_8 22 rfl rfl)
theorem dX9_eaters_208 : decode cX9_eaters 208 = .ok (.iaload, 1) := dk_46 (dk_at dksX9_eaters_8 23 rfl rfl)
theorem dX9_eaters_209 : decode cX9_eaters 209 = .ok (.if_icmp .ge 54, 3) := dk_162 0 54 (dk_at dksX9_eaters_9 0 rfl rfl)
theorem dX9_eaters_212 : decode cX9_eaters 212 = .ok (.aload_n 0, 1) := dk_42 (dk_at dksX9_eaters_9 3 rfl rfl)
theorem dX9_eaters_213 : decode cX9_eaters 213 = .ok (.getfield 58, 3) := dk_180 0 58 (dk_at dksX9_eaters_9 4 rfl rfl)
theorem dX9_eaters_216 : decode cX9_eaters 216 = .ok (.iconst (-1), 1) := dk_2 (dk_at dksX9_eaters_9 7 rfl rfl)
theorem dX9_eaters_217 : decode cX9_eaters 217 = .ok (.if_icmp .eq 35, 3) := dk_159 0 35 (dk_at dksX9_eaters_9 8 rfl rfl)
theorem dX9_eaters_220 : decode cX9_eaters 220 = .ok (.iconst 2, 1) := dk_5 (dk_at dksX9_eaters_9 11 rfl rfl)
theorem dX9_eaters_221 : decode cX9_eaters 221 = .ok (.aload_n 0, 1) := dk_42 (dk_at dksX9_eaters_9 12 rfl rfl)
theorem dX9_eaters_222 : decode cX9_eaters 222 = .ok (.getfield 51, 3) := dk_180 0 51 (dk_at dksX9_eaters_9 13 rfl rfl)
theorem dX9_eaters_225 : decode cX9_eaters 225 = .ok (.iload_n 3, 1) := dk_29 (dk_at dksX9_eaters_9 16 rfl rfl)
theorem dX9_eaters_226 : decode cX9_eaters 226 = .ok (.iaload, 1) := dk_46 (dk_at dksX9_eaters_9 17 rfl rfl)
theorem dX9_eaters_227 : decode cX9_eaters 227 = .ok (.imul, 1) := dk_104 (dk_at dksX9_eaters_9 18 rfl rfl)
theorem dX9_eaters_228 : decode cX9_eaters 228 = .ok (.iload_n 1, 1) := dk_27 (dk_at dksX9_eaters_9 19 rfl rfl)
theorem dX9_eaters_229 : decode cX9_eaters 229 = .ok (.isub, 1) := dk_100 (dk_at dksX9_eaters_9 20 rfl rfl)
theorem dX9_eaters_230 : decode cX9_eaters 230 = .ok (.invokestatic 318, 3) := dk_184 1 62 (dk_at dksX9_eaters_9 21 rfl rfl)
theorem dX9_eaters_233 : decode cX9_eaters 233 = .ok (.iconst 2, 1) := dk_5 (dk_at dksX9_eaters_10 0 rfl rfl)
theorem dX9_eaters_234 : decode cX9_eaters 234 = .ok (.aload_n 0, 1) := dk_42 (dk_at dksX9_eaters_10 1 rfl rfl)
theorem dX9_eaters_235 : decode cX9_eaters 235 = .ok (.getfield 51, 3) := dk_180 0 51 (dk_at dksX9_eaters_10 2 rfl rfl)
theorem dX9_eaters_238 : decode cX9_eaters 238 = .ok (.aload_n 0, 1) := dk_42 (dk_at dksX9_eaters_10 5 rfl rfl)
theorem dX9_eaters_239 : decode cX9_eaters 239 = .ok (.getfield 58, 3) := dk_180 0 58 (dk_at dksX9_eaters_10 6 rfl rfl)
theorem dX9_eaters_242 : decode cX9_eaters 242 = .ok (.iaload, 1) := dk_46 (dk_at dksX9_eaters_10 9 rfl rfl)
theorem dX9_eaters_243 : decode cX9_eaters 243 = .ok (.imul, 1) := dk_104 (dk_at dksX9_eaters_10 10 rfl rfl)
theorem dX9_eaters_244 : decode cX9_eaters 244 = .ok (.iload_n 1, 1) := dk_27 (dk_at dksX9_eaters_10 11 rfl rfl)
theorem dX9_eaters_245 : decode cX9_eaters 245 = .ok (.isub, 1) := dk_100 (dk_at dksX9_eaters_10 12 rfl rfl)
theorem dX9_eaters_246 : decode cX9_eaters 246 = .ok (.invokestatic 318, 3) := dk_184 1 62 (dk_at dksX9_eaters_10 13 rfl rfl)
theorem dX9_eaters_249 : decode cX9_eaters 249 = .ok (.if_icmp .ge 8, 3) := dk_162 0 8 (dk_at dksX9_eaters_10 16 rfl rfl)
theorem dX9_eaters_252 : decode cX9_eaters 252 = .ok (.aload_n 0, 1) := dk_42 (dk_at dksX9_eaters_10 19 rfl rfl)
theorem dX9_eaters_253 : decode cX9_eaters 253 = .ok (.iload_n 3, 1) := dk_29 (dk_at dksX9_eaters_10 20 rfl rfl)
theorem dX9_eaters_254 : decode cX9_eaters 254 = .ok (.putfield 58, 3) := dk_181 0 58 (dk_at dksX9_eaters_10 21 rfl rfl)
theorem dX9_eaters_257 : decode cX9_eaters 257 = .ok (.iinc 3 1, 3) := dk_132 3 1 (dk_at dksX9_eaters_11 0 rfl rfl)
theorem dX9_eaters_260 : decode cX9_eaters 260 = .ok (.goto (-58), 3) := dk_167 255 198 (dk_at dksX9_eaters_11 3 rfl rfl)
theorem dX9_eaters_263 : decode cX9_eaters 263 = .ok (.iload_n 1, 1) := dk_27 (dk_at dksX9_eaters_11 6 rfl rfl)
theorem dX9_eaters_264 : decode cX9_eaters 264 = .ok (.ireturn, 1) := dk_172 (dk_at dksX9_eaters_11 7 rfl rfl)
abbrev cX9_size : ByteArray := prog_25_method_12_code
def yX9_size : MethodName := ⟨RX9, "size", "(I)I"⟩
def dkwX9_size_0 : List UInt8 := [26, 156, 0, 8, 26, 116, 167, 0, 4, 26, 172]
abbrev dktX9_size_0 : List UInt8 := dkwX9_size_0 ++ []
theorem dksX9_size_0 : cX9_size.data.toList.drop 0 = dktX9_size_0 := by decide +kernel
theorem dX9_size_0 : decode cX9_size 0 = .ok (.iload_n 0, 1) := dk_26 (dk_at dksX9_size_0 0 rfl rfl)
theorem dX9_size_1 : decode cX9_size 1 = .ok (.ifCond .ge 8, 3) := dk_156 0 8 (dk_at dksX9_size_0 1 rfl rfl)
theorem dX9_size_4 : decode cX9_size 4 = .ok (.iload_n 0, 1) := dk_26 (dk_at dksX9_size_0 4 rfl rfl)
theorem dX9_size_5 : decode cX9_size 5 = .ok (.ineg, 1) := dk_116 (dk_at dksX9_size_0 5 rfl rfl)
theorem dX9_size_6 : decode cX9_size 6 = .ok (.goto 4, 3) := dk_167 0 4 (dk_at dksX9_size_0 6 rfl rfl)
theorem dX9_size_9 : decode cX9_size 9 = .ok (.iload_n 0, 1) := dk_26 (dk_at dksX9_size_0 9 rfl rfl)
theorem dX9_size_10 : decode cX9_size 10 = .ok (.ireturn, 1) := dk_172 (dk_at dksX9_size_0 10 rfl rfl)
abbrev cX9_surely : ByteArray := prog_25_method_79_code
def yX9_surely : MethodName := ⟨RX9, "surely", "()I"⟩
def dkwX9_surely_0 : List UInt8 := [42, 3, 181, 0, 82, 42, 180, 0, 54, 172]
abbrev dktX9_surely_0 : List UInt8 := dkwX9_surely_0 ++ []
theorem dksX9_surely_0 : cX9_surely.data.toList.drop 0 = dktX9_surely_0 := by decide +kernel
theorem dX9_surely_0 : decode cX9_surely 0 = .ok (.aload_n 0, 1) := dk_42 (dk_at dksX9_surely_0 0 rfl rfl)
theorem dX9_surely_1 : decode cX9_surely 1 = .ok (.iconst 0, 1) := dk_3 (dk_at dksX9_surely_0 1 rfl rfl)
theorem dX9_surely_2 : decode cX9_surely 2 = .ok (.putfield 82, 3) := dk_181 0 82 (dk_at dksX9_surely_0 2 rfl rfl)
theorem dX9_surely_5 : decode cX9_surely 5 = .ok (.aload_n 0, 1) := dk_42 (dk_at dksX9_surely_0 5 rfl rfl)
theorem dX9_surely_6 : decode cX9_surely 6 = .ok (.getfield 54, 3) := dk_180 0 54 (dk_at dksX9_surely_0 6 rfl rfl)
theorem dX9_surely_9 : decode cX9_surely 9 = .ok (.ireturn, 1) := dk_172 (dk_at dksX9_surely_0 9 rfl rfl)
abbrev cX9_ask : ByteArray := prog_25_method_80_code
def yX9_ask : MethodName := ⟨RX9, "ask", "()I"⟩
def dkwX9_ask_0 : List UInt8 := [42, 3, 181, 0, 82, 42, 180, 0, 58, 172]
abbrev dktX9_ask_0 : List UInt8 := dkwX9_ask_0 ++ []
theorem dksX9_ask_0 : cX9_ask.data.toList.drop 0 = dktX9_ask_0 := by decide +kernel
theorem dX9_ask_0 : decode cX9_ask 0 = .ok (.aload_n 0, 1) := dk_42 (dk_at dksX9_ask_0 0 rfl rfl)
theorem dX9_ask_1 : decode cX9_ask 1 = .ok (.iconst 0, 1) := dk_3 (dk_at dksX9_ask_0 1 rfl rfl)
theorem dX9_ask_2 : decode cX9_ask 2 = .ok (.putfield 82, 3) := dk_181 0 82 (dk_at dksX9_ask_0 2 rfl rfl)
theorem dX9_ask_5 : decode cX9_ask 5 = .ok (.aload_n 0, 1) := dk_42 (dk_at dksX9_ask_0 5 rfl rfl)
theorem dX9_ask_6 : decode cX9_ask 6 = .ok (.getfield 58, 3) := dk_180 0 58 (dk_at dksX9_ask_0 6 rfl rfl)
theorem dX9_ask_9 : decode cX9_ask 9 = .ok (.ireturn, 1) := dk_172 (dk_at dksX9_ask_0 9 rfl rfl)
abbrev cX9_share : ByteArray := prog_25_method_81_code
def yX9_share : MethodName := ⟨RX9, "share", "(III)I"⟩
def dkwX9_share_10 : List UInt8 := [4, 167, 0, 4, 3, 96, 172]
abbrev dktX9_share_10 : List UInt8 := dkwX9_share_10 ++ []
def dkwX9_share_9 : List UInt8 := [167, 255, 174, 21, 5, 42, 180, 0, 13, 7, 29, 96, 46, 104, 21, 4, 108, 21, 7, 21, 6, 162, 0, 7]
abbrev dktX9_share_9 : List UInt8 := dkwX9_share_9 ++ dktX9_share_10
def dkwX9_share_8 : List UInt8 := [21, 8, 163, 0, 16, 21, 10, 21, 8, 160, 0, 12, 21, 9, 29, 162, 0, 6, 132, 7, 1, 132, 9, 1]
abbrev dktX9_share_8 : List UInt8 := dkwX9_share_8 ++ dktX9_share_9
def dkwX9_share_7 : List UInt8 := [54, 10, 21, 6, 21, 5, 42, 180, 0, 13, 7, 21, 9, 96, 46, 104, 21, 4, 108, 100, 54, 6, 21, 10]
abbrev dktX9_share_7 : List UInt8 := dkwX9_share_7 ++ dktX9_share_8
def dkwX9_share_6 : List UInt8 := [184, 0, 231, 154, 0, 6, 167, 0, 63, 21, 5, 42, 180, 0, 13, 7, 21, 9, 96, 46, 104, 21, 4, 112]
abbrev dktX9_share_6 : List UInt8 := dkwX9_share_6 ++ dktX9_share_7
def dkwX9_share_5 : List UInt8 := [7, 29, 96, 46, 104, 21, 4, 112, 54, 8, 3, 54, 9, 21, 9, 16, 7, 162, 0, 81, 28, 21, 9]
abbrev dktX9_share_5 : List UInt8 := dkwX9_share_5 ++ dktX9_share_6
def dkwX9_share_4 : List UInt8 := [42, 180, 0, 13, 16, 78, 27, 96, 46, 54, 5, 21, 5, 54, 6, 3, 54, 7, 21, 5, 42, 180, 0, 13]
abbrev dktX9_share_4 : List UInt8 := dkwX9_share_4 ++ dktX9_share_5
def dkwX9_share_3 : List UInt8 := [180, 0, 13, 7, 21, 5, 96, 46, 96, 54, 4, 132, 5, 1, 167, 255, 223, 21, 4, 154, 0, 5, 3, 172]
abbrev dktX9_share_3 : List UInt8 := dkwX9_share_3 ++ dktX9_share_4
def dkwX9_share_2 : List UInt8 := [54, 4, 3, 54, 5, 21, 5, 16, 7, 162, 0, 32, 28, 21, 5, 184, 0, 231, 153, 0, 17, 21, 4, 42]
abbrev dktX9_share_2 : List UInt8 := dkwX9_share_2 ++ dktX9_share_3
def dkwX9_share_1 : List UInt8 := [46, 120, 162, 0, 19, 42, 29, 182, 0, 238, 153, 0, 11, 28, 29, 184, 0, 231, 154, 0, 5, 2, 172, 3]
abbrev dktX9_share_1 : List UInt8 := dkwX9_share_1 ++ dktX9_share_2
def dkwX9_share_0 : List UInt8 := [42, 3, 181, 0, 82, 42, 27, 182, 0, 250, 153, 0, 35, 28, 155, 0, 31, 28, 4, 42, 180, 0, 13, 3]
abbrev dktX9_share_0 : List UInt8 := dkwX9_share_0 ++ dktX9_share_1
theorem dksX9_share_0 : cX9_share.data.toList.drop 0 = dktX9_share_0 := by decide +kernel
theorem dksX9_share_1 : cX9_share.data.toList.drop 24 = dktX9_share_1 := dk_seg dksX9_share_0 24 rfl rfl
theorem dksX9_share_2 : cX9_share.data.toList.drop 48 = dktX9_share_2 := dk_seg dksX9_share_1 24 rfl rfl
theorem dksX9_share_3 : cX9_share.data.toList.drop 72 = dktX9_share_3 := dk_seg dksX9_share_2 24 rfl rfl
theorem dksX9_share_4 : cX9_share.data.toList.drop 96 = dktX9_share_4 := dk_seg dksX9_share_3 24 rfl rfl
theorem dksX9_share_5 : cX9_share.data.toList.drop 120 = dktX9_share_5 := dk_seg dksX9_share_4 24 rfl rfl
theorem dksX9_share_6 : cX9_share.data.toList.drop 143 = dktX9_share_6 := dk_seg dksX9_share_5 23 rfl rfl
theorem dksX9_share_7 : cX9_share.data.toList.drop 167 = dktX9_share_7 := dk_seg dksX9_share_6 24 rfl rfl
theorem dksX9_share_8 : cX9_share.data.toList.drop 191 = dktX9_share_8 := dk_seg dksX9_share_7 24 rfl rfl
theorem dksX9_share_9 : cX9_share.data.toList.drop 215 = dktX9_share_9 := dk_seg dksX9_share_8 24 rfl rfl
theorem dksX9_share_10 : cX9_share.data.toList.drop 239 = dktX9_share_10 := dk_seg dksX9_share_9 24 rfl rfl
theorem dX9_share_0 : decode cX9_share 0 = .ok (.aload_n 0, 1) := dk_42 (dk_at dksX9_share_0 0 rfl rfl)
theorem dX9_share_1 : decode cX9_share 1 = .ok (.iconst 0, 1) := dk_3 (dk_at dksX9_share_0 1 rfl rfl)
theorem dX9_share_2 : decode cX9_share 2 = .ok (.putfield 82, 3) := dk_181 0 82 (dk_at dksX9_share_0 2 rfl rfl)
theorem dX9_share_5 : decode cX9_share 5 = .ok (.aload_n 0, 1) := dk_42 (dk_at dksX9_share_0 5 rfl rfl)
theorem dX9_share_6 : decode cX9_share 6 = .ok (.iload_n 1, 1) := dk_27 (dk_at dksX9_share_0 6 rfl rfl)
theorem dX9_share_7 : decode cX9_share 7 = .ok (.invokevirtual 250, 3) := dk_182 0 250 (dk_at dksX9_share_0 7 rfl rfl)
theorem dX9_share_10 : decode cX9_share 10 = .ok (.ifCond .eq 35, 3) := dk_153 0 35 (dk_at dksX9_share_0 10 rfl rfl)
theorem dX9_share_13 : decode cX9_share 13 = .ok (.iload_n 2, 1) := dk_28 (dk_at dksX9_share_0 13 rfl rfl)
theorem dX9_share_14 : decode cX9_share 14 = .ok (.ifCond .lt 31, 3) := dk_155 0 31 (dk_at dksX9_share_0 14 rfl rfl)
theorem dX9_share_17 : decode cX9_share 17 = .ok (.iload_n 2, 1) := dk_28 (dk_at dksX9_share_0 17 rfl rfl)
theorem dX9_share_18 : decode cX9_share 18 = .ok (.iconst 1, 1) := dk_4 (dk_at dksX9_share_0 18 rfl rfl)
theorem dX9_share_19 : decode cX9_share 19 = .ok (.aload_n 0, 1) := dk_42 (dk_at dksX9_share_0 19 rfl rfl)
theorem dX9_share_20 : decode cX9_share 20 = .ok (.getfield 13, 3) := dk_180 0 13 (dk_at dksX9_share_0 20 rfl rfl)
theorem dX9_share_23 : decode cX9_share 23 = .ok (.iconst 0, 1) := dk_3 (dk_at dksX9_share_0 23 rfl rfl)
theorem dX9_share_24 : decode cX9_share 24 = .ok (.iaload, 1) := dk_46 (dk_at dksX9_share_1 0 rfl rfl)
theorem dX9_share_25 : decode cX9_share 25 = .ok (.ishl, 1) := dk_120 (dk_at dksX9_share_1 1 rfl rfl)
theorem dX9_share_26 : decode cX9_share 26 = .ok (.if_icmp .ge 19, 3) := dk_162 0 19 (dk_at dksX9_share_1 2 rfl rfl)
theorem dX9_share_29 : decode cX9_share 29 = .ok (.aload_n 0, 1) := dk_42 (dk_at dksX9_share_1 5 rfl rfl)
theorem dX9_share_30 : decode cX9_share 30 = .ok (.iload_n 3, 1) := dk_29 (dk_at dksX9_share_1 6 rfl rfl)
theorem dX9_share_31 : decode cX9_share 31 = .ok (.invokevirtual 238, 3) := dk_182 0 238 (dk_at dksX9_share_1 7 rfl rfl)
theorem dX9_share_34 : decode cX9_share 34 = .ok (.ifCond .eq 11, 3) := dk_153 0 11 (dk_at dksX9_share_1 10 rfl rfl)
theorem dX9_share_37 : decode cX9_share 37 = .ok (.iload_n 2, 1) := dk_28 (dk_at dksX9_share_1 13 rfl rfl)
theorem dX9_share_38 : decode cX9_share 38 = .ok (.iload_n 3, 1) := dk_29 (dk_at dksX9_share_1 14 rfl rfl)
theorem dX9_share_39 : decode cX9_share 39 = .ok (.invokestatic 231, 3) := dk_184 0 231 (dk_at dksX9_share_1 15 rfl rfl)
theorem dX9_share_42 : decode cX9_share 42 = .ok (.ifCond .ne 5, 3) := dk_154 0 5 (dk_at dksX9_share_1 18 rfl rfl)
theorem dX9_share_45 : decode cX9_share 45 = .ok (.iconst (-1), 1) := dk_2 (dk_at dksX9_share_1 21 rfl rfl)
theorem dX9_share_46 : decode cX9_share 46 = .ok (.ireturn, 1) := dk_172 (dk_at dksX9_share_1 22 rfl rfl)
theorem dX9_share_47 : decode cX9_share 47 = .ok (.iconst 0, 1) := dk_3 (dk_at dksX9_share_1 23 rfl rfl)
theorem dX9_share_48 : decode cX9_share 48 = .ok (.istore 4, 2) := dk_54 4 (dk_at dksX9_share_2 0 rfl rfl)
theorem dX9_share_50 : decode cX9_share 50 = .ok (.iconst 0, 1) := dk_3 (dk_at dksX9_share_2 2 rfl rfl)
theorem dX9_share_51 : decode cX9_share 51 = .ok (.istore 5, 2) := dk_54 5 (dk_at dksX9_share_2 3 rfl rfl)
theorem dX9_share_53 : decode cX9_share 53 = .ok (.iload 5, 2) := dk_21 5 (dk_at dksX9_share_2 5 rfl rfl)
theorem dX9_share_55 : decode cX9_share 55 = .ok (.bipush 7, 2) := dk_16 7 (dk_at dksX9_share_2 7 rfl rfl)
theorem dX9_share_57 : decode cX9_share 57 = .ok (.if_icmp .ge 32, 3) := dk_162 0 32 (dk_at dksX9_share_2 9 rfl rfl)
theorem dX9_share_60 : decode cX9_share 60 = .ok (.iload_n 2, 1) := dk_28 (dk_at dksX9_share_2 12 rfl rfl)
theorem dX9_share_61 : decode cX9_share 61 = .ok (.iload 5, 2) := dk_21 5 (dk_at dksX9_share_2 13 rfl rfl)
theorem dX9_share_63 : decode cX9_share 63 = .ok (.invokestatic 231, 3) := dk_184 0 231 (dk_at dksX9_share_2 15 rfl rfl)
theorem dX9_share_66 : decode cX9_share 66 = .ok (.ifCond .eq 17, 3) := dk_153 0 17 (dk_at dksX9_share_2 18 rfl rfl)
theorem dX9_share_69 : decode cX9_share 69 = .ok (.iload 4, 2) := dk_21 4 (dk_at dksX9_share_2 21 rfl rfl)
theorem dX9_share_71 : decode cX9_share 71 = .ok (.aload_n 0, 1) := dk_42 (dk_at dksX9_share_2 23 rfl rfl)
theorem dX9_share_72 : decode cX9_share 72 = .ok (.getfield 13, 3) := dk_180 0 13 (dk_at dksX9_share_3 0 rfl rfl)
theorem dX9_share_75 : decode cX9_share 75 = .ok (.iconst 4, 1) := dk_7 (dk_at dksX9_share_3 3 rfl rfl)
theorem dX9_share_76 : decode cX9_share 76 = .ok (.iload 5, 2) := dk_21 5 (dk_at dksX9_share_3 4 rfl rfl)
theorem dX9_share_78 : decode cX9_share 78 = .ok (.iadd, 1) := dk_96 (dk_at dksX9_share_3 6 rfl rfl)
theorem dX9_share_79 : decode cX9_share 79 = .ok (.iaload, 1) := dk_46 (dk_at dksX9_share_3 7 rfl rfl)
theorem dX9_share_80 : decode cX9_share 80 = .ok (.iadd, 1) := dk_96 (dk_at dksX9_share_3 8 rfl rfl)
theorem dX9_share_81 : decode cX9_share 81 = .ok (.istore 4, 2) := dk_54 4 (dk_at dksX9_share_3 9 rfl rfl)
theorem dX9_share_83 : decode cX9_share 83 = .ok (.iinc 5 1, 3) := dk_132 5 1 (dk_at dksX9_share_3 11 rfl rfl)
theorem dX9_share_86 : decode cX9_share 86 = .ok (.goto (-33), 3) := dk_167 255 223 (dk_at dksX9_share_3 14 rfl rfl)
theorem dX9_share_89 : decode cX9_share 89 = .ok (.iload 4, 2) := dk_21 4 (dk_at dksX9_share_3 17 rfl rfl)
theorem dX9_share_91 : decode cX9_share 91 = .ok (.ifCond .ne 5, 3) := dk_154 0 5 (dk_at dksX9_share_3 19 rfl rfl)
theorem dX9_share_94 : decode cX9_share 94 = .ok (.iconst 0, 1) := dk_3 (dk_at dksX9_share_3 22 rfl rfl)
theorem dX9_share_95 : decode cX9_share 95 = .ok (.ireturn, 1) := dk_172 (dk_at dksX9_share_3 23 rfl rfl)
theorem dX9_share_96 : decode cX9_share 96 = .ok (.aload_n 0, 1) := dk_42 (dk_at dksX9_share_4 0 rfl rfl)
theorem dX9_share_97 : decode cX9_share 97 = .ok (.getfield 13, 3) := dk_180 0 13 (dk_at dksX9_share_4 1 rfl rfl)
theorem dX9_share_100 : decode cX9_share 100 = .ok (.bipush 78, 2) := dk_16 78 (dk_at dksX9_share_4 4 rfl rfl)
theorem dX9_share_102 : decode cX9_share 102 = .ok (.iload_n 1, 1) := dk_27 (dk_at dksX9_share_4 6 rfl rfl)
theorem dX9_share_103 : decode cX9_share 103 = .ok (.iadd, 1) := dk_96 (dk_at dksX9_share_4 7 rfl rfl)
theorem dX9_share_104 : decode cX9_share 104 = .ok (.iaload, 1) := dk_46 (dk_at dksX9_share_4 8 rfl rfl)
theorem dX9_share_105 : decode cX9_share 105 = .ok (.istore 5, 2) := dk_54 5 (dk_at dksX9_share_4 9 rfl rfl)
theorem dX9_share_107 : decode cX9_share 107 = .ok (.iload 5, 2) := dk_21 5 (dk_at dksX9_share_4 11 rfl rfl)
theorem dX9_share_109 : decode cX9_share 109 = .ok (.istore 6, 2) := dk_54 6 (dk_at dksX9_share_4 13 rfl rfl)
theorem dX9_share_111 : decode cX9_share 111 = .ok (.iconst 0, 1) := dk_3 (dk_at dksX9_share_4 15 rfl rfl)
theorem dX9_share_112 : decode cX9_share 112 = .ok (.istore 7, 2) := dk_54 7 (dk_at dksX9_share_4 16 rfl rfl)
theorem dX9_share_114 : decode cX9_share 114 = .ok (.iload 5, 2) := dk_21 5 (dk_at dksX9_share_4 18 rfl rfl)
theorem dX9_share_116 : decode cX9_share 116 = .ok (.aload_n 0, 1) := dk_42 (dk_at dksX9_share_4 20 rfl rfl)
theorem dX9_share_117 : decode cX9_share 117 = .ok (.getfield 13, 3) := dk_180 0 13 (dk_at dksX9_share_4 21 rfl rfl)
theorem dX9_share_120 : decode cX9_share 120 = .ok (.iconst 4, 1) := dk_7 (dk_at dksX9_share_5 0 rfl rfl)
theorem dX9_share_121 : decode cX9_share 121 = .ok (.iload_n 3, 1) := dk_29 (dk_at dksX9_share_5 1 rfl rfl)
theorem dX9_share_122 : decode cX9_share 122 = .ok (.iadd, 1) := dk_96 (dk_at dksX9_share_5 2 rfl rfl)
theorem dX9_share_123 : decode cX9_share 123 = .ok (.iaload, 1) := dk_46 (dk_at dksX9_share_5 3 rfl rfl)
theorem dX9_share_124 : decode cX9_share 124 = .ok (.imul, 1) := dk_104 (dk_at dksX9_share_5 4 rfl rfl)
theorem dX9_share_125 : decode cX9_share 125 = .ok (.iload 4, 2) := dk_21 4 (dk_at dksX9_share_5 5 rfl rfl)
theorem dX9_share_127 : decode cX9_share 127 = .ok (.irem, 1) := dk_112 (dk_at dksX9_share_5 7 rfl rfl)
theorem dX9_share_128 : decode cX9_share 128 = .ok (.istore 8, 2) := dk_54 8 (dk_at dksX9_share_5 8 rfl rfl)
theorem dX9_share_130 : decode cX9_share 130 = .ok (.iconst 0, 1) := dk_3 (dk_at dksX9_share_5 10 rfl rfl)
theorem dX9_share_131 : decode cX9_share 131 = .ok (.istore 9, 2) := dk_54 9 (dk_at dksX9_share_5 11 rfl rfl)
theorem dX9_share_133 : decode cX9_share 133 = .ok (.iload 9, 2) := dk_21 9 (dk_at dksX9_share_5 13 rfl rfl)
theorem dX9_share_135 : decode cX9_share 135 = .ok (.bipush 7, 2) := dk_16 7 (dk_at dksX9_share_5 15 rfl rfl)
theorem dX9_share_137 : decode cX9_share 137 = .ok (.if_icmp .ge 81, 3) := dk_162 0 81 (dk_at dksX9_share_5 17 rfl rfl)
theorem dX9_share_140 : decode cX9_share 140 = .ok (.iload_n 2, 1) := dk_28 (dk_at dksX9_share_5 20 rfl rfl)
theorem dX9_share_141 : decode cX9_share 141 = .ok (.iload 9, 2) := dk_21 9 (dk_at dksX9_share_5 21 rfl rfl)
theorem dX9_share_143 : decode cX9_share 143 = .ok (.invokestatic 231, 3) := dk_184 0 231 (dk_at dksX9_share_6 0 rfl rfl)
theorem dX9_share_146 : decode cX9_share 146 = .ok (.ifCond .ne 6, 3) := dk_154 0 6 (dk_at dksX9_share_6 3 rfl rfl)
theorem dX9_share_149 : decode cX9_share 149 = .ok (.goto 63, 3) := dk_167 0 63 (dk_at dksX9_share_6 6 rfl rfl)
theorem dX9_share_152 : decode cX9_share 152 = .ok (.iload 5, 2) := dk_21 5 (dk_at dksX9_share_6 9 rfl rfl)
theorem dX9_share_154 : decode cX9_share 154 = .ok (.aload_n 0, 1) := dk_42 (dk_at dksX9_share_6 11 rfl rfl)
theorem dX9_share_155 : decode cX9_share 155 = .ok (.getfield 13, 3) := dk_180 0 13 (dk_at dksX9_share_6 12 rfl rfl)
theorem dX9_share_158 : decode cX9_share 158 = .ok (.iconst 4, 1) := dk_7 (dk_at dksX9_share_6 15 rfl rfl)
theorem dX9_share_159 : decode cX9_share 159 = .ok (.iload 9, 2) := dk_21 9 (dk_at dksX9_share_6 16 rfl rfl)
theorem dX9_share_161 : decode cX9_share 161 = .ok (.iadd, 1) := dk_96 (dk_at dksX9_share_6 18 rfl rfl)
theorem dX9_share_162 : decode cX9_share 162 = .ok (.iaload, 1) := dk_46 (dk_at dksX9_share_6 19 rfl rfl)
theorem dX9_share_163 : decode cX9_share 163 = .ok (.imul, 1) := dk_104 (dk_at dksX9_share_6 20 rfl rfl)
theorem dX9_share_164 : decode cX9_share 164 = .ok (.iload 4, 2) := dk_21 4 (dk_at dksX9_share_6 21 rfl rfl)
theorem dX9_share_166 : decode cX9_share 166 = .ok (.irem, 1) := dk_112 (dk_at dksX9_share_6 23 rfl rfl)
theorem dX9_share_167 : decode cX9_share 167 = .ok (.istore 10, 2) := dk_54 10 (dk_at dksX9_share_7 0 rfl rfl)
theorem dX9_share_169 : decode cX9_share 169 = .ok (.iload 6, 2) := dk_21 6 (dk_at dksX9_share_7 2 rfl rfl)
theorem dX9_share_171 : decode cX9_share 171 = .ok (.iload 5, 2) := dk_21 5 (dk_at dksX9_share_7 4 rfl rfl)
theorem dX9_share_173 : decode cX9_share 173 = .ok (.aload_n 0, 1) := dk_42 (dk_at dksX9_share_7 6 rfl rfl)
theorem dX9_share_174 : decode cX9_share 174 = .ok (.getfield 13, 3) := dk_180 0 13 (dk_at dksX9_share_7 7 rfl rfl)
theorem dX9_share_177 : decode cX9_share 177 = .ok (.iconst 4, 1) := dk_7 (dk_at dksX9_share_7 10 rfl rfl)
theorem dX9_share_178 : decode cX9_share 178 = .ok (.iload 9, 2) := dk_21 9 (dk_at dksX9_share_7 11 rfl rfl)
theorem dX9_share_180 : decode cX9_share 180 = .ok (.iadd, 1) := dk_96 (dk_at dksX9_share_7 13 rfl rfl)
theorem dX9_share_181 : decode cX9_share 181 = .ok (.iaload, 1) := dk_46 (dk_at dksX9_share_7 14 rfl rfl)
theorem dX9_share_182 : decode cX9_share 182 = .ok (.imul, 1) := dk_104 (dk_at dksX9_share_7 15 rfl rfl)
theorem dX9_share_183 : decode cX9_share 183 = .ok (.iload 4, 2) := dk_21 4 (dk_at dksX9_share_7 16 rfl rfl)
theorem dX9_share_185 : decode cX9_share 185 = .ok (.idiv, 1) := dk_108 (dk_at dksX9_share_7 18 rfl rfl)
theorem dX9_share_186 : decode cX9_share 186 = .ok (.isub, 1) := dk_100 (dk_at dksX9_share_7 19 rfl rfl)
theorem dX9_share_187 : decode cX9_share 187 = .ok (.istore 6, 2) := dk_54 6 (dk_at dksX9_share_7 20 rfl rfl)
theorem dX9_share_189 : decode cX9_share 189 = .ok (.iload 10, 2) := dk_21 10 (dk_at dksX9_share_7 22 rfl rfl)
theorem dX9_share_191 : decode cX9_share 191 = .ok (.iload 8, 2) := dk_21 8 (dk_at dksX9_share_8 0 rfl rfl)
theorem dX9_share_193 : decode cX9_share 193 = .ok (.if_icmp .gt 16, 3) := dk_163 0 16 (dk_at dksX9_share_8 2 rfl rfl)
theorem dX9_share_196 : decode cX9_share 196 = .ok (.iload 10, 2) := dk_21 10 (dk_at dksX9_share_8 5 rfl rfl)
theorem dX9_share_198 : decode cX9_share 198 = .ok (.iload 8, 2) := dk_21 8 (dk_at dksX9_share_8 7 rfl rfl)
theorem dX9_share_200 : decode cX9_share 200 = .ok (.if_icmp .ne 12, 3) := dk_160 0 12 (dk_at dksX9_share_8 9 rfl rfl)
theorem dX9_share_203 : decode cX9_share 203 = .ok (.iload 9, 2) := dk_21 9 (dk_at dksX9_share_8 12 rfl rfl)
theorem dX9_share_205 : decode cX9_share 205 = .ok (.iload_n 3, 1) := dk_29 (dk_at dksX9_share_8 14 rfl rfl)
theorem dX9_share_206 : decode cX9_share 206 = .ok (.if_icmp .ge 6, 3) := dk_162 0 6 (dk_at dksX9_share_8 15 rfl rfl)
theorem dX9_share_209 : decode cX9_share 209 = .ok (.iinc 7 1, 3) := dk_132 7 1 (dk_at dksX9_share_8 18 rfl rfl)
theorem dX9_share_212 : decode cX9_share 212 = .ok (.iinc 9 1, 3) := dk_132 9 1 (dk_at dksX9_share_8 21 rfl rfl)
theorem dX9_share_215 : decode cX9_share 215 = .ok (.goto (-82), 3) := dk_167 255 174 (dk_at dksX9_share_9 0 rfl rfl)
theorem dX9_share_218 : decode cX9_share 218 = .ok (.iload 5, 2) := dk_21 5 (dk_at dksX9_share_9 3 rfl rfl)
theorem dX9_share_220 : decode cX9_share 220 = .ok (.aload_n 0, 1) := dk_42 (dk_at dksX9_share_9 5 rfl rfl)
theorem dX9_share_221 : decode cX9_share 221 = .ok (.getfield 13, 3) := dk_180 0 13 (dk_at dksX9_share_9 6 rfl rfl)
theorem dX9_share_224 : decode cX9_share 224 = .ok (.iconst 4, 1) := dk_7 (dk_at dksX9_share_9 9 rfl rfl)
theorem dX9_share_225 : decode cX9_share 225 = .ok (.iload_n 3, 1) := dk_29 (dk_at dksX9_share_9 10 rfl rfl)
theorem dX9_share_226 : decode cX9_share 226 = .ok (.iadd, 1) := dk_96 (dk_at dksX9_share_9 11 rfl rfl)
theorem dX9_share_227 : decode cX9_share 227 = .ok (.iaload, 1) := dk_46 (dk_at dksX9_share_9 12 rfl rfl)
theorem dX9_share_228 : decode cX9_share 228 = .ok (.imul, 1) := dk_104 (dk_at dksX9_share_9 13 rfl rfl)
theorem dX9_share_229 : decode cX9_share 229 = .ok (.iload 4, 2) := dk_21 4 (dk_at dksX9_share_9 14 rfl rfl)
theorem dX9_share_231 : decode cX9_share 231 = .ok (.idiv, 1) := dk_108 (dk_at dksX9_share_9 16 rfl rfl)
theorem dX9_share_232 : decode cX9_share 232 = .ok (.iload 7, 2) := dk_21 7 (dk_at dksX9_share_9 17 rfl rfl)
theorem dX9_share_234 : decode cX9_share 234 = .ok (.iload 6, 2) := dk_21 6 (dk_at dksX9_share_9 19 rfl rfl)
theorem dX9_share_236 : decode cX9_share 236 = .ok (.if_icmp .ge 7, 3) := dk_162 0 7 (dk_at dksX9_share_9 21 rfl rfl)
theorem dX9_share_239 : decode cX9_share 239 = .ok (.iconst 1, 1) := dk_4 (dk_at dksX9_share_10 0 rfl rfl)
theorem dX9_share_240 : decode cX9_share 240 = .ok (.goto 4, 3) := dk_167 0 4 (dk_at dksX9_share_10 1 rfl rfl)
theorem dX9_share_243 : decode cX9_share 243 = .ok (.iconst 0, 1) := dk_3 (dk_at dksX9_share_10 4 rfl rfl)
theorem dX9_share_244 : decode cX9_share 244 = .ok (.iadd, 1) := dk_96 (dk_at dksX9_share_10 5 rfl rfl)
theorem dX9_share_245 : decode cX9_share 245 = .ok (.ireturn, 1) := dk_172 (dk_at dksX9_share_10 6 rfl rfl)
abbrev cX9_last : ByteArray := prog_25_method_82_code
def yX9_last : MethodName := ⟨RX9, "last", "(I)I"⟩
def dkwX9_last_4 : List UInt8 := [132, 5, 255, 167, 255, 221, 132, 4, 1, 167, 255, 191, 29, 172]
abbrev dktX9_last_4 : List UInt8 := dkwX9_last_4 ++ []
def dkwX9_last_3 : List UInt8 := [21, 4, 21, 5, 100, 51, 153, 0, 6, 167, 0, 14, 42, 180, 0, 61, 21, 4, 4, 84, 21, 5, 62]
abbrev dktX9_last_3 : List UInt8 := dkwX9_last_3 ++ dktX9_last_4
def dkwX9_last_2 : List UInt8 := [21, 4, 3, 84, 3, 62, 6, 21, 4, 184, 1, 9, 54, 5, 21, 5, 158, 0, 36, 42, 180, 0, 61]
abbrev dktX9_last_2 : List UInt8 := dkwX9_last_2 ++ dktX9_last_3
def dkwX9_last_1 : List UInt8 := [61, 42, 180, 0, 61, 3, 4, 84, 3, 62, 4, 54, 4, 21, 4, 28, 163, 0, 65, 42, 180, 0, 61]
abbrev dktX9_last_1 : List UInt8 := dkwX9_last_1 ++ dktX9_last_2
def dkwX9_last_0 : List UInt8 := [42, 3, 181, 0, 82, 42, 27, 182, 0, 250, 154, 0, 5, 2, 172, 42, 180, 0, 13, 16, 78, 27, 96, 46]
abbrev dktX9_last_0 : List UInt8 := dkwX9_last_0 ++ dktX9_last_1
theorem dksX9_last_0 : cX9_last.data.toList.drop 0 = dktX9_last_0 := by decide +kernel
theorem dksX9_last_1 : cX9_last.data.toList.drop 24 = dktX9_last_1 := dk_seg dksX9_last_0 24 rfl rfl
theorem dksX9_last_2 : cX9_last.data.toList.drop 47 = dktX9_last_2 := dk_seg dksX9_last_1 23 rfl rfl
theorem dksX9_last_3 : cX9_last.data.toList.drop 70 = dktX9_last_3 := dk_seg dksX9_last_2 23 rfl rfl
theorem dksX9_last_4 : cX9_last.data.toList.drop 93 = dktX9_last_4 := dk_seg dksX9_last_3 23 rfl rfl
theorem dX9_last_0 : decode cX9_last 0 = .ok (.aload_n 0, 1) := dk_42 (dk_at dksX9_last_0 0 rfl rfl)
theorem dX9_last_1 : decode cX9_last 1 = .ok (.iconst 0, 1) := dk_3 (dk_at dksX9_last_0 1 rfl rfl)
theorem dX9_last_2 : decode cX9_last 2 = .ok (.putfield 82, 3) := dk_181 0 82 (dk_at dksX9_last_0 2 rfl rfl)
theorem dX9_last_5 : decode cX9_last 5 = .ok (.aload_n 0, 1) := dk_42 (dk_at dksX9_last_0 5 rfl rfl)
theorem dX9_last_6 : decode cX9_last 6 = .ok (.iload_n 1, 1) := dk_27 (dk_at dksX9_last_0 6 rfl rfl)
theorem dX9_last_7 : decode cX9_last 7 = .ok (.invokevirtual 250, 3) := dk_182 0 250 (dk_at dksX9_last_0 7 rfl rfl)
theorem dX9_last_10 : decode cX9_last 10 = .ok (.ifCond .ne 5, 3) := dk_154 0 5 (dk_at dksX9_last_0 10 rfl rfl)
theorem dX9_last_13 : decode cX9_last 13 = .ok (.iconst (-1), 1) := dk_2 (dk_at dksX9_last_0 13 rfl rfl)
theorem dX9_last_14 : decode cX9_last 14 = .ok (.ireturn, 1) := dk_172 (dk_at dksX9_last_0 14 rfl rfl)
theorem dX9_last_15 : decode cX9_last 15 = .ok (.aload_n 0, 1) := dk_42 (dk_at dksX9_last_0 15 rfl rfl)
theorem dX9_last_16 : decode cX9_last 16 = .ok (.getfield 13, 3) := dk_180 0 13 (dk_at dksX9_last_0 16 rfl rfl)
theorem dX9_last_19 : decode cX9_last 19 = .ok (.bipush 78, 2) := dk_16 78 (dk_at dksX9_last_0 19 rfl rfl)
theorem dX9_last_21 : decode cX9_last 21 = .ok (.iload_n 1, 1) := dk_27 (dk_at dksX9_last_0 21 rfl rfl)
theorem dX9_last_22 : decode cX9_last 22 = .ok (.iadd, 1) := dk_96 (dk_at dksX9_last_0 22 rfl rfl)
theorem dX9_last_23 : decode cX9_last 23 = .ok (.iaload, 1) := dk_46 (dk_at dksX9_last_0 23 rfl rfl)
theorem dX9_last_24 : decode cX9_last 24 = .ok (.istore_n 2, 1) := dk_61 (dk_at dksX9_last_1 0 rfl rfl)
theorem dX9_last_25 : decode cX9_last 25 = .ok (.aload_n 0, 1) := dk_42 (dk_at dksX9_last_1 1 rfl rfl)
theorem dX9_last_26 : decode cX9_last 26 = .ok (.getfield 61, 3) := dk_180 0 61 (dk_at dksX9_last_1 2 rfl rfl)
theorem dX9_last_29 : decode cX9_last 29 = .ok (.iconst 0, 1) := dk_3 (dk_at dksX9_last_1 5 rfl rfl)
theorem dX9_last_30 : decode cX9_last 30 = .ok (.iconst 1, 1) := dk_4 (dk_at dksX9_last_1 6 rfl rfl)
theorem dX9_last_31 : decode cX9_last 31 = .ok (.bastore, 1) := dk_84 (dk_at dksX9_last_1 7 rfl rfl)
theorem dX9_last_32 : decode cX9_last 32 = .ok (.iconst 0, 1) := dk_3 (dk_at dksX9_last_1 8 rfl rfl)
theorem dX9_last_33 : decode cX9_last 33 = .ok (.istore_n 3, 1) := dk_62 (dk_at dksX9_last_1 9 rfl rfl)
theorem dX9_last_34 : decode cX9_last 34 = .ok (.iconst 1, 1) := dk_4 (dk_at dksX9_last_1 10 rfl rfl)
theorem dX9_last_35 : decode cX9_last 35 = .ok (.istore 4, 2) := dk_54 4 (dk_at dksX9_last_1 11 rfl rfl)
theorem dX9_last_37 : decode cX9_last 37 = .ok (.iload 4, 2) := dk_21 4 (dk_at dksX9_last_1 13 rfl rfl)
theorem dX9_last_39 : decode cX9_last 39 = .ok (.iload_n 2, 1) := dk_28 (dk_at dksX9_last_1 15 rfl rfl)
theorem dX9_last_40 : decode cX9_last 40 = .ok (.if_icmp .gt 65, 3) := dk_163 0 65 (dk_at dksX9_last_1 16 rfl rfl)
theorem dX9_last_43 : decode cX9_last 43 = .ok (.aload_n 0, 1) := dk_42 (dk_at dksX9_last_1 19 rfl rfl)
theorem dX9_last_44 : decode cX9_last 44 = .ok (.getfield 61, 3) := dk_180 0 61 (dk_at dksX9_last_1 20 rfl rfl)
theorem dX9_last_47 : decode cX9_last 47 = .ok (.iload 4, 2) := dk_21 4 (dk_at dksX9_last_2 0 rfl rfl)
theorem dX9_last_49 : decode cX9_last 49 = .ok (.iconst 0, 1) := dk_3 (dk_at dksX9_last_2 2 rfl rfl)
theorem dX9_last_50 : decode cX9_last 50 = .ok (.bastore, 1) := dk_84 (dk_at dksX9_last_2 3 rfl rfl)
theorem dX9_last_51 : decode cX9_last 51 = .ok (.iconst 0, 1) := dk_3 (dk_at dksX9_last_2 4 rfl rfl)
theorem dX9_last_52 : decode cX9_last 52 = .ok (.istore_n 3, 1) := dk_62 (dk_at dksX9_last_2 5 rfl rfl)
theorem dX9_last_53 : decode cX9_last 53 = .ok (.iconst 3, 1) := dk_6 (dk_at dksX9_last_2 6 rfl rfl)
theorem dX9_last_54 : decode cX9_last 54 = .ok (.iload 4, 2) := dk_21 4 (dk_at dksX9_last_2 7 rfl rfl)
theorem dX9_last_56 : decode cX9_last 56 = .ok (.invokestatic 265, 3) := dk_184 1 9 (dk_at dksX9_last_2 9 rfl rfl)
theorem dX9_last_59 : decode cX9_last 59 = .ok (.istore 5, 2) := dk_54 5 (dk_at dksX9_last_2 12 rfl rfl)
theorem dX9_last_61 : decode cX9_last 61 = .ok (.iload 5, 2) := dk_21 5 (dk_at dksX9_last_2 14 rfl rfl)
theorem dX9_last_63 : decode cX9_last 63 = .ok (.ifCond .le 36, 3) := dk_158 0 36 (dk_at dksX9_last_2 16 rfl rfl)
theorem dX9_last_66 : decode cX9_last 66 = .ok (.aload_n 0, 1) := dk_42 (dk_at dksX9_last_2 19 rfl rfl)
theorem dX9_last_67 : decode cX9_last 67 = .ok (.getfield 61, 3) := dk_180 0 61 (dk_at dksX9_last_2 20 rfl rfl)
theorem dX9_last_70 : decode cX9_last 70 = .ok (.iload 4, 2) := dk_21 4 (dk_at dksX9_last_3 0 rfl rfl)
theorem dX9_last_72 : decode cX9_last 72 = .ok (.iload 5, 2) := dk_21 5 (dk_at dksX9_last_3 2 rfl rfl)
theorem dX9_last_74 : decode cX9_last 74 = .ok (.isub, 1) := dk_100 (dk_at dksX9_last_3 4 rfl rfl)
theorem dX9_last_75 : decode cX9_last 75 = .ok (.baload, 1) := dk_51 (dk_at dksX9_last_3 5 rfl rfl)
theorem dX9_last_76 : decode cX9_last 76 = .ok (.ifCond .eq 6, 3) := dk_153 0 6 (dk_at dksX9_last_3 6 rfl rfl)
theorem dX9_last_79 : decode cX9_last 79 = .ok (.goto 14, 3) := dk_167 0 14 (dk_at dksX9_last_3 9 rfl rfl)
theorem dX9_last_82 : decode cX9_last 82 = .ok (.aload_n 0, 1) := dk_42 (dk_at dksX9_last_3 12 rfl rfl)
theorem dX9_last_83 : decode cX9_last 83 = .ok (.getfield 61, 3) := dk_180 0 61 (dk_at dksX9_last_3 13 rfl rfl)
theorem dX9_last_86 : decode cX9_last 86 = .ok (.iload 4, 2) := dk_21 4 (dk_at dksX9_last_3 16 rfl rfl)
theorem dX9_last_88 : decode cX9_last 88 = .ok (.iconst 1, 1) := dk_4 (dk_at dksX9_last_3 18 rfl rfl)
theorem dX9_last_89 : decode cX9_last 89 = .ok (.bastore, 1) := dk_84 (dk_at dksX9_last_3 19 rfl rfl)
theorem dX9_last_90 : decode cX9_last 90 = .ok (.iload 5, 2) := dk_21 5 (dk_at dksX9_last_3 20 rfl rfl)
theorem dX9_last_92 : decode cX9_last 92 = .ok (.istore_n 3, 1) := dk_62 (dk_at dksX9_last_3 22 rfl rfl)
theorem dX9_last_93 : decode cX9_last 93 = .ok (.iinc 5 (-1), 3) := dk_132 5 255 (dk_at dksX9_last_4 0 rfl rfl)
theorem dX9_last_96 : decode cX9_last 96 = .ok (.goto (-35), 3) := dk_167 255 221 (dk_at dksX9_last_4 3 rfl rfl)
theorem dX9_last_99 : decode cX9_last 99 = .ok (.iinc 4 1, 3) := dk_132 4 1 (dk_at dksX9_last_4 6 rfl rfl)
theorem dX9_last_102 : decode cX9_last 102 = .ok (.goto (-65), 3) := dk_167 255 191 (dk_at dksX9_last_4 9 rfl rfl)
theorem dX9_last_105 : decode cX9_last 105 = .ok (.iload_n 3, 1) := dk_29 (dk_at dksX9_last_4 12 rfl rfl)
theorem dX9_last_106 : decode cX9_last 106 = .ok (.ireturn, 1) := dk_172 (dk_at dksX9_last_4 13 rfl rfl)
abbrev cX9_seats : ByteArray := prog_25_method_84_code
def yX9_seats : MethodName := ⟨RX9, "seats", "()I"⟩
def dkwX9_seats_1 : List UInt8 := [182, 1, 53, 3, 182, 1, 67, 42, 180, 1, 64, 172]
abbrev dktX9_seats_1 : List UInt8 := dkwX9_seats_1 ++ []
def dkwX9_seats_0 : List UInt8 := [42, 3, 181, 0, 82, 42, 2, 181, 1, 64, 42, 42, 182, 1, 53, 184, 1, 56, 181, 1, 70, 42, 3, 42]
abbrev dktX9_seats_0 : List UInt8 := dkwX9_seats_0 ++ dktX9_seats_1
theorem dksX9_seats_0 : cX9_seats.data.toList.drop 0 = dktX9_seats_0 := by decide +kernel
theorem dksX9_seats_1 : cX9_seats.data.toList.drop 24 = dktX9_seats_1 := dk_seg dksX9_seats_0 24 rfl rfl
theorem dX9_seats_0 : decode cX9_seats 0 = .ok (.aload_n 0, 1) := dk_42 (dk_at dksX9_seats_0 0 rfl rfl)
theorem dX9_seats_1 : decode cX9_seats 1 = .ok (.iconst 0, 1) := dk_3 (dk_at dksX9_seats_0 1 rfl rfl)
theorem dX9_seats_2 : decode cX9_seats 2 = .ok (.putfield 82, 3) := dk_181 0 82 (dk_at dksX9_seats_0 2 rfl rfl)
theorem dX9_seats_5 : decode cX9_seats 5 = .ok (.aload_n 0, 1) := dk_42 (dk_at dksX9_seats_0 5 rfl rfl)
theorem dX9_seats_6 : decode cX9_seats 6 = .ok (.iconst (-1), 1) := dk_2 (dk_at dksX9_seats_0 6 rfl rfl)
theorem dX9_seats_7 : decode cX9_seats 7 = .ok (.putfield 320, 3) := dk_181 1 64 (dk_at dksX9_seats_0 7 rfl rfl)
theorem dX9_seats_10 : decode cX9_seats 10 = .ok (.aload_n 0, 1) := dk_42 (dk_at dksX9_seats_0 10 rfl rfl)
theorem dX9_seats_11 : decode cX9_seats 11 = .ok (.aload_n 0, 1) := dk_42 (dk_at dksX9_seats_0 11 rfl rfl)
theorem dX9_seats_12 : decode cX9_seats 12 = .ok (.invokevirtual 309, 3) := dk_182 1 53 (dk_at dksX9_seats_0 12 rfl rfl)
theorem dX9_seats_15 : decode cX9_seats 15 = .ok (.invokestatic 312, 3) := dk_184 1 56 (dk_at dksX9_seats_0 15 rfl rfl)
theorem dX9_seats_18 : decode cX9_seats 18 = .ok (.putfield 326, 3) := dk_181 1 70 (dk_at dksX9_seats_0 18 rfl rfl)
theorem dX9_seats_21 : decode cX9_seats 21 = .ok (.aload_n 0, 1) := dk_42 (dk_at dksX9_seats_0 21 rfl rfl)
theorem dX9_seats_22 : decode cX9_seats 22 = .ok (.iconst 0, 1) := dk_3 (dk_at dksX9_seats_0 22 rfl rfl)
theorem dX9_seats_23 : decode cX9_seats 23 = .ok (.aload_n 0, 1) := dk_42 (dk_at dksX9_seats_0 23 rfl rfl)
theorem dX9_seats_24 : decode cX9_seats 24 = .ok (.invokevirtual 309, 3) := dk_182 1 53 (dk_at dksX9_seats_1 0 rfl rfl)
theorem dX9_seats_27 : decode cX9_seats 27 = .ok (.iconst 0, 1) := dk_3 (dk_at dksX9_seats_1 3 rfl rfl)
theorem dX9_seats_28 : decode cX9_seats 28 = .ok (.invokevirtual 323, 3) := dk_182 1 67 (dk_at dksX9_seats_1 4 rfl rfl)
theorem dX9_seats_31 : decode cX9_seats 31 = .ok (.aload_n 0, 1) := dk_42 (dk_at dksX9_seats_1 7 rfl rfl)
theorem dX9_seats_32 : decode cX9_seats 32 = .ok (.getfield 320, 3) := dk_180 1 64 (dk_at dksX9_seats_1 8 rfl rfl)
theorem dX9_seats_35 : decode cX9_seats 35 = .ok (.ireturn, 1) := dk_172 (dk_at dksX9_seats_1 11 rfl rfl)
abbrev cX9_seatFrom : ByteArray := prog_25_method_83_code
def yX9_seatFrom : MethodName := ⟨RX9, "seatFrom", "(III)V"⟩
def dkwX9_seatFrom_5 : List UInt8 := [29, 4, 96, 167, 0, 4, 29, 182, 1, 67, 132, 4, 1, 167, 255, 175, 177]
abbrev dktX9_seatFrom_5 : List UInt8 := dkwX9_seatFrom_5 ++ []
def dkwX9_seatFrom_4 : List UInt8 := [158, 0, 30, 42, 180, 0, 13, 16, 11, 21, 4, 96, 46, 42, 180, 0, 64, 27, 4, 100, 46, 160, 0, 9]
abbrev dktX9_seatFrom_4 : List UInt8 := dkwX9_seatFrom_4 ++ dktX9_seatFrom_5
def dkwX9_seatFrom_3 : List UInt8 := [167, 0, 58, 42, 180, 0, 64, 27, 21, 4, 79, 42, 27, 4, 96, 28, 4, 21, 4, 120, 2, 130, 126, 27]
abbrev dktX9_seatFrom_3 : List UInt8 := dkwX9_seatFrom_3 ++ dktX9_seatFrom_4
def dkwX9_seatFrom_2 : List UInt8 := [3, 54, 4, 21, 4, 42, 180, 0, 13, 3, 46, 162, 0, 76, 28, 21, 4, 184, 0, 231, 154, 0, 6]
abbrev dktX9_seatFrom_2 : List UInt8 := dkwX9_seatFrom_2 ++ dktX9_seatFrom_3
def dkwX9_seatFrom_1 : List UInt8 := [162, 0, 23, 42, 180, 0, 67, 21, 4, 42, 180, 0, 64, 21, 4, 46, 79, 132, 4, 1, 167, 255, 233, 177]
abbrev dktX9_seatFrom_1 : List UInt8 := dkwX9_seatFrom_1 ++ dktX9_seatFrom_2
def dkwX9_seatFrom_0 : List UInt8 := [28, 154, 0, 47, 29, 42, 180, 1, 64, 163, 0, 4, 177, 42, 29, 181, 1, 64, 3, 54, 4, 21, 4, 27]
abbrev dktX9_seatFrom_0 : List UInt8 := dkwX9_seatFrom_0 ++ dktX9_seatFrom_1
theorem dksX9_seatFrom_0 : cX9_seatFrom.data.toList.drop 0 = dktX9_seatFrom_0 := by decide +kernel
theorem dksX9_seatFrom_1 : cX9_seatFrom.data.toList.drop 24 = dktX9_seatFrom_1 := dk_seg dksX9_seatFrom_0 24 rfl rfl
theorem dksX9_seatFrom_2 : cX9_seatFrom.data.toList.drop 48 = dktX9_seatFrom_2 := dk_seg dksX9_seatFrom_1 24 rfl rfl
theorem dksX9_seatFrom_3 : cX9_seatFrom.data.toList.drop 71 = dktX9_seatFrom_3 := dk_seg dksX9_seatFrom_2 23 rfl rfl
theorem dksX9_seatFrom_4 : cX9_seatFrom.data.toList.drop 95 = dktX9_seatFrom_4 := dk_seg dksX9_seatFrom_3 24 rfl rfl
theorem dksX9_seatFrom_5 : cX9_seatFrom.data.toList.drop 119 = dktX9_seatFrom_5 := dk_seg dksX9_seatFrom_4 24 rfl rfl
theorem dX9_seatFrom_0 : decode cX9_seatFrom 0 = .ok (.iload_n 2, 1) := dk_28 (dk_at dksX9_seatFrom_0 0 rfl rfl)
theorem dX9_seatFrom_1 : decode cX9_seatFrom 1 = .ok (.ifCond .ne 47, 3) := dk_154 0 47 (dk_at dksX9_seatFrom_0 1 rfl rfl)
theorem dX9_seatFrom_4 : decode cX9_seatFrom 4 = .ok (.iload_n 3, 1) := dk_29 (dk_at dksX9_seatFrom_0 4 rfl rfl)
theorem dX9_seatFrom_5 : decode cX9_seatFrom 5 = .ok (.aload_n 0, 1) := dk_42 (dk_at dksX9_seatFrom_0 5 rfl rfl)
theorem dX9_seatFrom_6 : decode cX9_seatFrom 6 = .ok (.getfield 320, 3) := dk_180 1 64 (dk_at dksX9_seatFrom_0 6 rfl rfl)
theorem dX9_seatFrom_9 : decode cX9_seatFrom 9 = .ok (.if_icmp .gt 4, 3) := dk_163 0 4 (dk_at dksX9_seatFrom_0 9 rfl rfl)
theorem dX9_seatFrom_12 : decode cX9_seatFrom 12 = .ok (.return_, 1) := dk_177 (dk_at dksX9_seatFrom_0 12 rfl rfl)
theorem dX9_seatFrom_13 : decode cX9_seatFrom 13 = .ok (.aload_n 0, 1) := dk_42 (dk_at dksX9_seatFrom_0 13 rfl rfl)
theorem dX9_seatFrom_14 : decode cX9_seatFrom 14 = .ok (.iload_n 3, 1) := dk_29 (dk_at dksX9_seatFrom_0 14 rfl rfl)
theorem dX9_seatFrom_15 : decode cX9_seatFrom 15 = .ok (.putfield 320, 3) := dk_181 1 64 (dk_at dksX9_seatFrom_0 15 rfl rfl)
theorem dX9_seatFrom_18 : decode cX9_seatFrom 18 = .ok (.iconst 0, 1) := dk_3 (dk_at dksX9_seatFrom_0 18 rfl rfl)
theorem dX9_seatFrom_19 : decode cX9_seatFrom 19 = .ok (.istore 4, 2) := dk_54 4 (dk_at dksX9_seatFrom_0 19 rfl rfl)
theorem dX9_seatFrom_21 : decode cX9_seatFrom 21 = .ok (.iload 4, 2) := dk_21 4 (dk_at dksX9_seatFrom_0 21 rfl rfl)
theorem dX9_seatFrom_23 : decode cX9_seatFrom 23 = .ok (.iload_n 1, 1) := dk_27 (dk_at dksX9_seatFrom_0 23 rfl rfl)
theorem dX9_seatFrom_24 : decode cX9_seatFrom 24 = .ok (.if_icmp .ge 23, 3) := dk_162 0 23 (dk_at dksX9_seatFrom_1 0 rfl rfl)
theorem dX9_seatFrom_27 : decode cX9_seatFrom 27 = .ok (.aload_n 0, 1) := dk_42 (dk_at dksX9_seatFrom_1 3 rfl rfl)
theorem dX9_seatFrom_28 : decode cX9_seatFrom 28 = .ok (.getfield 67, 3) := dk_180 0 67 (dk_at dksX9_seatFrom_1 4 rfl rfl)
theorem dX9_seatFrom_31 : decode cX9_seatFrom 31 = .ok (.iload 4, 2) := dk_21 4 (dk_at dksX9_seatFrom_1 7 rfl rfl)
theorem dX9_seatFrom_33 : decode cX9_seatFrom 33 = .ok (.aload_n 0, 1) := dk_42 (dk_at dksX9_seatFrom_1 9 rfl rfl)
theorem dX9_seatFrom_34 : decode cX9_seatFrom 34 = .ok (.getfield 64, 3) := dk_180 0 64 (dk_at dksX9_seatFrom_1 10 rfl rfl)
theorem dX9_seatFrom_37 : decode cX9_seatFrom 37 = .ok (.iload 4, 2) := dk_21 4 (dk_at dksX9_seatFrom_1 13 rfl rfl)
theorem dX9_seatFrom_39 : decode cX9_seatFrom 39 = .ok (.iaload, 1) := dk_46 (dk_at dksX9_seatFrom_1 15 rfl rfl)
theorem dX9_seatFrom_40 : decode cX9_seatFrom 40 = .ok (.iastore, 1) := dk_79 (dk_at dksX9_seatFrom_1 16 rfl rfl)
theorem dX9_seatFrom_41 : decode cX9_seatFrom 41 = .ok (.iinc 4 1, 3) := dk_132 4 1 (dk_at dksX9_seatFrom_1 17 rfl rfl)
theorem dX9_seatFrom_44 : decode cX9_seatFrom 44 = .ok (.goto (-23), 3) := dk_167 255 233 (dk_at dksX9_seatFrom_1 20 rfl rfl)
theorem dX9_seatFrom_47 : decode cX9_seatFrom 47 = .ok (.return_, 1) := dk_177 (dk_at dksX9_seatFrom_1 23 rfl rfl)
theorem dX9_seatFrom_48 : decode cX9_seatFrom 48 = .ok (.iconst 0, 1) := dk_3 (dk_at dksX9_seatFrom_2 0 rfl rfl)
theorem dX9_seatFrom_49 : decode cX9_seatFrom 49 = .ok (.istore 4, 2) := dk_54 4 (dk_at dksX9_seatFrom_2 1 rfl rfl)
theorem dX9_seatFrom_51 : decode cX9_seatFrom 51 = .ok (.iload 4, 2) := dk_21 4 (dk_at dksX9_seatFrom_2 3 rfl rfl)
theorem dX9_seatFrom_53 : decode cX9_seatFrom 53 = .ok (.aload_n 0, 1) := dk_42 (dk_at dksX9_seatFrom_2 5 rfl rfl)
theorem dX9_seatFrom_54 : decode cX9_seatFrom 54 = .ok (.getfield 13, 3) := dk_180 0 13 (dk_at dksX9_seatFrom_2 6 rfl rfl)
theorem dX9_seatFrom_57 : decode cX9_seatFrom 57 = .ok (.iconst 0, 1) := dk_3 (dk_at dksX9_seatFrom_2 9 rfl rfl)
theorem dX9_seatFrom_58 : decode cX9_seatFrom 58 = .ok (.iaload, 1) := dk_46 (dk_at dksX9_seatFrom_2 10 rfl rfl)
theorem dX9_seatFrom_59 : decode cX9_seatFrom 59 = .ok (.if_icmp .ge 76, 3) := dk_162 0 76 (dk_at dksX9_seatFrom_2 11 rfl rfl)
theorem dX9_seatFrom_62 : decode cX9_seatFrom 62 = .ok (.iload_n 2, 1) := dk_28 (dk_at dksX9_seatFrom_2 14 rfl rfl)
theorem dX9_seatFrom_63 : decode cX9_seatFrom 63 = .ok (.iload 4, 2) := dk_21 4 (dk_at dksX9_seatFrom_2 15 rfl rfl)
theorem dX9_seatFrom_65 : decode cX9_seatFrom 65 = .ok (.invokestatic 231, 3) := dk_184 0 231 (dk_at dksX9_seatFrom_2 17 rfl rfl)
theorem dX9_seatFrom_68 : decode cX9_seatFrom 68 = .ok (.ifCond .ne 6, 3) := dk_154 0 6 (dk_at dksX9_seatFrom_2 20 rfl rfl)
theorem dX9_seatFrom_71 : decode cX9_seatFrom 71 = .ok (.goto 58, 3) := dk_167 0 58 (dk_at dksX9_seatFrom_3 0 rfl rfl)
theorem dX9_seatFrom_74 : decode cX9_seatFrom 74 = .ok (.aload_n 0, 1) := dk_42 (dk_at dksX9_seatFrom_3 3 rfl rfl)
theorem dX9_seatFrom_75 : decode cX9_seatFrom 75 = .ok (.getfield 64, 3) := dk_180 0 64 (dk_at dksX9_seatFrom_3 4 rfl rfl)
theorem dX9_seatFrom_78 : decode cX9_seatFrom 78 = .ok (.iload_n 1, 1) := dk_27 (dk_at dksX9_seatFrom_3 7 rfl rfl)
theorem dX9_seatFrom_79 : decode cX9_seatFrom 79 = .ok (.iload 4, 2) := dk_21 4 (dk_at dksX9_seatFrom_3 8 rfl rfl)
theorem dX9_seatFrom_81 : decode cX9_seatFrom 81 = .ok (.iastore, 1) := dk_79 (dk_at dksX9_seatFrom_3 10 rfl rfl)
theorem dX9_seatFrom_82 : decode cX9_seatFrom 82 = .ok (.aload_n 0, 1) := dk_42 (dk_at dksX9_seatFrom_3 11 rfl rfl)
theorem dX9_seatFrom_83 : decode cX9_seatFrom 83 = .ok (.iload_n 1, 1) := dk_27 (dk_at dksX9_seatFrom_3 12 rfl rfl)
theorem dX9_seatFrom_84 : decode cX9_seatFrom 84 = .ok (.iconst 1, 1) := dk_4 (dk_at dksX9_seatFrom_3 13 rfl rfl)
theorem dX9_seatFrom_85 : decode cX9_seatFrom 85 = .ok (.iadd, 1) := dk_96 (dk_at dksX9_seatFrom_3 14 rfl rfl)
theorem dX9_seatFrom_86 : decode cX9_seatFrom 86 = .ok (.iload_n 2, 1) := dk_28 (dk_at dksX9_seatFrom_3 15 rfl rfl)
theorem dX9_seatFrom_87 : decode cX9_seatFrom 87 = .ok (.iconst 1, 1) := dk_4 (dk_at dksX9_seatFrom_3 16 rfl rfl)
theorem dX9_seatFrom_88 : decode cX9_seatFrom 88 = .ok (.iload 4, 2) := dk_21 4 (dk_at dksX9_seatFrom_3 17 rfl rfl)
theorem dX9_seatFrom_90 : decode cX9_seatFrom 90 = .ok (.ishl, 1) := dk_120 (dk_at dksX9_seatFrom_3 19 rfl rfl)
theorem dX9_seatFrom_91 : decode cX9_seatFrom 91 = .ok (.iconst (-1), 1) := dk_2 (dk_at dksX9_seatFrom_3 20 rfl rfl)
theorem dX9_seatFrom_92 : decode cX9_seatFrom 92 = .ok (.ixor, 1) := dk_130 (dk_at dksX9_seatFrom_3 21 rfl rfl)
theorem dX9_seatFrom_93 : decode cX9_seatFrom 93 = .ok (.iand, 1) := dk_126 (dk_at dksX9_seatFrom_3 22 rfl rfl)
theorem dX9_seatFrom_94 : decode cX9_seatFrom 94 = .ok (.iload_n 1, 1) := dk_27 (dk_at dksX9_seatFrom_3 23 rfl rfl)
theorem dX9_seatFrom_95 : decode cX9_seatFrom 95 = .ok (.ifCond .le 30, 3) := dk_158 0 30 (dk_at dksX9_seatFrom_4 0 rfl rfl)
theorem dX9_seatFrom_98 : decode cX9_seatFrom 98 = .ok (.aload_n 0, 1) := dk_42 (dk_at dksX9_seatFrom_4 3 rfl rfl)
theorem dX9_seatFrom_99 : decode cX9_seatFrom 99 = .ok (.getfield 13, 3) := dk_180 0 13 (dk_at dksX9_seatFrom_4 4 rfl rfl)
theorem dX9_seatFrom_102 : decode cX9_seatFrom 102 = .ok (.bipush 11, 2) := dk_16 11 (dk_at dksX9_seatFrom_4 7 rfl rfl)
theorem dX9_seatFrom_104 : decode cX9_seatFrom 104 = .ok (.iload 4, 2) := dk_21 4 (dk_at dksX9_seatFrom_4 9 rfl rfl)
theorem dX9_seatFrom_106 : decode cX9_seatFrom 106 = .ok (.iadd, 1) := dk_96 (dk_at dksX9_seatFrom_4 11 rfl rfl)
theorem dX9_seatFrom_107 : decode cX9_seatFrom 107 = .ok (.iaload, 1) := dk_46 (dk_at dksX9_seatFrom_4 12 rfl rfl)
theorem dX9_seatFrom_108 : decode cX9_seatFrom 108 = .ok (.aload_n 0, 1) := dk_42 (dk_at dksX9_seatFrom_4 13 rfl rfl)
theorem dX9_seatFrom_109 : decode cX9_seatFrom 109 = .ok (.getfield 64, 3) := dk_180 0 64 (dk_at dksX9_seatFrom_4 14 rfl rfl)
theorem dX9_seatFrom_112 : decode cX9_seatFrom 112 = .ok (.iload_n 1, 1) := dk_27 (dk_at dksX9_seatFrom_4 17 rfl rfl)
theorem dX9_seatFrom_113 : decode cX9_seatFrom 113 = .ok (.iconst 1, 1) := dk_4 (dk_at dksX9_seatFrom_4 18 rfl rfl)
theorem dX9_seatFrom_114 : decode cX9_seatFrom 114 = .ok (.isub, 1) := dk_100 (dk_at dksX9_seatFrom_4 19 rfl rfl)
theorem dX9_seatFrom_115 : decode cX9_seatFrom 115 = .ok (.iaload, 1) := dk_46 (dk_at dksX9_seatFrom_4 20 rfl rfl)
theorem dX9_seatFrom_116 : decode cX9_seatFrom 116 = .ok (.if_icmp .ne 9, 3) := dk_160 0 9 (dk_at dksX9_seatFrom_4 21 rfl rfl)
theorem dX9_seatFrom_119 : decode cX9_seatFrom 119 = .ok (.iload_n 3, 1) := dk_29 (dk_at dksX9_seatFrom_5 0 rfl rfl)
theorem dX9_seatFrom_120 : decode cX9_seatFrom 120 = .ok (.iconst 1, 1) := dk_4 (dk_at dksX9_seatFrom_5 1 rfl rfl)
theorem dX9_seatFrom_121 : decode cX9_seatFrom 121 = .ok (.iadd, 1) := dk_96 (dk_at dksX9_seatFrom_5 2 rfl rfl)
theorem dX9_seatFrom_122 : decode cX9_seatFrom 122 = .ok (.goto 4, 3) := dk_167 0 4 (dk_at dksX9_seatFrom_5 3 rfl rfl)
theorem dX9_seatFrom_125 : decode cX9_seatFrom 125 = .ok (.iload_n 3, 1) := dk_29 (dk_at dksX9_seatFrom_5 6 rfl rfl)
theorem dX9_seatFrom_126 : decode cX9_seatFrom 126 = .ok (.invokevirtual 323, 3) := dk_182 1 67 (dk_at dksX9_seatFrom_5 7 rfl rfl)
theorem dX9_seatFrom_129 : decode cX9_seatFrom 129 = .ok (.iinc 4 1, 3) := dk_132 4 1 (dk_at dksX9_seatFrom_5 10 rfl rfl)
theorem dX9_seatFrom_132 : decode cX9_seatFrom 132 = .ok (.goto (-81), 3) := dk_167 255 175 (dk_at dksX9_seatFrom_5 13 rfl rfl)
theorem dX9_seatFrom_135 : decode cX9_seatFrom 135 = .ok (.return_, 1) := dk_177 (dk_at dksX9_seatFrom_5 16 rfl rfl)
abbrev cX9_seatAt : ByteArray := prog_25_method_85_code
def yX9_seatAt : MethodName := ⟨RX9, "seatAt", "(I)I"⟩
def dkwX9_seatAt_1 : List UInt8 := [46, 167, 0, 4, 2, 172]
abbrev dktX9_seatAt_1 : List UInt8 := dkwX9_seatAt_1 ++ []
def dkwX9_seatAt_0 : List UInt8 := [42, 3, 181, 0, 82, 27, 3, 42, 180, 1, 70, 4, 100, 184, 0, 149, 153, 0, 12, 42, 180, 0, 67, 27]
abbrev dktX9_seatAt_0 : List UInt8 := dkwX9_seatAt_0 ++ dktX9_seatAt_1
theorem dksX9_seatAt_0 : cX9_seatAt.data.toList.drop 0 = dktX9_seatAt_0 := by decide +kernel
theorem dksX9_seatAt_1 : cX9_seatAt.data.toList.drop 24 = dktX9_seatAt_1 := dk_seg dksX9_seatAt_0 24 rfl rfl
theorem dX9_seatAt_0 : decode cX9_seatAt 0 = .ok (.aload_n 0, 1) := dk_42 (dk_at dksX9_seatAt_0 0 rfl rfl)
theorem dX9_seatAt_1 : decode cX9_seatAt 1 = .ok (.iconst 0, 1) := dk_3 (dk_at dksX9_seatAt_0 1 rfl rfl)
theorem dX9_seatAt_2 : decode cX9_seatAt 2 = .ok (.putfield 82, 3) := dk_181 0 82 (dk_at dksX9_seatAt_0 2 rfl rfl)
theorem dX9_seatAt_5 : decode cX9_seatAt 5 = .ok (.iload_n 1, 1) := dk_27 (dk_at dksX9_seatAt_0 5 rfl rfl)
theorem dX9_seatAt_6 : decode cX9_seatAt 6 = .ok (.iconst 0, 1) := dk_3 (dk_at dksX9_seatAt_0 6 rfl rfl)
theorem dX9_seatAt_7 : decode cX9_seatAt 7 = .ok (.aload_n 0, 1) := dk_42 (dk_at dksX9_seatAt_0 7 rfl rfl)
theorem dX9_seatAt_8 : decode cX9_seatAt 8 = .ok (.getfield 326, 3) := dk_180 1 70 (dk_at dksX9_seatAt_0 8 rfl rfl)
theorem dX9_seatAt_11 : decode cX9_seatAt 11 = .ok (.iconst 1, 1) := dk_4 (dk_at dksX9_seatAt_0 11 rfl rfl)
theorem dX9_seatAt_12 : decode cX9_seatAt 12 = .ok (.isub, 1) := dk_100 (dk_at dksX9_seatAt_0 12 rfl rfl)
theorem dX9_seatAt_13 : decode cX9_seatAt 13 = .ok (.invokestatic 149, 3) := dk_184 0 149 (dk_at dksX9_seatAt_0 13 rfl rfl)
theorem dX9_seatAt_16 : decode cX9_seatAt 16 = .ok (.ifCond .eq 12, 3) := dk_153 0 12 (dk_at dksX9_seatAt_0 16 rfl rfl)
theorem dX9_seatAt_19 : decode cX9_seatAt 19 = .ok (.aload_n 0, 1) := dk_42 (dk_at dksX9_seatAt_0 19 rfl rfl)
theorem dX9_seatAt_20 : decode cX9_seatAt 20 = .ok (.getfield 67, 3) := dk_180 0 67 (dk_at dksX9_seatAt_0 20 rfl rfl)
theorem dX9_seatAt_23 : decode cX9_seatAt 23 = .ok (.iload_n 1, 1) := dk_27 (dk_at dksX9_seatAt_0 23 rfl rfl)
theorem dX9_seatAt_24 : decode cX9_seatAt 24 = .ok (.iaload, 1) := dk_46 (dk_at dksX9_seatAt_1 0 rfl rfl)
theorem dX9_seatAt_25 : decode cX9_seatAt 25 = .ok (.goto 4, 3) := dk_167 0 4 (dk_at dksX9_seatAt_1 1 rfl rfl)
theorem dX9_seatAt_28 : decode cX9_seatAt 28 = .ok (.iconst (-1), 1) := dk_2 (dk_at dksX9_seatAt_1 4 rfl rfl)
theorem dX9_seatAt_29 : decode cX9_seatAt 29 = .ok (.ireturn, 1) := dk_172 (dk_at dksX9_seatAt_1 5 rfl rfl)
abbrev cX9_left : ByteArray := prog_25_method_88_code
def yX9_left : MethodName := ⟨RX9, "left", "(I)I"⟩
def dkwX9_left_4 : List UInt8 := [3, 3, 182, 1, 29, 132, 3, 1, 167, 255, 222, 42, 27, 182, 0, 247, 62, 42, 182, 1, 76, 29, 172]
abbrev dktX9_left_4 : List UInt8 := dkwX9_left_4 ++ []
def dkwX9_left_3 : List UInt8 := [162, 0, 35, 42, 42, 180, 0, 7, 29, 46, 182, 0, 244, 154, 0, 16, 42, 8, 42, 180, 0, 7, 29, 46]
abbrev dktX9_left_3 : List UInt8 := dkwX9_left_3 ++ dktX9_left_4
def dkwX9_left_2 : List UInt8 := [182, 0, 238, 154, 0, 5, 2, 172, 132, 3, 1, 167, 255, 233, 42, 182, 1, 73, 3, 62, 29, 28]
abbrev dktX9_left_2 : List UInt8 := dkwX9_left_2 ++ dktX9_left_3
def dkwX9_left_1 : List UInt8 := [184, 0, 149, 154, 0, 5, 2, 172, 3, 62, 29, 28, 162, 0, 24, 42, 42, 180, 0, 7, 29, 46]
abbrev dktX9_left_1 : List UInt8 := dkwX9_left_1 ++ dktX9_left_2
def dkwX9_left_0 : List UInt8 := [42, 3, 181, 0, 82, 42, 182, 0, 162, 61, 42, 27, 182, 0, 238, 153, 0, 13, 28, 4, 16, 7]
abbrev dktX9_left_0 : List UInt8 := dkwX9_left_0 ++ dktX9_left_1
theorem dksX9_left_0 : cX9_left.data.toList.drop 0 = dktX9_left_0 := by decide +kernel
theorem dksX9_left_1 : cX9_left.data.toList.drop 22 = dktX9_left_1 := dk_seg dksX9_left_0 22 rfl rfl
theorem dksX9_left_2 : cX9_left.data.toList.drop 44 = dktX9_left_2 := dk_seg dksX9_left_1 22 rfl rfl
theorem dksX9_left_3 : cX9_left.data.toList.drop 66 = dktX9_left_3 := dk_seg dksX9_left_2 22 rfl rfl
theorem dksX9_left_4 : cX9_left.data.toList.drop 90 = dktX9_left_4 := dk_seg dksX9_left_3 24 rfl rfl
theorem dX9_left_0 : decode cX9_left 0 = .ok (.aload_n 0, 1) := dk_42 (dk_at dksX9_left_0 0 rfl rfl)
theorem dX9_left_1 : decode cX9_left 1 = .ok (.iconst 0, 1) := dk_3 (dk_at dksX9_left_0 1 rfl rfl)
theorem dX9_left_2 : decode cX9_left 2 = .ok (.putfield 82, 3) := dk_181 0 82 (dk_at dksX9_left_0 2 rfl rfl)
theorem dX9_left_5 : decode cX9_left 5 = .ok (.aload_n 0, 1) := dk_42 (dk_at dksX9_left_0 5 rfl rfl)
theorem dX9_left_6 : decode cX9_left 6 = .ok (.invokevirtual 162, 3) := dk_182 0 162 (dk_at dksX9_left_0 6 rfl rfl)
theorem dX9_left_9 : decode cX9_left 9 = .ok (.istore_n 2, 1) := dk_61 (dk_at dksX9_left_0 9 rfl rfl)
theorem dX9_left_10 : decode cX9_left 10 = .ok (.aload_n 0, 1) := dk_42 (dk_at dksX9_left_0 10 rfl rfl)
theorem dX9_left_11 : decode cX9_left 11 = .ok (.iload_n 1, 1) := dk_27 (dk_at dksX9_left_0 11 rfl rfl)
theorem dX9_left_12 : decode cX9_left 12 = .ok (.invokevirtual 238, 3) := dk_182 0 238 (dk_at dksX9_left_0 12 rfl rfl)
theorem dX9_left_15 : decode cX9_left 15 = .ok (.ifCond .eq 13, 3) := dk_153 0 13 (dk_at dksX9_left_0 15 rfl rfl)
theorem dX9_left_18 : decode cX9_left 18 = .ok (.iload_n 2, 1) := dk_28 (dk_at dksX9_left_0 18 rfl rfl)
theorem dX9_left_19 : decode cX9_left 19 = .ok (.iconst 1, 1) := dk_4 (dk_at dksX9_left_0 19 rfl rfl)
theorem dX9_left_20 : decode cX9_left 20 = .ok (.bipush 7, 2) := dk_16 7 (dk_at dksX9_left_0 20 rfl rfl)
theorem dX9_left_22 : decode cX9_left 22 = .ok (.invokestatic 149, 3) := dk_184 0 149 (dk_at dksX9_left_1 0 rfl rfl)
theorem dX9_left_25 : decode cX9_left 25 = .ok (.ifCond .ne 5, 3) := dk_154 0 5 (dk_at dksX9_left_1 3 rfl rfl)
theorem dX9_left_28 : decode cX9_left 28 = .ok (.iconst (-1), 1) := dk_2 (dk_at dksX9_left_1 6 rfl rfl)
theorem dX9_left_29 : decode cX9_left 29 = .ok (.ireturn, 1) := dk_172 (dk_at dksX9_left_1 7 rfl rfl)
theorem dX9_left_30 : decode cX9_left 30 = .ok (.iconst 0, 1) := dk_3 (dk_at dksX9_left_1 8 rfl rfl)
theorem dX9_left_31 : decode cX9_left 31 = .ok (.istore_n 3, 1) := dk_62 (dk_at dksX9_left_1 9 rfl rfl)
theorem dX9_left_32 : decode cX9_left 32 = .ok (.iload_n 3, 1) := dk_29 (dk_at dksX9_left_1 10 rfl rfl)
theorem dX9_left_33 : decode cX9_left 33 = .ok (.iload_n 2, 1) := dk_28 (dk_at dksX9_left_1 11 rfl rfl)
theorem dX9_left_34 : decode cX9_left 34 = .ok (.if_icmp .ge 24, 3) := dk_162 0 24 (dk_at dksX9_left_1 12 rfl rfl)
theorem dX9_left_37 : decode cX9_left 37 = .ok (.aload_n 0, 1) := dk_42 (dk_at dksX9_left_1 15 rfl rfl)
theorem dX9_left_38 : decode cX9_left 38 = .ok (.aload_n 0, 1) := dk_42 (dk_at dksX9_left_1 16 rfl rfl)
theorem dX9_left_39 : decode cX9_left 39 = .ok (.getfield 7, 3) := dk_180 0 7 (dk_at dksX9_left_1 17 rfl rfl)
theorem dX9_left_42 : decode cX9_left 42 = .ok (.iload_n 3, 1) := dk_29 (dk_at dksX9_left_1 20 rfl rfl)
theorem dX9_left_43 : decode cX9_left 43 = .ok (.iaload, 1) := dk_46 (dk_at dksX9_left_1 21 rfl rfl)
theorem dX9_left_44 : decode cX9_left 44 = .ok (.invokevirtual 238, 3) := dk_182 0 238 (dk_at dksX9_left_2 0 rfl rfl)
theorem dX9_left_47 : decode cX9_left 47 = .ok (.ifCond .ne 5, 3) := dk_154 0 5 (dk_at dksX9_left_2 3 rfl rfl)
theorem dX9_left_50 : decode cX9_left 50 = .ok (.iconst (-1), 1) := dk_2 (dk_at dksX9_left_2 6 rfl rfl)
theorem dX9_left_51 : decode cX9_left 51 = .ok (.ireturn, 1) := dk_172 (dk_at dksX9_left_2 7 rfl rfl)
theorem dX9_left_52 : decode cX9_left 52 = .ok (.iinc 3 1, 3) := dk_132 3 1 (dk_at dksX9_left_2 8 rfl rfl)
theorem dX9_left_55 : decode cX9_left 55 = .ok (.goto (-23), 3) := dk_167 255 233 (dk_at dksX9_left_2 11 rfl rfl)
theorem dX9_left_58 : decode cX9_left 58 = .ok (.aload_n 0, 1) := dk_42 (dk_at dksX9_left_2 14 rfl rfl)
theorem dX9_left_59 : decode cX9_left 59 = .ok (.invokevirtual 329, 3) := dk_182 1 73 (dk_at dksX9_left_2 15 rfl rfl)
theorem dX9_left_62 : decode cX9_left 62 = .ok (.iconst 0, 1) := dk_3 (dk_at dksX9_left_2 18 rfl rfl)
theorem dX9_left_63 : decode cX9_left 63 = .ok (.istore_n 3, 1) := dk_62 (dk_at dksX9_left_2 19 rfl rfl)
theorem dX9_left_64 : decode cX9_left 64 = .ok (.iload_n 3, 1) := dk_29 (dk_at dksX9_left_2 20 rfl rfl)
theorem dX9_left_65 : decode cX9_left 65 = .ok (.iload_n 2, 1) := dk_28 (dk_at dksX9_left_2 21 rfl rfl)
theorem dX9_left_66 : decode cX9_left 66 = .ok (.if_icmp .ge 35, 3) := dk_162 0 35 (dk_at dksX9_left_3 0 rfl rfl)
theorem dX9_left_69 : decode cX9_left 69 = .ok (.aload_n 0, 1) := dk_42 (dk_at dksX9_left_3 3 rfl rfl)
theorem dX9_left_70 : decode cX9_left 70 = .ok (.aload_n 0, 1) := dk_42 (dk_at dksX9_left_3 4 rfl rfl)
theorem dX9_left_71 : decode cX9_left 71 = .ok (.getfield 7, 3) := dk_180 0 7 (dk_at dksX9_left_3 5 rfl rfl)
theorem dX9_left_74 : decode cX9_left 74 = .ok (.iload_n 3, 1) := dk_29 (dk_at dksX9_left_3 8 rfl rfl)
theorem dX9_left_75 : decode cX9_left 75 = .ok (.iaload, 1) := dk_46 (dk_at dksX9_left_3 9 rfl rfl)
theorem dX9_left_76 : decode cX9_left 76 = .ok (.invokevirtual 244, 3) := dk_182 0 244 (dk_at dksX9_left_3 10 rfl rfl)
theorem dX9_left_79 : decode cX9_left 79 = .ok (.ifCond .ne 16, 3) := dk_154 0 16 (dk_at dksX9_left_3 13 rfl rfl)
theorem dX9_left_82 : decode cX9_left 82 = .ok (.aload_n 0, 1) := dk_42 (dk_at dksX9_left_3 16 rfl rfl)
theorem dX9_left_83 : decode cX9_left 83 = .ok (.iconst 5, 1) := dk_8 (dk_at dksX9_left_3 17 rfl rfl)
theorem dX9_left_84 : decode cX9_left 84 = .ok (.aload_n 0, 1) := dk_42 (dk_at dksX9_left_3 18 rfl rfl)
theorem dX9_left_85 : decode cX9_left 85 = .ok (.getfield 7, 3) := dk_180 0 7 (dk_at dksX9_left_3 19 rfl rfl)
theorem dX9_left_88 : decode cX9_left 88 = .ok (.iload_n 3, 1) := dk_29 (dk_at dksX9_left_3 22 rfl rfl)
theorem dX9_left_89 : decode cX9_left 89 = .ok (.iaload, 1) := dk_46 (dk_at dksX9_left_3 23 rfl rfl)
theorem dX9_left_90 : decode cX9_left 90 = .ok (.iconst 0, 1) := dk_3 (dk_at dksX9_left_4 0 rfl rfl)
theorem dX9_left_91 : decode cX9_left 91 = .ok (.iconst 0, 1) := dk_3 (dk_at dksX9_left_4 1 rfl rfl)
theorem dX9_left_92 : decode cX9_left 92 = .ok (.invokevirtual 285, 3) := dk_182 1 29 (dk_at dksX9_left_4 2 rfl rfl)
theorem dX9_left_95 : decode cX9_left 95 = .ok (.iinc 3 1, 3) := dk_132 3 1 (dk_at dksX9_left_4 5 rfl rfl)
theorem dX9_left_98 : decode cX9_left 98 = .ok (.goto (-34), 3) := dk_167 255 222 (dk_at dksX9_left_4 8 rfl rfl)
theorem dX9_left_101 : decode cX9_left 101 = .ok (.aload_n 0, 1) := dk_42 (dk_at dksX9_left_4 11 rfl rfl)
theorem dX9_left_102 : decode cX9_left 102 = .ok (.iload_n 1, 1) := dk_27 (dk_at dksX9_left_4 12 rfl rfl)
theorem dX9_left_103 : decode cX9_left 103 = .ok (.invokevirtual 247, 3) := dk_182 0 247 (dk_at dksX9_left_4 13 rfl rfl)
theorem dX9_left_106 : decode cX9_left 106 = .ok (.istore_n 3, 1) := dk_62 (dk_at dksX9_left_4 16 rfl rfl)
theorem dX9_left_107 : decode cX9_left 107 = .ok (.aload_n 0, 1) := dk_42 (dk_at dksX9_left_4 17 rfl rfl)
theorem dX9_left_108 : decode cX9_left 108 = .ok (.invokevirtual 332, 3) := dk_182 1 76 (dk_at dksX9_left_4 18 rfl rfl)
theorem dX9_left_111 : decode cX9_left 111 = .ok (.iload_n 3, 1) := dk_29 (dk_at dksX9_left_4 21 rfl rfl)
theorem dX9_left_112 : decode cX9_left 112 = .ok (.ireturn, 1) := dk_172 (dk_at dksX9_left_4 22 rfl rfl)
abbrev cX9_layAside : ByteArray := prog_25_method_86_code
def yX9_layAside : MethodName := ⟨RX9, "layAside", "()V"⟩
def dkwX9_layAside_1 : List UInt8 := [132, 1, 1, 167, 255, 232, 177]
abbrev dktX9_layAside_1 : List UInt8 := dkwX9_layAside_1 ++ []
def dkwX9_layAside_0 : List UInt8 := [3, 60, 27, 16, 75, 162, 0, 24, 42, 180, 0, 25, 27, 42, 180, 0, 13, 16, 72, 27, 96, 46, 79]
abbrev dktX9_layAside_0 : List UInt8 := dkwX9_layAside_0 ++ dktX9_layAside_1
theorem dksX9_layAside_0 : cX9_layAside.data.toList.drop 0 = dktX9_layAside_0 := by decide +kernel
theorem dksX9_layAside_1 : cX9_layAside.data.toList.drop 23 = dktX9_layAside_1 := dk_seg dksX9_layAside_0 23 rfl rfl
theorem dX9_layAside_0 : decode cX9_layAside 0 = .ok (.iconst 0, 1) := dk_3 (dk_at dksX9_layAside_0 0 rfl rfl)
theorem dX9_layAside_1 : decode cX9_layAside 1 = .ok (.istore_n 1, 1) := dk_60 (dk_at dksX9_layAside_0 1 rfl rfl)
theorem dX9_layAside_2 : decode cX9_layAside 2 = .ok (.iload_n 1, 1) := dk_27 (dk_at dksX9_layAside_0 2 rfl rfl)
theorem dX9_layAside_3 : decode cX9_layAside 3 = .ok (.bipush 75, 2) := dk_16 75 (dk_at dksX9_layAside_0 3 rfl rfl)
theorem dX9_layAside_5 : decode cX9_layAside 5 = .ok (.if_icmp .ge 24, 3) := dk_162 0 24 (dk_at dksX9_layAside_0 5 rfl rfl)
theorem dX9_layAside_8 : decode cX9_layAside 8 = .ok (.aload_n 0, 1) := dk_42 (dk_at dksX9_layAside_0 8 rfl rfl)
theorem dX9_layAside_9 : decode cX9_layAside 9 = .ok (.getfield 25, 3) := dk_180 0 25 (dk_at dksX9_layAside_0 9 rfl rfl)
theorem dX9_layAside_12 : decode cX9_layAside 12 = .ok (.iload_n 1, 1) := dk_27 (dk_at dksX9_layAside_0 12 rfl rfl)
theorem dX9_layAside_13 : decode cX9_layAside 13 = .ok (.aload_n 0, 1) := dk_42 (dk_at dksX9_layAside_0 13 rfl rfl)
theorem dX9_layAside_14 : decode cX9_layAside 14 = .ok (.getfield 13, 3) := dk_180 0 13 (dk_at dksX9_layAside_0 14 rfl rfl)
theorem dX9_layAside_17 : decode cX9_layAside 17 = .ok (.bipush 72, 2) := dk_16 72 (dk_at dksX9_layAside_0 17 rfl rfl)
theorem dX9_layAside_19 : decode cX9_layAside 19 = .ok (.iload_n 1, 1) := dk_27 (dk_at dksX9_layAside_0 19 rfl rfl)
theorem dX9_layAside_20 : decode cX9_layAside 20 = .ok (.iadd, 1) := dk_96 (dk_at dksX9_layAside_0 20 rfl rfl)
theorem dX9_layAside_21 : decode cX9_layAside 21 = .ok (.iaload, 1) := dk_46 (dk_at dksX9_layAside_0 21 rfl rfl)
theorem dX9_layAside_22 : decode cX9_layAside 22 = .ok (.iastore, 1) := dk_79 (dk_at dksX9_layAside_0 22 rfl rfl)
theorem dX9_layAside_23 : decode cX9_layAside 23 = .ok (.iinc 1 1, 3) := dk_132 1 1 (dk_at dksX9_layAside_1 0 rfl rfl)
theorem dX9_layAside_26 : decode cX9_layAside 26 = .ok (.goto (-24), 3) := dk_167 255 232 (dk_at dksX9_layAside_1 3 rfl rfl)
theorem dX9_layAside_29 : decode cX9_layAside 29 = .ok (.return_, 1) := dk_177 (dk_at dksX9_layAside_1 6 rfl rfl)
abbrev cX9_takeBack : ByteArray := prog_25_method_87_code
def yX9_takeBack : MethodName := ⟨RX9, "takeBack", "()V"⟩
def dkwX9_takeBack_1 : List UInt8 := [132, 1, 1, 167, 255, 232, 177]
abbrev dktX9_takeBack_1 : List UInt8 := dkwX9_takeBack_1 ++ []
def dkwX9_takeBack_0 : List UInt8 := [3, 60, 27, 16, 75, 162, 0, 24, 42, 180, 0, 13, 16, 72, 27, 96, 42, 180, 0, 25, 27, 46, 79]
abbrev dktX9_takeBack_0 : List UInt8 := dkwX9_takeBack_0 ++ dktX9_takeBack_1
theorem dksX9_takeBack_0 : cX9_takeBack.data.toList.drop 0 = dktX9_takeBack_0 := by decide +kernel
theorem dksX9_takeBack_1 : cX9_takeBack.data.toList.drop 23 = dktX9_takeBack_1 := dk_seg dksX9_takeBack_0 23 rfl rfl
theorem dX9_takeBack_0 : decode cX9_takeBack 0 = .ok (.iconst 0, 1) := dk_3 (dk_at dksX9_takeBack_0 0 rfl rfl)
theorem dX9_takeBack_1 : decode cX9_takeBack 1 = .ok (.istore_n 1, 1) := dk_60 (dk_at dksX9_takeBack_0 1 rfl rfl)
theorem dX9_takeBack_2 : decode cX9_takeBack 2 = .ok (.iload_n 1, 1) := dk_27 (dk_at dksX9_takeBack_0 2 rfl rfl)
theorem dX9_takeBack_3 : decode cX9_takeBack 3 = .ok (.bipush 75, 2) := dk_16 75 (dk_at dksX9_takeBack_0 3 rfl rfl)
theorem dX9_takeBack_5 : decode cX9_takeBack 5 = .ok (.if_icmp .ge 24, 3) := dk_162 0 24 (dk_at dksX9_takeBack_0 5 rfl rfl)
theorem dX9_takeBack_8 : decode cX9_takeBack 8 = .ok (.aload_n 0, 1) := dk_42 (dk_at dksX9_takeBack_0 8 rfl rfl)
theorem dX9_takeBack_9 : decode cX9_takeBack 9 = .ok (.getfield 13, 3) := dk_180 0 13 (dk_at dksX9_takeBack_0 9 rfl rfl)
theorem dX9_takeBack_12 : decode cX9_takeBack 12 = .ok (.bipush 72, 2) := dk_16 72 (dk_at dksX9_takeBack_0 12 rfl rfl)
theorem dX9_takeBack_14 : decode cX9_takeBack 14 = .ok (.iload_n 1, 1) := dk_27 (dk_at dksX9_takeBack_0 14 rfl rfl)
theorem dX9_takeBack_15 : decode cX9_takeBack 15 = .ok (.iadd, 1) := dk_96 (dk_at dksX9_takeBack_0 15 rfl rfl)
theorem dX9_takeBack_16 : decode cX9_takeBack 16 = .ok (.aload_n 0, 1) := dk_42 (dk_at dksX9_takeBack_0 16 rfl rfl)
theorem dX9_takeBack_17 : decode cX9_takeBack 17 = .ok (.getfield 25, 3) := dk_180 0 25 (dk_at dksX9_takeBack_0 17 rfl rfl)
theorem dX9_takeBack_20 : decode cX9_takeBack 20 = .ok (.iload_n 1, 1) := dk_27 (dk_at dksX9_takeBack_0 20 rfl rfl)
theorem dX9_takeBack_21 : decode cX9_takeBack 21 = .ok (.iaload, 1) := dk_46 (dk_at dksX9_takeBack_0 21 rfl rfl)
theorem dX9_takeBack_22 : decode cX9_takeBack 22 = .ok (.iastore, 1) := dk_79 (dk_at dksX9_takeBack_0 22 rfl rfl)
theorem dX9_takeBack_23 : decode cX9_takeBack 23 = .ok (.iinc 1 1, 3) := dk_132 1 1 (dk_at dksX9_takeBack_1 0 rfl rfl)
theorem dX9_takeBack_26 : decode cX9_takeBack 26 = .ok (.goto (-24), 3) := dk_167 255 232 (dk_at dksX9_takeBack_1 3 rfl rfl)
theorem dX9_takeBack_29 : decode cX9_takeBack 29 = .ok (.return_, 1) := dk_177 (dk_at dksX9_takeBack_1 6 rfl rfl)
abbrev cX9_kin : ByteArray := prog_25_method_89_code
def yX9_kin : MethodName := ⟨RX9, "kin", "(II)I"⟩
def dkwX9_kin_5 : List UInt8 := [128, 54, 5, 132, 6, 1, 167, 255, 185, 21, 5, 62, 132, 4, 1, 167, 255, 152, 2, 172]
abbrev dktX9_kin_5 : List UInt8 := dkwX9_kin_5 ++ []
def dkwX9_kin_4 : List UInt8 := [21, 5, 4, 21, 7, 120, 128, 54, 5, 29, 21, 7, 184, 0, 231, 153, 0, 12, 21, 5, 4, 21, 6, 120]
abbrev dktX9_kin_4 : List UInt8 := dkwX9_kin_4 ++ dktX9_kin_5
def dkwX9_kin_3 : List UInt8 := [21, 6, 96, 46, 54, 7, 21, 7, 2, 160, 0, 6, 167, 0, 39, 29, 21, 6, 184, 0, 231, 153, 0, 12]
abbrev dktX9_kin_3 : List UInt8 := dkwX9_kin_3 ++ dktX9_kin_4
def dkwX9_kin_2 : List UInt8 := [29, 54, 5, 3, 54, 6, 21, 6, 42, 180, 0, 13, 3, 46, 162, 0, 66, 42, 180, 0, 13, 16, 11]
abbrev dktX9_kin_2 : List UInt8 := dkwX9_kin_2 ++ dktX9_kin_3
def dkwX9_kin_1 : List UInt8 := [27, 120, 62, 3, 54, 4, 21, 4, 16, 7, 162, 0, 103, 29, 28, 184, 0, 231, 153, 0, 6, 21, 4, 172]
abbrev dktX9_kin_1 : List UInt8 := dkwX9_kin_1 ++ dktX9_kin_2
def dkwX9_kin_0 : List UInt8 := [42, 3, 181, 0, 82, 42, 27, 182, 0, 238, 153, 0, 11, 42, 28, 182, 0, 238, 154, 0, 5, 2, 172, 4]
abbrev dktX9_kin_0 : List UInt8 := dkwX9_kin_0 ++ dktX9_kin_1
theorem dksX9_kin_0 : cX9_kin.data.toList.drop 0 = dktX9_kin_0 := by decide +kernel
theorem dksX9_kin_1 : cX9_kin.data.toList.drop 24 = dktX9_kin_1 := dk_seg dksX9_kin_0 24 rfl rfl
theorem dksX9_kin_2 : cX9_kin.data.toList.drop 48 = dktX9_kin_2 := dk_seg dksX9_kin_1 24 rfl rfl
theorem dksX9_kin_3 : cX9_kin.data.toList.drop 71 = dktX9_kin_3 := dk_seg dksX9_kin_2 23 rfl rfl
theorem dksX9_kin_4 : cX9_kin.data.toList.drop 95 = dktX9_kin_4 := dk_seg dksX9_kin_3 24 rfl rfl
theorem dksX9_kin_5 : cX9_kin.data.toList.drop 119 = dktX9_kin_5 := dk_seg dksX9_kin_4 24 rfl rfl
theorem dX9_kin_0 : decode cX9_kin 0 = .ok (.aload_n 0, 1) := dk_42 (dk_at dksX9_kin_0 0 rfl rfl)
theorem dX9_kin_1 : decode cX9_kin 1 = .ok (.iconst 0, 1) := dk_3 (dk_at dksX9_kin_0 1 rfl rfl)
theorem dX9_kin_2 : decode cX9_kin 2 = .ok (.putfield 82, 3) := dk_181 0 82 (dk_at dksX9_kin_0 2 rfl rfl)
theorem dX9_kin_5 : decode cX9_kin 5 = .ok (.aload_n 0, 1) := dk_42 (dk_at dksX9_kin_0 5 rfl rfl)
theorem dX9_kin_6 : decode cX9_kin 6 = .ok (.iload_n 1, 1) := dk_27 (dk_at dksX9_kin_0 6 rfl rfl)
theorem dX9_kin_7 : decode cX9_kin 7 = .ok (.invokevirtual 238, 3) := dk_182 0 238 (dk_at dksX9_kin_0 7 rfl rfl)
theorem dX9_kin_10 : decode cX9_kin 10 = .ok (.ifCond .eq 11, 3) := dk_153 0 11 (dk_at dksX9_kin_0 10 rfl rfl)
theorem dX9_kin_13 : decode cX9_kin 13 = .ok (.aload_n 0, 1) := dk_42 (dk_at dksX9_kin_0 13 rfl rfl)
theorem dX9_kin_14 : decode cX9_kin 14 = .ok (.iload_n 2, 1) := dk_28 (dk_at dksX9_kin_0 14 rfl rfl)
theorem dX9_kin_15 : decode cX9_kin 15 = .ok (.invokevirtual 238, 3) := dk_182 0 238 (dk_at dksX9_kin_0 15 rfl rfl)
theorem dX9_kin_18 : decode cX9_kin 18 = .ok (.ifCond .ne 5, 3) := dk_154 0 5 (dk_at dksX9_kin_0 18 rfl rfl)
theorem dX9_kin_21 : decode cX9_kin 21 = .ok (.iconst (-1), 1) := dk_2 (dk_at dksX9_kin_0 21 rfl rfl)
theorem dX9_kin_22 : decode cX9_kin 22 = .ok (.ireturn, 1) := dk_172 (dk_at dksX9_kin_0 22 rfl rfl)
theorem dX9_kin_23 : decode cX9_kin 23 = .ok (.iconst 1, 1) := dk_4 (dk_at dksX9_kin_0 23 rfl rfl)
theorem dX9_kin_24 : decode cX9_kin 24 = .ok (.iload_n 1, 1) := dk_27 (dk_at dksX9_kin_1 0 rfl rfl)
theorem dX9_kin_25 : decode cX9_kin 25 = .ok (.ishl, 1) := dk_120 (dk_at dksX9_kin_1 1 rfl rfl)
theorem dX9_kin_26 : decode cX9_kin 26 = .ok (.istore_n 3, 1) := dk_62 (dk_at dksX9_kin_1 2 rfl rfl)
theorem dX9_kin_27 : decode cX9_kin 27 = .ok (.iconst 0, 1) := dk_3 (dk_at dksX9_kin_1 3 rfl rfl)
theorem dX9_kin_28 : decode cX9_kin 28 = .ok (.istore 4, 2) := dk_54 4 (dk_at dksX9_kin_1 4 rfl rfl)
theorem dX9_kin_30 : decode cX9_kin 30 = .ok (.iload 4, 2) := dk_21 4 (dk_at dksX9_kin_1 6 rfl rfl)
theorem dX9_kin_32 : decode cX9_kin 32 = .ok (.bipush 7, 2) := dk_16 7 (dk_at dksX9_kin_1 8 rfl rfl)
theorem dX9_kin_34 : decode cX9_kin 34 = .ok (.if_icmp .ge 103, 3) := dk_162 0 103 (dk_at dksX9_kin_1 10 rfl rfl)
theorem dX9_kin_37 : decode cX9_kin 37 = .ok (.iload_n 3, 1) := dk_29 (dk_at dksX9_kin_1 13 rfl rfl)
theorem dX9_kin_38 : decode cX9_kin 38 = .ok (.iload_n 2, 1) := dk_28 (dk_at dksX9_kin_1 14 rfl rfl)
theorem dX9_kin_39 : decode cX9_kin 39 = .ok (.invokestatic 231, 3) := dk_184 0 231 (dk_at dksX9_kin_1 15 rfl rfl)
theorem dX9_kin_42 : decode cX9_kin 42 = .ok (.ifCond .eq 6, 3) := dk_153 0 6 (dk_at dksX9_kin_1 18 rfl rfl)
theorem dX9_kin_45 : decode cX9_kin 45 = .ok (.iload 4, 2) := dk_21 4 (dk_at dksX9_kin_1 21 rfl rfl)
theorem dX9_kin_47 : decode cX9_kin 47 = .ok (.ireturn, 1) := dk_172 (dk_at dksX9_kin_1 23 rfl rfl)
theorem dX9_kin_48 : decode cX9_kin 48 = .ok (.iload_n 3, 1) := dk_29 (dk_at dksX9_kin_2 0 rfl rfl)
theorem dX9_kin_49 : decode cX9_kin 49 = .ok (.istore 5, 2) := dk_54 5 (dk_at dksX9_kin_2 1 rfl rfl)
theorem dX9_kin_51 : decode cX9_kin 51 = .ok (.iconst 0, 1) := dk_3 (dk_at dksX9_kin_2 3 rfl rfl)
theorem dX9_kin_52 : decode cX9_kin 52 = .ok (.istore 6, 2) := dk_54 6 (dk_at dksX9_kin_2 4 rfl rfl)
theorem dX9_kin_54 : decode cX9_kin 54 = .ok (.iload 6, 2) := dk_21 6 (dk_at dksX9_kin_2 6 rfl rfl)
theorem dX9_kin_56 : decode cX9_kin 56 = .ok (.aload_n 0, 1) := dk_42 (dk_at dksX9_kin_2 8 rfl rfl)
theorem dX9_kin_57 : decode cX9_kin 57 = .ok (.getfield 13, 3) := dk_180 0 13 (dk_at dksX9_kin_2 9 rfl rfl)
theorem dX9_kin_60 : decode cX9_kin 60 = .ok (.iconst 0, 1) := dk_3 (dk_at dksX9_kin_2 12 rfl rfl)
theorem dX9_kin_61 : decode cX9_kin 61 = .ok (.iaload, 1) := dk_46 (dk_at dksX9_kin_2 13 rfl rfl)
theorem dX9_kin_62 : decode cX9_kin 62 = .ok (.if_icmp .ge 66, 3) := dk_162 0 66 (dk_at dksX9_kin_2 14 rfl rfl)
theorem dX9_kin_65 : decode cX9_kin 65 = .ok (.aload_n 0, 1) := dk_42 (dk_at dksX9_kin_2 17 rfl rfl)
theorem dX9_kin_66 : decode cX9_kin 66 = .ok (.getfield 13, 3) := dk_180 0 13 (dk_at dksX9_kin_2 18 rfl rfl)
theorem dX9_kin_69 : decode cX9_kin 69 = .ok (.bipush 11, 2) := dk_16 11 (dk_at dksX9_kin_2 21 rfl rfl)
theorem dX9_kin_71 : decode cX9_kin 71 = .ok (.iload 6, 2) := dk_21 6 (dk_at dksX9_kin_3 0 rfl rfl)
theorem dX9_kin_73 : decode cX9_kin 73 = .ok (.iadd, 1) := dk_96 (dk_at dksX9_kin_3 2 rfl rfl)
theorem dX9_kin_74 : decode cX9_kin 74 = .ok (.iaload, 1) := dk_46 (dk_at dksX9_kin_3 3 rfl rfl)
theorem dX9_kin_75 : decode cX9_kin 75 = .ok (.istore 7, 2) := dk_54 7 (dk_at dksX9_kin_3 4 rfl rfl)
theorem dX9_kin_77 : decode cX9_kin 77 = .ok (.iload 7, 2) := dk_21 7 (dk_at dksX9_kin_3 6 rfl rfl)
theorem dX9_kin_79 : decode cX9_kin 79 = .ok (.iconst (-1), 1) := dk_2 (dk_at dksX9_kin_3 8 rfl rfl)
theorem dX9_kin_80 : decode cX9_kin 80 = .ok (.if_icmp .ne 6, 3) := dk_160 0 6 (dk_at dksX9_kin_3 9 rfl rfl)
theorem dX9_kin_83 : decode cX9_kin 83 = .ok (.goto 39, 3) := dk_167 0 39 (dk_at dksX9_kin_3 12 rfl rfl)
theorem dX9_kin_86 : decode cX9_kin 86 = .ok (.iload_n 3, 1) := dk_29 (dk_at dksX9_kin_3 15 rfl rfl)
theorem dX9_kin_87 : decode cX9_kin 87 = .ok (.iload 6, 2) := dk_21 6 (dk_at dksX9_kin_3 16 rfl rfl)
theorem dX9_kin_89 : decode cX9_kin 89 = .ok (.invokestatic 231, 3) := dk_184 0 231 (dk_at dksX9_kin_3 18 rfl rfl)
theorem dX9_kin_92 : decode cX9_kin 92 = .ok (.ifCond .eq 12, 3) := dk_153 0 12 (dk_at dksX9_kin_3 21 rfl rfl)
theorem dX9_kin_95 : decode cX9_kin 95 = .ok (.iload 5, 2) := dk_21 5 (dk_at dksX9_kin_4 0 rfl rfl)
theorem dX9_kin_97 : decode cX9_kin 97 = .ok (.iconst 1, 1) := dk_4 (dk_at dksX9_kin_4 2 rfl rfl)
theorem dX9_kin_98 : decode cX9_kin 98 = .ok (.iload 7, 2) := dk_21 7 (dk_at dksX9_kin_4 3 rfl rfl)
theorem dX9_kin_100 : decode cX9_kin 100 = .ok (.ishl, 1) := dk_120 (dk_at dksX9_kin_4 5 rfl rfl)
theorem dX9_kin_101 : decode cX9_kin 101 = .ok (.ior, 1) := dk_128 (dk_at dksX9_kin_4 6 rfl rfl)
theorem dX9_kin_102 : decode cX9_kin 102 = .ok (.istore 5, 2) := dk_54 5 (dk_at dksX9_kin_4 7 rfl rfl)
theorem dX9_kin_104 : decode cX9_kin 104 = .ok (.iload_n 3, 1) := dk_29 (dk_at dksX9_kin_4 9 rfl rfl)
theorem dX9_kin_105 : decode cX9_kin 105 = .ok (.iload 7, 2) := dk_21 7 (dk_at dksX9_kin_4 10 rfl rfl)
theorem dX9_kin_107 : decode cX9_kin 107 = .ok (.invokestatic 231, 3) := dk_184 0 231 (dk_at dksX9_kin_4 12 rfl rfl)
theorem dX9_kin_110 : decode cX9_kin 110 = .ok (.ifCond .eq 12, 3) := dk_153 0 12 (dk_at dksX9_kin_4 15 rfl rfl)
theorem dX9_kin_113 : decode cX9_kin 113 = .ok (.iload 5, 2) := dk_21 5 (dk_at dksX9_kin_4 18 rfl rfl)
theorem dX9_kin_115 : decode cX9_kin 115 = .ok (.iconst 1, 1) := dk_4 (dk_at dksX9_kin_4 20 rfl rfl)
theorem dX9_kin_116 : decode cX9_kin 116 = .ok (.iload 6, 2) := dk_21 6 (dk_at dksX9_kin_4 21 rfl rfl)
theorem dX9_kin_118 : decode cX9_kin 118 = .ok (.ishl, 1) := dk_120 (dk_at dksX9_kin_4 23 rfl rfl)
theorem dX9_kin_119 : decode cX9_kin 119 = .ok (.ior, 1) := dk_128 (dk_at dksX9_kin_5 0 rfl rfl)
theorem dX9_kin_120 : decode cX9_kin 120 = .ok (.istore 5, 2) := dk_54 5 (dk_at dksX9_kin_5 1 rfl rfl)
theorem dX9_kin_122 : decode cX9_kin 122 = .ok (.iinc 6 1, 3) := dk_132 6 1 (dk_at dksX9_kin_5 3 rfl rfl)
theorem dX9_kin_125 : decode cX9_kin 125 = .ok (.goto (-71), 3) := dk_167 255 185 (dk_at dksX9_kin_5 6 rfl rfl)
theorem dX9_kin_128 : decode cX9_kin 128 = .ok (.iload 5, 2) := dk_21 5 (dk_at dksX9_kin_5 9 rfl rfl)
theorem dX9_kin_130 : decode cX9_kin 130 = .ok (.istore_n 3, 1) := dk_62 (dk_at dksX9_kin_5 11 rfl rfl)
theorem dX9_kin_131 : decode cX9_kin 131 = .ok (.iinc 4 1, 3) := dk_132 4 1 (dk_at dksX9_kin_5 12 rfl rfl)
theorem dX9_kin_134 : decode cX9_kin 134 = .ok (.goto (-104), 3) := dk_167 255 152 (dk_at dksX9_kin_5 15 rfl rfl)
theorem dX9_kin_137 : decode cX9_kin 137 = .ok (.iconst (-1), 1) := dk_2 (dk_at dksX9_kin_5 18 rfl rfl)
theorem dX9_kin_138 : decode cX9_kin 138 = .ok (.ireturn, 1) := dk_172 (dk_at dksX9_kin_5 19 rfl rfl)
abbrev cX9_hungriest : ByteArray := prog_25_method_90_code
def yX9_hungriest : MethodName := ⟨RX9, "hungriest", "()I"⟩
def dkwX9_hungriest_2 : List UInt8 := [96, 46, 164, 0, 5, 28, 60, 132, 2, 1, 167, 255, 207, 27, 172]
abbrev dktX9_hungriest_2 : List UInt8 := dkwX9_hungriest_2 ++ []
def dkwX9_hungriest_1 : List UInt8 := [154, 0, 31, 27, 2, 159, 0, 24, 42, 180, 0, 13, 16, 98, 28, 96, 46, 42, 180, 0, 13, 16, 98, 27]
abbrev dktX9_hungriest_1 : List UInt8 := dkwX9_hungriest_1 ++ dktX9_hungriest_2
def dkwX9_hungriest_0 : List UInt8 := [42, 3, 181, 0, 82, 2, 60, 3, 61, 28, 42, 180, 0, 13, 3, 46, 162, 0, 45, 42, 28, 182, 0, 244]
abbrev dktX9_hungriest_0 : List UInt8 := dkwX9_hungriest_0 ++ dktX9_hungriest_1
theorem dksX9_hungriest_0 : cX9_hungriest.data.toList.drop 0 = dktX9_hungriest_0 := by decide +kernel
theorem dksX9_hungriest_1 : cX9_hungriest.data.toList.drop 24 = dktX9_hungriest_1 := dk_seg dksX9_hungriest_0 24 rfl rfl
theorem dksX9_hungriest_2 : cX9_hungriest.data.toList.drop 48 = dktX9_hungriest_2 := dk_seg dksX9_hungriest_1 24 rfl rfl
theorem dX9_hungriest_0 : decode cX9_hungriest 0 = .ok (.aload_n 0, 1) := dk_42 (dk_at dksX9_hungriest_0 0 rfl rfl)
theorem dX9_hungriest_1 : decode cX9_hungriest 1 = .ok (.iconst 0, 1) := dk_3 (dk_at dksX9_hungriest_0 1 rfl rfl)
theorem dX9_hungriest_2 : decode cX9_hungriest 2 = .ok (.putfield 82, 3) := dk_181 0 82 (dk_at dksX9_hungriest_0 2 rfl rfl)
theorem dX9_hungriest_5 : decode cX9_hungriest 5 = .ok (.iconst (-1), 1) := dk_2 (dk_at dksX9_hungriest_0 5 rfl rfl)
theorem dX9_hungriest_6 : decode cX9_hungriest 6 = .ok (.istore_n 1, 1) := dk_60 (dk_at dksX9_hungriest_0 6 rfl rfl)
theorem dX9_hungriest_7 : decode cX9_hungriest 7 = .ok (.iconst 0, 1) := dk_3 (dk_at dksX9_hungriest_0 7 rfl rfl)
theorem dX9_hungriest_8 : decode cX9_hungriest 8 = .ok (.istore_n 2, 1) := dk_61 (dk_at dksX9_hungriest_0 8 rfl rfl)
theorem dX9_hungriest_9 : decode cX9_hungriest 9 = .ok (.iload_n 2, 1) := dk_28 (dk_at dksX9_hungriest_0 9 rfl rfl)
theorem dX9_hungriest_10 : decode cX9_hungriest 10 = .ok (.aload_n 0, 1) := dk_42 (dk_at dksX9_hungriest_0 10 rfl rfl)
theorem dX9_hungriest_11 : decode cX9_hungriest 11 = .ok (.getfield 13, 3) := dk_180 0 13 (dk_at dksX9_hungriest_0 11 rfl rfl)
theorem dX9_hungriest_14 : decode cX9_hungriest 14 = .ok (.iconst 0, 1) := dk_3 (dk_at dksX9_hungriest_0 14 rfl rfl)
theorem dX9_hungriest_15 : decode cX9_hungriest 15 = .ok (.iaload, 1) := dk_46 (dk_at dksX9_hungriest_0 15 rfl rfl)
theorem dX9_hungriest_16 : decode cX9_hungriest 16 = .ok (.if_icmp .ge 45, 3) := dk_162 0 45 (dk_at dksX9_hungriest_0 16 rfl rfl)
theorem dX9_hungriest_19 : decode cX9_hungriest 19 = .ok (.aload_n 0, 1) := dk_42 (dk_at dksX9_hungriest_0 19 rfl rfl)
theorem dX9_hungriest_20 : decode cX9_hungriest 20 = .ok (.iload_n 2, 1) := dk_28 (dk_at dksX9_hungriest_0 20 rfl rfl)
theorem dX9_hungriest_21 : decode cX9_hungriest 21 = .ok (.invokevirtual 244, 3) := dk_182 0 244 (dk_at dksX9_hungriest_0 21 rfl rfl)
theorem dX9_hungriest_24 : decode cX9_hungriest 24 = .ok (.ifCond .ne 31, 3) := dk_154 0 31 (dk_at dksX9_hungriest_1 0 rfl rfl)
theorem dX9_hungriest_27 : decode cX9_hungriest 27 = .ok (.iload_n 1, 1) := dk_27 (dk_at dksX9_hungriest_1 3 rfl rfl)
theorem dX9_hungriest_28 : decode cX9_hungriest 28 = .ok (.iconst (-1), 1) := dk_2 (dk_at dksX9_hungriest_1 4 rfl rfl)
theorem dX9_hungriest_29 : decode cX9_hungriest 29 = .ok (.if_icmp .eq 24, 3) := dk_159 0 24 (dk_at dksX9_hungriest_1 5 rfl rfl)
theorem dX9_hungriest_32 : decode cX9_hungriest 32 = .ok (.aload_n 0, 1) := dk_42 (dk_at dksX9_hungriest_1 8 rfl rfl)
theorem dX9_hungriest_33 : decode cX9_hungriest 33 = .ok (.getfield 13, 3) := dk_180 0 13 (dk_at dksX9_hungriest_1 9 rfl rfl)
theorem dX9_hungriest_36 : decode cX9_hungriest 36 = .ok (.bipush 98, 2) := dk_16 98 (dk_at dksX9_hungriest_1 12 rfl rfl)
theorem dX9_hungriest_38 : decode cX9_hungriest 38 = .ok (.iload_n 2, 1) := dk_28 (dk_at dksX9_hungriest_1 14 rfl rfl)
theorem dX9_hungriest_39 : decode cX9_hungriest 39 = .ok (.iadd, 1) := dk_96 (dk_at dksX9_hungriest_1 15 rfl rfl)
theorem dX9_hungriest_40 : decode cX9_hungriest 40 = .ok (.iaload, 1) := dk_46 (dk_at dksX9_hungriest_1 16 rfl rfl)
theorem dX9_hungriest_41 : decode cX9_hungriest 41 = .ok (.aload_n 0, 1) := dk_42 (dk_at dksX9_hungriest_1 17 rfl rfl)
theorem dX9_hungriest_42 : decode cX9_hungriest 42 = .ok (.getfield 13, 3) := dk_180 0 13 (dk_at dksX9_hungriest_1 18 rfl rfl)
theorem dX9_hungriest_45 : decode cX9_hungriest 45 = .ok (.bipush 98, 2) := dk_16 98 (dk_at dksX9_hungriest_1 21 rfl rfl)
theorem dX9_hungriest_47 : decode cX9_hungriest 47 = .ok (.iload_n 1, 1) := dk_27 (dk_at dksX9_hungriest_1 23 rfl rfl)
theorem dX9_hungriest_48 : decode cX9_hungriest 48 = .ok (.iadd, 1) := dk_96 (dk_at dksX9_hungriest_2 0 rfl rfl)
theorem dX9_hungriest_49 : decode cX9_hungriest 49 = .ok (.iaload, 1) := dk_46 (dk_at dksX9_hungriest_2 1 rfl rfl)
theorem dX9_hungriest_50 : decode cX9_hungriest 50 = .ok (.if_icmp .le 5, 3) := dk_164 0 5 (dk_at dksX9_hungriest_2 2 rfl rfl)
theorem dX9_hungriest_53 : decode cX9_hungriest 53 = .ok (.iload_n 2, 1) := dk_28 (dk_at dksX9_hungriest_2 5 rfl rfl)
theorem dX9_hungriest_54 : decode cX9_hungriest 54 = .ok (.istore_n 1, 1) := dk_60 (dk_at dksX9_hungriest_2 6 rfl rfl)
theorem dX9_hungriest_55 : decode cX9_hungriest 55 = .ok (.iinc 2 1, 3) := dk_132 2 1 (dk_at dksX9_hungriest_2 7 rfl rfl)
theorem dX9_hungriest_58 : decode cX9_hungriest 58 = .ok (.goto (-49), 3) := dk_167 255 207 (dk_at dksX9_hungriest_2 10 rfl rfl)
theorem dX9_hungriest_61 : decode cX9_hungriest 61 = .ok (.iload_n 1, 1) := dk_27 (dk_at dksX9_hungriest_2 13 rfl rfl)
theorem dX9_hungriest_62 : decode cX9_hungriest 62 = .ok (.ireturn, 1) := dk_172 (dk_at dksX9_hungriest_2 14 rfl rfl)
abbrev cX9_will : ByteArray := prog_25_method_95_code
def yX9_will : MethodName := ⟨RX9, "will", "(I)I"⟩
def dkwX9_will_7 : List UInt8 := [172]
abbrev dktX9_will_7 : List UInt8 := dkwX9_will_7 ++ []
def dkwX9_will_6 : List UInt8 := [16, 100, 16, 121, 3, 184, 0, 132, 167, 0, 9, 42, 180, 0, 28, 28, 47, 182, 1, 92, 42, 180, 1, 79]
abbrev dktX9_will_6 : List UInt8 := dkwX9_will_6 ++ dktX9_will_7
def dkwX9_will_5 : List UInt8 := [42, 27, 42, 182, 1, 3, 182, 1, 6, 61, 42, 28, 2, 160, 0, 22, 16, 110, 16, 111, 16, 98, 16, 111]
abbrev dktX9_will_5 : List UInt8 := dkwX9_will_5 ++ dktX9_will_6
def dkwX9_will_4 : List UInt8 := [42, 27, 182, 0, 247, 182, 1, 89, 42, 16, 116, 16, 111, 3, 3, 3, 3, 3, 184, 0, 132, 182, 1, 92]
abbrev dktX9_will_4 : List UInt8 := dkwX9_will_4 ++ dktX9_will_5
def dkwX9_will_3 : List UInt8 := [16, 105, 16, 110, 16, 103, 184, 0, 132, 182, 1, 92, 42, 180, 1, 79, 172, 42, 16, 32, 182, 1, 86, 42]
abbrev dktX9_will_3 : List UInt8 := dkwX9_will_3 ++ dktX9_will_4
def dkwX9_will_2 : List UInt8 := [184, 0, 132, 182, 1, 92, 42, 27, 182, 0, 247, 154, 0, 29, 42, 16, 110, 16, 111, 16, 116, 16, 104]
abbrev dktX9_will_2 : List UInt8 := dkwX9_will_2 ++ dktX9_will_3
def dkwX9_will_1 : List UInt8 := [180, 0, 28, 27, 47, 182, 1, 82, 42, 16, 108, 16, 101, 16, 97, 16, 118, 16, 101, 16, 115, 3]
abbrev dktX9_will_1 : List UInt8 := dkwX9_will_1 ++ dktX9_will_2
def dkwX9_will_0 : List UInt8 := [42, 3, 181, 0, 82, 42, 27, 182, 0, 238, 154, 0, 5, 2, 172, 42, 3, 181, 1, 79, 42, 42]
abbrev dktX9_will_0 : List UInt8 := dkwX9_will_0 ++ dktX9_will_1
theorem dksX9_will_0 : cX9_will.data.toList.drop 0 = dktX9_will_0 := by decide +kernel
theorem dksX9_will_1 : cX9_will.data.toList.drop 22 = dktX9_will_1 := dk_seg dksX9_will_0 22 rfl rfl
theorem dksX9_will_2 : cX9_will.data.toList.drop 44 = dktX9_will_2 := dk_seg dksX9_will_1 22 rfl rfl
theorem dksX9_will_3 : cX9_will.data.toList.drop 67 = dktX9_will_3 := dk_seg dksX9_will_2 23 rfl rfl
theorem dksX9_will_4 : cX9_will.data.toList.drop 91 = dktX9_will_4 := dk_seg dksX9_will_3 24 rfl rfl
theorem dksX9_will_5 : cX9_will.data.toList.drop 115 = dktX9_will_5 := dk_seg dksX9_will_4 24 rfl rfl
theorem dksX9_will_6 : cX9_will.data.toList.drop 139 = dktX9_will_6 := dk_seg dksX9_will_5 24 rfl rfl
theorem dksX9_will_7 : cX9_will.data.toList.drop 163 = dktX9_will_7 := dk_seg dksX9_will_6 24 rfl rfl
theorem dX9_will_0 : decode cX9_will 0 = .ok (.aload_n 0, 1) := dk_42 (dk_at dksX9_will_0 0 rfl rfl)
theorem dX9_will_1 : decode cX9_will 1 = .ok (.iconst 0, 1) := dk_3 (dk_at dksX9_will_0 1 rfl rfl)
theorem dX9_will_2 : decode cX9_will 2 = .ok (.putfield 82, 3) := dk_181 0 82 (dk_at dksX9_will_0 2 rfl rfl)
theorem dX9_will_5 : decode cX9_will 5 = .ok (.aload_n 0, 1) := dk_42 (dk_at dksX9_will_0 5 rfl rfl)
theorem dX9_will_6 : decode cX9_will 6 = .ok (.iload_n 1, 1) := dk_27 (dk_at dksX9_will_0 6 rfl rfl)
theorem dX9_will_7 : decode cX9_will 7 = .ok (.invokevirtual 238, 3) := dk_182 0 238 (dk_at dksX9_will_0 7 rfl rfl)
theorem dX9_will_10 : decode cX9_will 10 = .ok (.ifCond .ne 5, 3) := dk_154 0 5 (dk_at dksX9_will_0 10 rfl rfl)
theorem dX9_will_13 : decode cX9_will 13 = .ok (.iconst (-1), 1) := dk_2 (dk_at dksX9_will_0 13 rfl rfl)
theorem dX9_will_14 : decode cX9_will 14 = .ok (.ireturn, 1) := dk_172 (dk_at dksX9_will_0 14 rfl rfl)
theorem dX9_will_15 : decode cX9_will 15 = .ok (.aload_n 0, 1) := dk_42 (dk_at dksX9_will_0 15 rfl rfl)
theorem dX9_will_16 : decode cX9_will 16 = .ok (.iconst 0, 1) := dk_3 (dk_at dksX9_will_0 16 rfl rfl)
theorem dX9_will_17 : decode cX9_will 17 = .ok (.putfield 335, 3) := dk_181 1 79 (dk_at dksX9_will_0 17 rfl rfl)
theorem dX9_will_20 : decode cX9_will 20 = .ok (.aload_n 0, 1) := dk_42 (dk_at dksX9_will_0 20 rfl rfl)
theorem dX9_will_21 : decode cX9_will 21 = .ok (.aload_n 0, 1) := dk_42 (dk_at dksX9_will_0 21 rfl rfl)
theorem dX9_will_22 : decode cX9_will 22 = .ok (.getfield 28, 3) := dk_180 0 28 (dk_at dksX9_will_1 0 rfl rfl)
theorem dX9_will_25 : decode cX9_will 25 = .ok (.iload_n 1, 1) := dk_27 (dk_at dksX9_will_1 3 rfl rfl)
theorem dX9_will_26 : decode cX9_will 26 = .ok (.laload, 1) := dk_47 (dk_at dksX9_will_1 4 rfl rfl)
theorem dX9_will_27 : decode cX9_will 27 = .ok (.invokevirtual 338, 3) := dk_182 1 82 (dk_at dksX9_will_1 5 rfl rfl)
theorem dX9_will_30 : decode cX9_will 30 = .ok (.aload_n 0, 1) := dk_42 (dk_at dksX9_will_1 8 rfl rfl)
theorem dX9_will_31 : decode cX9_will 31 = .ok (.bipush 108, 2) := dk_16 108 (dk_at dksX9_will_1 9 rfl rfl)
theorem dX9_will_33 : decode cX9_will 33 = .ok (.bipush 101, 2) := dk_16 101 (dk_at dksX9_will_1 11 rfl rfl)
theorem dX9_will_35 : decode cX9_will 35 = .ok (.bipush 97, 2) := dk_16 97 (dk_at dksX9_will_1 13 rfl rfl)
theorem dX9_will_37 : decode cX9_will 37 = .ok (.bipush 118, 2) := dk_16 118 (dk_at dksX9_will_1 15 rfl rfl)
theorem dX9_will_39 : decode cX9_will 39 = .ok (.bipush 101, 2) := dk_16 101 (dk_at dksX9_will_1 17 rfl rfl)
theorem dX9_will_41 : decode cX9_will 41 = .ok (.bipush 115, 2) := dk_16 115 (dk_at dksX9_will_1 19 rfl rfl)
theorem dX9_will_43 : decode cX9_will 43 = .ok (.iconst 0, 1) := dk_3 (dk_at dksX9_will_1 21 rfl rfl)
theorem dX9_will_44 : decode cX9_will 44 = .ok (.invokestatic 132, 3) := dk_184 0 132 (dk_at dksX9_will_2 0 rfl rfl)
theorem dX9_will_47 : decode cX9_will 47 = .ok (.invokevirtual 348, 3) := dk_182 1 92 (dk_at dksX9_will_2 3 rfl rfl)
theorem dX9_will_50 : decode cX9_will 50 = .ok (.aload_n 0, 1) := dk_42 (dk_at dksX9_will_2 6 rfl rfl)
theorem dX9_will_51 : decode cX9_will 51 = .ok (.iload_n 1, 1) := dk_27 (dk_at dksX9_will_2 7 rfl rfl)
theorem dX9_will_52 : decode cX9_will 52 = .ok (.invokevirtual 247, 3) := dk_182 0 247 (dk_at dksX9_will_2 8 rfl rfl)
theorem dX9_will_55 : decode cX9_will 55 = .ok (.ifCond .ne 29, 3) := dk_154 0 29 (dk_at dksX9_will_2 11 rfl rfl)
theorem dX9_will_58 : decode cX9_will 58 = .ok (.aload_n 0, 1) := dk_42 (dk_at dksX9_will_2 14 rfl rfl)
theorem dX9_will_59 : decode cX9_will 59 = .ok (.bipush 110, 2) := dk_16 110 (dk_at dksX9_will_2 15 rfl rfl)
theorem dX9_will_61 : decode cX9_will 61 = .ok (.bipush 111, 2) := dk_16 111 (dk_at dksX9_will_2 17 rfl rfl)
theorem dX9_will_63 : decode cX9_will 63 = .ok (.bipush 116, 2) := dk_16 116 (dk_at dksX9_will_2 19 rfl rfl)
theorem dX9_will_65 : decode cX9_will 65 = .ok (.bipush 104, 2) := dk_16 104 (dk_at dksX9_will_2 21 rfl rfl)
theorem dX9_will_67 : decode cX9_will 67 = .ok (.bipush 105, 2) := dk_16 105 (dk_at dksX9_will_3 0 rfl rfl)
theorem dX9_will_69 : decode cX9_will 69 = .ok (.bipush 110, 2) := dk_16 110 (dk_at dksX9_will_3 2 rfl rfl)
theorem dX9_will_71 : decode cX9_will 71 = .ok (.bipush 103, 2) := dk_16 103 (dk_at dksX9_will_3 4 rfl rfl)
theorem dX9_will_73 : decode cX9_will 73 = .ok (.invokestatic 132, 3) := dk_184 0 132 (dk_at dksX9_will_3 6 rfl rfl)
theorem dX9_will_76 : decode cX9_will 76 = .ok (.invokevirtual 348, 3) := dk_182 1 92 (dk_at dksX9_will_3 9 rfl rfl)
theorem dX9_will_79 : decode cX9_will 79 = .ok (.aload_n 0, 1) := dk_42 (dk_at dksX9_will_3 12 rfl rfl)
theorem dX9_will_80 : decode cX9_will 80 = .ok (.getfield 335, 3) := dk_180 1 79 (dk_at dksX9_will_3 13 rfl rfl)
theorem dX9_will_83 : decode cX9_will 83 = .ok (.ireturn, 1) := dk_172 (dk_at dksX9_will_3 16 rfl rfl)
theorem dX9_will_84 : decode cX9_will 84 = .ok (.aload_n 0, 1) := dk_42 (dk_at dksX9_will_3 17 rfl rfl)
theorem dX9_will_85 : decode cX9_will 85 = .ok (.bipush 32, 2) := dk_16 32 (dk_at dksX9_will_3 18 rfl rfl)
theorem dX9_will_87 : decode cX9_will 87 = .ok (.invokevirtual 342, 3) := dk_182 1 86 (dk_at dksX9_will_3 20 rfl rfl)
theorem dX9_will_90 : decode cX9_will 90 = .ok (.aload_n 0, 1) := dk_42 (dk_at dksX9_will_3 23 rfl rfl)
theorem dX9_will_91 : decode cX9_will 91 = .ok (.aload_n 0, 1) := dk_42 (dk_at dksX9_will_4 0 rfl rfl)
theorem dX9_will_92 : decode cX9_will 92 = .ok (.iload_n 1, 1) := dk_27 (dk_at dksX9_will_4 1 rfl rfl)
theorem dX9_will_93 : decode cX9_will 93 = .ok (.invokevirtual 247, 3) := dk_182 0 247 (dk_at dksX9_will_4 2 rfl rfl)
theorem dX9_will_96 : decode cX9_will 96 = .ok (.invokevirtual 345, 3) := dk_182 1 89 (dk_at dksX9_will_4 5 rfl rfl)
theorem dX9_will_99 : decode cX9_will 99 = .ok (.aload_n 0, 1) := dk_42 (dk_at dksX9_will_4 8 rfl rfl)
theorem dX9_will_100 : decode cX9_will 100 = .ok (.bipush 116, 2) := dk_16 116 (dk_at dksX9_will_4 9 rfl rfl)
theorem dX9_will_102 : decode cX9_will 102 = .ok (.bipush 111, 2) := dk_16 111 (dk_at dksX9_will_4 11 rfl rfl)
theorem dX9_will_104 : decode cX9_will 104 = .ok (.iconst 0, 1) := dk_3 (dk_at dksX9_will_4 13 rfl rfl)
theorem dX9_will_105 : decode cX9_will 105 = .ok (.iconst 0, 1) := dk_3 (dk_at dksX9_will_4 14 rfl rfl)
theorem dX9_will_106 : decode cX9_will 106 = .ok (.iconst 0, 1) := dk_3 (dk_at dksX9_will_4 15 rfl rfl)
theorem dX9_will_107 : decode cX9_will 107 = .ok (.iconst 0, 1) := dk_3 (dk_at dksX9_will_4 16 rfl rfl)
theorem dX9_will_108 : decode cX9_will 108 = .ok (.iconst 0, 1) := dk_3 (dk_at dksX9_will_4 17 rfl rfl)
theorem dX9_will_109 : decode cX9_will 109 = .ok (.invokestatic 132, 3) := dk_184 0 132 (dk_at dksX9_will_4 18 rfl rfl)
theorem dX9_will_112 : decode cX9_will 112 = .ok (.invokevirtual 348, 3) := dk_182 1 92 (dk_at dksX9_will_4 21 rfl rfl)
theorem dX9_will_115 : decode cX9_will 115 = .ok (.aload_n 0, 1) := dk_42 (dk_at dksX9_will_5 0 rfl rfl)
theorem dX9_will_116 : decode cX9_will 116 = .ok (.iload_n 1, 1) := dk_27 (dk_at dksX9_will_5 1 rfl rfl)
theorem dX9_will_117 : decode cX9_will 117 = .ok (.aload_n 0, 1) := dk_42 (dk_at dksX9_will_5 2 rfl rfl)
theorem dX9_will_118 : decode cX9_will 118 = .ok (.invokevirtual 259, 3) := dk_182 1 3 (dk_at dksX9_will_5 3 rfl rfl)
theorem dX9_will_121 : decode cX9_will 121 = .ok (.invokevirtual 262, 3) := dk_182 1 6 (dk_at dksX9_will_5 6 rfl rfl)
theorem dX9_will_124 : decode cX9_will 124 = .ok (.istore_n 2, 1) := dk_61 (dk_at dksX9_will_5 9 rfl rfl)
theorem dX9_will_125 : decode cX9_will 125 = .ok (.aload_n 0, 1) := dk_42 (dk_at dksX9_will_5 10 rfl rfl)
theorem dX9_will_126 : decode cX9_will 126 = .ok (.iload_n 2, 1) := dk_28 (dk_at dksX9_will_5 11 rfl rfl)
theorem dX9_will_127 : decode cX9_will 127 = .ok (.iconst (-1), 1) := dk_2 (dk_at dksX9_will_5 12 rfl rfl)
theorem dX9_will_128 : decode cX9_will 128 = .ok (.if_icmp .ne 22, 3) := dk_160 0 22 (dk_at dksX9_will_5 13 rfl rfl)
theorem dX9_will_131 : decode cX9_will 131 = .ok (.bipush 110, 2) := dk_16 110 (dk_at dksX9_will_5 16 rfl rfl)
theorem dX9_will_133 : decode cX9_will 133 = .ok (.bipush 111, 2) := dk_16 111 (dk_at dksX9_will_5 18 rfl rfl)
theorem dX9_will_135 : decode cX9_will 135 = .ok (.bipush 98, 2) := dk_16 98 (dk_at dksX9_will_5 20 rfl rfl)
theorem dX9_will_137 : decode cX9_will 137 = .ok (.bipush 111, 2) := dk_16 111 (dk_at dksX9_will_5 22 rfl rfl)
theorem dX9_will_139 : decode cX9_will 139 = .ok (.bipush 100, 2) := dk_16 100 (dk_at dksX9_will_6 0 rfl rfl)
theorem dX9_will_141 : decode cX9_will 141 = .ok (.bipush 121, 2) := dk_16 121 (dk_at dksX9_will_6 2 rfl rfl)
theorem dX9_will_143 : decode cX9_will 143 = .ok (.iconst 0, 1) := dk_3 (dk_at dksX9_will_6 4 rfl rfl)
theorem dX9_will_144 : decode cX9_will 144 = .ok (.invokestatic 132, 3) := dk_184 0 132 (dk_at dksX9_will_6 5 rfl rfl)
theorem dX9_will_147 : decode cX9_will 147 = .ok (.goto 9, 3) := dk_167 0 9 (dk_at dksX9_will_6 8 rfl rfl)
theorem dX9_will_150 : decode cX9_will 150 = .ok (.aload_n 0, 1) := dk_42 (dk_at dksX9_will_6 11 rfl rfl)
theorem dX9_will_151 : decode cX9_will 151 = .ok (.getfield 28, 3) := dk_180 0 28 (dk_at dksX9_will_6 12 rfl rfl)
theorem dX9_will_154 : decode cX9_will 154 = .ok (.iload_n 2, 1) := dk_28 (dk_at dksX9_will_6 15 rfl rfl)
theorem dX9_will_155 : decode cX9_will 155 = .ok (.laload, 1) := dk_47 (dk_at dksX9_will_6 16 rfl rfl)
theorem dX9_will_156 : decode cX9_will 156 = .ok (.invokevirtual 348, 3) := dk_182 1 92 (dk_at dksX9_will_6 17 rfl rfl)
theorem dX9_will_159 : decode cX9_will 159 = .ok (.aload_n 0, 1) := dk_42 (dk_at dksX9_will_6 20 rfl rfl)
theorem dX9_will_160 : decode cX9_will 160 = .ok (.getfield 335, 3) := dk_180 1 79 (dk_at dksX9_will_6 21 rfl rfl)
theorem dX9_will_163 : decode cX9_will 163 = .ok (.ireturn, 1) := dk_172 (dk_at dksX9_will_7 0 rfl rfl)
abbrev cX9_writeWord : ByteArray := prog_25_method_92_code
def yX9_writeWord : MethodName := ⟨RX9, "writeWord", "(J)V"⟩
def dkwX9_writeWord_1 : List UInt8 := [113, 136, 96, 182, 1, 86, 177]
abbrev dktX9_writeWord_1 : List UInt8 := dkwX9_writeWord_1 ++ []
def dkwX9_writeWord_0 : List UInt8 := [31, 20, 0, 128, 148, 155, 0, 12, 42, 31, 20, 0, 128, 109, 182, 1, 82, 42, 16, 96, 31, 20, 0, 128]
abbrev dktX9_writeWord_0 : List UInt8 := dkwX9_writeWord_0 ++ dktX9_writeWord_1
theorem dksX9_writeWord_0 : cX9_writeWord.data.toList.drop 0 = dktX9_writeWord_0 := by decide +kernel
theorem dksX9_writeWord_1 : cX9_writeWord.data.toList.drop 24 = dktX9_writeWord_1 := dk_seg dksX9_writeWord_0 24 rfl rfl
theorem dX9_writeWord_0 : decode cX9_writeWord 0 = .ok (.lload_n 1, 1) := dk_31 (dk_at dksX9_writeWord_0 0 rfl rfl)
theorem dX9_writeWord_1 : decode cX9_writeWord 1 = .ok (.ldc2_w 128, 3) := dk_20 0 128 (dk_at dksX9_writeWord_0 1 rfl rfl)
theorem dX9_writeWord_4 : decode cX9_writeWord 4 = .ok (.lcmp, 1) := dk_148 (dk_at dksX9_writeWord_0 4 rfl rfl)
theorem dX9_writeWord_5 : decode cX9_writeWord 5 = .ok (.ifCond .lt 12, 3) := dk_155 0 12 (dk_at dksX9_writeWord_0 5 rfl rfl)
theorem dX9_writeWord_8 : decode cX9_writeWord 8 = .ok (.aload_n 0, 1) := dk_42 (dk_at dksX9_writeWord_0 8 rfl rfl)
theorem dX9_writeWord_9 : decode cX9_writeWord 9 = .ok (.lload_n 1, 1) := dk_31 (dk_at dksX9_writeWord_0 9 rfl rfl)
theorem dX9_writeWord_10 : decode cX9_writeWord 10 = .ok (.ldc2_w 128, 3) := dk_20 0 128 (dk_at dksX9_writeWord_0 10 rfl rfl)
theorem dX9_writeWord_13 : decode cX9_writeWord 13 = .ok (.ldiv, 1) := dk_109 (dk_at dksX9_writeWord_0 13 rfl rfl)
theorem dX9_writeWord_14 : decode cX9_writeWord 14 = .ok (.invokevirtual 338, 3) := dk_182 1 82 (dk_at dksX9_writeWord_0 14 rfl rfl)
theorem dX9_writeWord_17 : decode cX9_writeWord 17 = .ok (.aload_n 0, 1) := dk_42 (dk_at dksX9_writeWord_0 17 rfl rfl)
theorem dX9_writeWord_18 : decode cX9_writeWord 18 = .ok (.bipush 96, 2) := dk_16 96 (dk_at dksX9_writeWord_0 18 rfl rfl)
theorem dX9_writeWord_20 : decode cX9_writeWord 20 = .ok (.lload_n 1, 1) := dk_31 (dk_at dksX9_writeWord_0 20 rfl rfl)
theorem dX9_writeWord_21 : decode cX9_writeWord 21 = .ok (.ldc2_w 128, 3) := dk_20 0 128 (dk_at dksX9_writeWord_0 21 rfl rfl)
theorem dX9_writeWord_24 : decode cX9_writeWord 24 = .ok (.lrem, 1) := dk_113 (dk_at dksX9_writeWord_1 0 rfl rfl)
theorem dX9_writeWord_25 : decode cX9_writeWord 25 = .ok (.l2i, 1) := dk_136 (dk_at dksX9_writeWord_1 1 rfl rfl)
theorem dX9_writeWord_26 : decode cX9_writeWord 26 = .ok (.iadd, 1) := dk_96 (dk_at dksX9_writeWord_1 2 rfl rfl)
theorem dX9_writeWord_27 : decode cX9_writeWord 27 = .ok (.invokevirtual 342, 3) := dk_182 1 86 (dk_at dksX9_writeWord_1 3 rfl rfl)
theorem dX9_writeWord_30 : decode cX9_writeWord 30 = .ok (.return_, 1) := dk_177 (dk_at dksX9_writeWord_1 6 rfl rfl)
abbrev cX9_write : ByteArray := prog_25_method_91_code
def yX9_write : MethodName := ⟨RX9, "write", "(I)V"⟩
def dkwX9_write_0 : List UInt8 := [42, 180, 0, 70, 42, 180, 1, 79, 27, 79, 42, 89, 180, 1, 79, 4, 96, 181, 1, 79, 177]
abbrev dktX9_write_0 : List UInt8 := dkwX9_write_0 ++ []
theorem dksX9_write_0 : cX9_write.data.toList.drop 0 = dktX9_write_0 := by decide +kernel
theorem dX9_write_0 : decode cX9_write 0 = .ok (.aload_n 0, 1) := dk_42 (dk_at dksX9_write_0 0 rfl rfl)
theorem dX9_write_1 : decode cX9_write 1 = .ok (.getfield 70, 3) := dk_180 0 70 (dk_at dksX9_write_0 1 rfl rfl)
theorem dX9_write_4 : decode cX9_write 4 = .ok (.aload_n 0, 1) := dk_42 (dk_at dksX9_write_0 4 rfl rfl)
theorem dX9_write_5 : decode cX9_write 5 = .ok (.getfield 335, 3) := dk_180 1 79 (dk_at dksX9_write_0 5 rfl rfl)
theorem dX9_write_8 : decode cX9_write 8 = .ok (.iload_n 1, 1) := dk_27 (dk_at dksX9_write_0 8 rfl rfl)
theorem dX9_write_9 : decode cX9_write 9 = .ok (.iastore, 1) := dk_79 (dk_at dksX9_write_0 9 rfl rfl)
theorem dX9_write_10 : decode cX9_write 10 = .ok (.aload_n 0, 1) := dk_42 (dk_at dksX9_write_0 10 rfl rfl)
theorem dX9_write_11 : decode cX9_write 11 = .ok (.dup, 1) := dk_89 (dk_at dksX9_write_0 11 rfl rfl)
theorem dX9_write_12 : decode cX9_write 12 = .ok (.getfield 335, 3) := dk_180 1 79 (dk_at dksX9_write_0 12 rfl rfl)
theorem dX9_write_15 : decode cX9_write 15 = .ok (.iconst 1, 1) := dk_4 (dk_at dksX9_write_0 15 rfl rfl)
theorem dX9_write_16 : decode cX9_write 16 = .ok (.iadd, 1) := dk_96 (dk_at dksX9_write_0 16 rfl rfl)
theorem dX9_write_17 : decode cX9_write 17 = .ok (.putfield 335, 3) := dk_181 1 79 (dk_at dksX9_write_0 17 rfl rfl)
theorem dX9_write_20 : decode cX9_write 20 = .ok (.return_, 1) := dk_177 (dk_at dksX9_write_0 20 rfl rfl)
abbrev cX9_writeNext : ByteArray := prog_25_method_94_code
def yX9_writeNext : MethodName := ⟨RX9, "writeNext", "(J)V"⟩
def dkwX9_writeNext_0 : List UInt8 := [42, 16, 32, 182, 1, 86, 42, 31, 182, 1, 82, 177]
abbrev dktX9_writeNext_0 : List UInt8 := dkwX9_writeNext_0 ++ []
theorem dksX9_writeNext_0 : cX9_writeNext.data.toList.drop 0 = dktX9_writeNext_0 := by decide +kernel
theorem dX9_writeNext_0 : decode cX9_writeNext 0 = .ok (.aload_n 0, 1) := dk_42 (dk_at dksX9_writeNext_0 0 rfl rfl)
theorem dX9_writeNext_1 : decode cX9_writeNext 1 = .ok (.bipush 32, 2) := dk_16 32 (dk_at dksX9_writeNext_0 1 rfl rfl)
theorem dX9_writeNext_3 : decode cX9_writeNext 3 = .ok (.invokevirtual 342, 3) := dk_182 1 86 (dk_at dksX9_writeNext_0 3 rfl rfl)
theorem dX9_writeNext_6 : decode cX9_writeNext 6 = .ok (.aload_n 0, 1) := dk_42 (dk_at dksX9_writeNext_0 6 rfl rfl)
theorem dX9_writeNext_7 : decode cX9_writeNext 7 = .ok (.lload_n 1, 1) := dk_31 (dk_at dksX9_writeNext_0 7 rfl rfl)
theorem dX9_writeNext_8 : decode cX9_writeNext 8 = .ok (.invokevirtual 338, 3) := dk_182 1 82 (dk_at dksX9_writeNext_0 8 rfl rfl)
theorem dX9_writeNext_11 : decode cX9_writeNext 11 = .ok (.return_, 1) := dk_177 (dk_at dksX9_writeNext_0 11 rfl rfl)
abbrev cX9_writeNumber : ByteArray := prog_25_method_93_code
def yX9_writeNumber : MethodName := ⟨RX9, "writeNumber", "(I)V"⟩
def dkwX9_writeNumber_1 : List UInt8 := [182, 1, 86, 177]
abbrev dktX9_writeNumber_1 : List UInt8 := dkwX9_writeNumber_1 ++ []
def dkwX9_writeNumber_0 : List UInt8 := [27, 16, 9, 164, 0, 11, 42, 27, 16, 10, 108, 182, 1, 89, 42, 16, 48, 27, 16, 10, 112, 96]
abbrev dktX9_writeNumber_0 : List UInt8 := dkwX9_writeNumber_0 ++ dktX9_writeNumber_1
theorem dksX9_writeNumber_0 : cX9_writeNumber.data.toList.drop 0 = dktX9_writeNumber_0 := by decide +kernel
theorem dksX9_writeNumber_1 : cX9_writeNumber.data.toList.drop 22 = dktX9_writeNumber_1 := dk_seg dksX9_writeNumber_0 22 rfl rfl
theorem dX9_writeNumber_0 : decode cX9_writeNumber 0 = .ok (.iload_n 1, 1) := dk_27 (dk_at dksX9_writeNumber_0 0 rfl rfl)
theorem dX9_writeNumber_1 : decode cX9_writeNumber 1 = .ok (.bipush 9, 2) := dk_16 9 (dk_at dksX9_writeNumber_0 1 rfl rfl)
theorem dX9_writeNumber_3 : decode cX9_writeNumber 3 = .ok (.if_icmp .le 11, 3) := dk_164 0 11 (dk_at dksX9_writeNumber_0 3 rfl rfl)
theorem dX9_writeNumber_6 : decode cX9_writeNumber 6 = .ok (.aload_n 0, 1) := dk_42 (dk_at dksX9_writeNumber_0 6 rfl rfl)
theorem dX9_writeNumber_7 : decode cX9_writeNumber 7 = .ok (.iload_n 1, 1) := dk_27 (dk_at dksX9_writeNumber_0 7 rfl rfl)
theorem dX9_writeNumber_8 : decode cX9_writeNumber 8 = .ok (.bipush 10, 2) := dk_16 10 (dk_at dksX9_writeNumber_0 8 rfl rfl)
theorem dX9_writeNumber_10 : decode cX9_writeNumber 10 = .ok (.idiv, 1) := dk_108 (dk_at dksX9_writeNumber_0 10 rfl rfl)
theorem dX9_writeNumber_11 : decode cX9_writeNumber 11 = .ok (.invokevirtual 345, 3) := dk_182 1 89 (dk_at dksX9_writeNumber_0 11 rfl rfl)
theorem dX9_writeNumber_14 : decode cX9_writeNumber 14 = .ok (.aload_n 0, 1) := dk_42 (dk_at dksX9_writeNumber_0 14 rfl rfl)
theorem dX9_writeNumber_15 : decode cX9_writeNumber 15 = .ok (.bipush 48, 2) := dk_16 48 (dk_at dksX9_writeNumber_0 15 rfl rfl)
theorem dX9_writeNumber_17 : decode cX9_writeNumber 17 = .ok (.iload_n 1, 1) := dk_27 (dk_at dksX9_writeNumber_0 17 rfl rfl)
theorem dX9_writeNumber_18 : decode cX9_writeNumber 18 = .ok (.bipush 10, 2) := dk_16 10 (dk_at dksX9_writeNumber_0 18 rfl rfl)
theorem dX9_writeNumber_20 : decode cX9_writeNumber 20 = .ok (.irem, 1) := dk_112 (dk_at dksX9_writeNumber_0 20 rfl rfl)
theorem dX9_writeNumber_21 : decode cX9_writeNumber 21 = .ok (.iadd, 1) := dk_96 (dk_at dksX9_writeNumber_0 21 rfl rfl)
theorem dX9_writeNumber_22 : decode cX9_writeNumber 22 = .ok (.invokevirtual 342, 3) := dk_182 1 86 (dk_at dksX9_writeNumber_1 0 rfl rfl)
theorem dX9_writeNumber_25 : decode cX9_writeNumber 25 = .ok (.return_, 1) := dk_177 (dk_at dksX9_writeNumber_1 3 rfl rfl)
abbrev cX9_byteAt : ByteArray := prog_25_method_96_code
def yX9_byteAt : MethodName := ⟨RX9, "byteAt", "(I)I"⟩
def dkwX9_byteAt_1 : List UInt8 := [46, 167, 0, 4, 2, 172]
abbrev dktX9_byteAt_1 : List UInt8 := dkwX9_byteAt_1 ++ []
def dkwX9_byteAt_0 : List UInt8 := [42, 3, 181, 0, 82, 27, 3, 42, 180, 1, 79, 4, 100, 184, 0, 149, 153, 0, 12, 42, 180, 0, 70, 27]
abbrev dktX9_byteAt_0 : List UInt8 := dkwX9_byteAt_0 ++ dktX9_byteAt_1
theorem dksX9_byteAt_0 : cX9_byteAt.data.toList.drop 0 = dktX9_byteAt_0 := by decide +kernel
theorem dksX9_byteAt_1 : cX9_byteAt.data.toList.drop 24 = dktX9_byteAt_1 := dk_seg dksX9_byteAt_0 24 rfl rfl
theorem dX9_byteAt_0 : decode cX9_byteAt 0 = .ok (.aload_n 0, 1) := dk_42 (dk_at dksX9_byteAt_0 0 rfl rfl)
theorem dX9_byteAt_1 : decode cX9_byteAt 1 = .ok (.iconst 0, 1) := dk_3 (dk_at dksX9_byteAt_0 1 rfl rfl)
theorem dX9_byteAt_2 : decode cX9_byteAt 2 = .ok (.putfield 82, 3) := dk_181 0 82 (dk_at dksX9_byteAt_0 2 rfl rfl)
theorem dX9_byteAt_5 : decode cX9_byteAt 5 = .ok (.iload_n 1, 1) := dk_27 (dk_at dksX9_byteAt_0 5 rfl rfl)
theorem dX9_byteAt_6 : decode cX9_byteAt 6 = .ok (.iconst 0, 1) := dk_3 (dk_at dksX9_byteAt_0 6 rfl rfl)
theorem dX9_byteAt_7 : decode cX9_byteAt 7 = .ok (.aload_n 0, 1) := dk_42 (dk_at dksX9_byteAt_0 7 rfl rfl)
theorem dX9_byteAt_8 : decode cX9_byteAt 8 = .ok (.getfield 335, 3) := dk_180 1 79 (dk_at dksX9_byteAt_0 8 rfl rfl)
theorem dX9_byteAt_11 : decode cX9_byteAt 11 = .ok (.iconst 1, 1) := dk_4 (dk_at dksX9_byteAt_0 11 rfl rfl)
theorem dX9_byteAt_12 : decode cX9_byteAt 12 = .ok (.isub, 1) := dk_100 (dk_at dksX9_byteAt_0 12 rfl rfl)
theorem dX9_byteAt_13 : decode cX9_byteAt 13 = .ok (.invokestatic 149, 3) := dk_184 0 149 (dk_at dksX9_byteAt_0 13 rfl rfl)
theorem dX9_byteAt_16 : decode cX9_byteAt 16 = .ok (.ifCond .eq 12, 3) := dk_153 0 12 (dk_at dksX9_byteAt_0 16 rfl rfl)
theorem dX9_byteAt_19 : decode cX9_byteAt 19 = .ok (.aload_n 0, 1) := dk_42 (dk_at dksX9_byteAt_0 19 rfl rfl)
theorem dX9_byteAt_20 : decode cX9_byteAt 20 = .ok (.getfield 70, 3) := dk_180 0 70 (dk_at dksX9_byteAt_0 20 rfl rfl)
theorem dX9_byteAt_23 : decode cX9_byteAt 23 = .ok (.iload_n 1, 1) := dk_27 (dk_at dksX9_byteAt_0 23 rfl rfl)
theorem dX9_byteAt_24 : decode cX9_byteAt 24 = .ok (.iaload, 1) := dk_46 (dk_at dksX9_byteAt_1 0 rfl rfl)
theorem dX9_byteAt_25 : decode cX9_byteAt 25 = .ok (.goto 4, 3) := dk_167 0 4 (dk_at dksX9_byteAt_1 1 rfl rfl)
theorem dX9_byteAt_28 : decode cX9_byteAt 28 = .ok (.iconst (-1), 1) := dk_2 (dk_at dksX9_byteAt_1 4 rfl rfl)
theorem dX9_byteAt_29 : decode cX9_byteAt 29 = .ok (.ireturn, 1) := dk_172 (dk_at dksX9_byteAt_1 5 rfl rfl)
abbrev cX9_drawn : ByteArray := prog_25_method_99_code
def yX9_drawn : MethodName := ⟨RX9, "drawn", "(II)I"⟩
def dkwX9_drawn_2 : List UInt8 := [182, 1, 102, 172]
abbrev dktX9_drawn_2 : List UInt8 := dkwX9_drawn_2 ++ []
def dkwX9_drawn_1 : List UInt8 := [2, 172, 42, 180, 0, 13, 16, 72, 46, 17, 0, 200, 160, 0, 5, 3, 172, 42, 182, 1, 26, 42, 27, 28]
abbrev dktX9_drawn_1 : List UInt8 := dkwX9_drawn_1 ++ dktX9_drawn_2
def dkwX9_drawn_0 : List UInt8 := [42, 3, 181, 0, 82, 27, 4, 16, 60, 184, 0, 149, 153, 0, 12, 42, 180, 0, 13, 3, 46, 154, 0, 5]
abbrev dktX9_drawn_0 : List UInt8 := dkwX9_drawn_0 ++ dktX9_drawn_1
theorem dksX9_drawn_0 : cX9_drawn.data.toList.drop 0 = dktX9_drawn_0 := by decide +kernel
theorem dksX9_drawn_1 : cX9_drawn.data.toList.drop 24 = dktX9_drawn_1 := dk_seg dksX9_drawn_0 24 rfl rfl
theorem dksX9_drawn_2 : cX9_drawn.data.toList.drop 48 = dktX9_drawn_2 := dk_seg dksX9_drawn_1 24 rfl rfl
theorem dX9_drawn_0 : decode cX9_drawn 0 = .ok (.aload_n 0, 1) := dk_42 (dk_at dksX9_drawn_0 0 rfl rfl)
theorem dX9_drawn_1 : decode cX9_drawn 1 = .ok (.iconst 0, 1) := dk_3 (dk_at dksX9_drawn_0 1 rfl rfl)
theorem dX9_drawn_2 : decode cX9_drawn 2 = .ok (.putfield 82, 3) := dk_181 0 82 (dk_at dksX9_drawn_0 2 rfl rfl)
theorem dX9_drawn_5 : decode cX9_drawn 5 = .ok (.iload_n 1, 1) := dk_27 (dk_at dksX9_drawn_0 5 rfl rfl)
theorem dX9_drawn_6 : decode cX9_drawn 6 = .ok (.iconst 1, 1) := dk_4 (dk_at dksX9_drawn_0 6 rfl rfl)
theorem dX9_drawn_7 : decode cX9_drawn 7 = .ok (.bipush 60, 2) := dk_16 60 (dk_at dksX9_drawn_0 7 rfl rfl)
theorem dX9_drawn_9 : decode cX9_drawn 9 = .ok (.invokestatic 149, 3) := dk_184 0 149 (dk_at dksX9_drawn_0 9 rfl rfl)
theorem dX9_drawn_12 : decode cX9_drawn 12 = .ok (.ifCond .eq 12, 3) := dk_153 0 12 (dk_at dksX9_drawn_0 12 rfl rfl)
theorem dX9_drawn_15 : decode cX9_drawn 15 = .ok (.aload_n 0, 1) := dk_42 (dk_at dksX9_drawn_0 15 rfl rfl)
theorem dX9_drawn_16 : decode cX9_drawn 16 = .ok (.getfield 13, 3) := dk_180 0 13 (dk_at dksX9_drawn_0 16 rfl rfl)
theorem dX9_drawn_19 : decode cX9_drawn 19 = .ok (.iconst 0, 1) := dk_3 (dk_at dksX9_drawn_0 19 rfl rfl)
theorem dX9_drawn_20 : decode cX9_drawn 20 = .ok (.iaload, 1) := dk_46 (dk_at dksX9_drawn_0 20 rfl rfl)
theorem dX9_drawn_21 : decode cX9_drawn 21 = .ok (.ifCond .ne 5, 3) := dk_154 0 5 (dk_at dksX9_drawn_0 21 rfl rfl)
theorem dX9_drawn_24 : decode cX9_drawn 24 = .ok (.iconst (-1), 1) := dk_2 (dk_at dksX9_drawn_1 0 rfl rfl)
theorem dX9_drawn_25 : decode cX9_drawn 25 = .ok (.ireturn, 1) := dk_172 (dk_at dksX9_drawn_1 1 rfl rfl)
theorem dX9_drawn_26 : decode cX9_drawn 26 = .ok (.aload_n 0, 1) := dk_42 (dk_at dksX9_drawn_1 2 rfl rfl)
theorem dX9_drawn_27 : decode cX9_drawn 27 = .ok (.getfield 13, 3) := dk_180 0 13 (dk_at dksX9_drawn_1 3 rfl rfl)
theorem dX9_drawn_30 : decode cX9_drawn 30 = .ok (.bipush 72, 2) := dk_16 72 (dk_at dksX9_drawn_1 6 rfl rfl)
theorem dX9_drawn_32 : decode cX9_drawn 32 = .ok (.iaload, 1) := dk_46 (dk_at dksX9_drawn_1 8 rfl rfl)
theorem dX9_drawn_33 : decode cX9_drawn 33 = .ok (.sipush 200, 3) := dk_17 0 200 (dk_at dksX9_drawn_1 9 rfl rfl)
theorem dX9_drawn_36 : decode cX9_drawn 36 = .ok (.if_icmp .ne 5, 3) := dk_160 0 5 (dk_at dksX9_drawn_1 12 rfl rfl)
theorem dX9_drawn_39 : decode cX9_drawn 39 = .ok (.iconst 0, 1) := dk_3 (dk_at dksX9_drawn_1 15 rfl rfl)
theorem dX9_drawn_40 : decode cX9_drawn 40 = .ok (.ireturn, 1) := dk_172 (dk_at dksX9_drawn_1 16 rfl rfl)
theorem dX9_drawn_41 : decode cX9_drawn 41 = .ok (.aload_n 0, 1) := dk_42 (dk_at dksX9_drawn_1 17 rfl rfl)
theorem dX9_drawn_42 : decode cX9_drawn 42 = .ok (.invokevirtual 282, 3) := dk_182 1 26 (dk_at dksX9_drawn_1 18 rfl rfl)
theorem dX9_drawn_45 : decode cX9_drawn 45 = .ok (.aload_n 0, 1) := dk_42 (dk_at dksX9_drawn_1 21 rfl rfl)
theorem dX9_drawn_46 : decode cX9_drawn 46 = .ok (.iload_n 1, 1) := dk_27 (dk_at dksX9_drawn_1 22 rfl rfl)
theorem dX9_drawn_47 : decode cX9_drawn 47 = .ok (.iload_n 2, 1) := dk_28 (dk_at dksX9_drawn_1 23 rfl rfl)
theorem dX9_drawn_48 : decode cX9_drawn 48 = .ok (.invokevirtual 358, 3) := dk_182 1 102 (dk_at dksX9_drawn_2 0 rfl rfl)
theorem dX9_drawn_51 : decode cX9_drawn 51 = .ok (.ireturn, 1) := dk_172 (dk_at dksX9_drawn_2 3 rfl rfl)
abbrev cX9_drawMeals : ByteArray := prog_25_method_98_code
def yX9_drawMeals : MethodName := ⟨RX9, "drawMeals", "(II)I"⟩
def dkwX9_drawMeals_5 : List UInt8 := [182, 1, 29, 132, 5, 1, 167, 255, 167, 42, 182, 1, 36, 132, 4, 1, 167, 255, 148, 29, 172]
abbrev dktX9_drawMeals_5 : List UInt8 := dkwX9_drawMeals_5 ++ []
def dkwX9_drawMeals_4 : List UInt8 := [21, 5, 182, 1, 45, 167, 0, 20, 42, 7, 182, 1, 99, 154, 0, 12, 42, 8, 21, 5, 3, 3]
abbrev dktX9_drawMeals_4 : List UInt8 := dkwX9_drawMeals_4 ++ dktX9_drawMeals_5
def dkwX9_drawMeals_3 : List UInt8 := [21, 5, 182, 0, 247, 158, 0, 44, 42, 21, 5, 182, 1, 19, 167, 0, 35, 21, 6, 4, 164, 0, 12, 42]
abbrev dktX9_drawMeals_3 : List UInt8 := dkwX9_drawMeals_3 ++ dktX9_drawMeals_4
def dkwX9_drawMeals_2 : List UInt8 := [182, 0, 244, 153, 0, 6, 167, 0, 66, 42, 16, 6, 182, 1, 99, 54, 6, 21, 6, 154, 0, 21, 42]
abbrev dktX9_drawMeals_2 : List UInt8 := dkwX9_drawMeals_2 ++ dktX9_drawMeals_3
def dkwX9_drawMeals_1 : List UInt8 := [21, 4, 29, 162, 0, 108, 3, 54, 5, 21, 5, 42, 180, 0, 13, 3, 46, 162, 0, 84, 42, 21, 5]
abbrev dktX9_drawMeals_1 : List UInt8 := dkwX9_drawMeals_1 ++ dktX9_drawMeals_2
def dkwX9_drawMeals_0 : List UInt8 := [42, 28, 181, 1, 95, 27, 17, 0, 200, 42, 180, 0, 13, 16, 72, 46, 100, 184, 1, 9, 62, 3, 54, 4]
abbrev dktX9_drawMeals_0 : List UInt8 := dkwX9_drawMeals_0 ++ dktX9_drawMeals_1
theorem dksX9_drawMeals_0 : cX9_drawMeals.data.toList.drop 0 = dktX9_drawMeals_0 := by decide +kernel
theorem dksX9_drawMeals_1 : cX9_drawMeals.data.toList.drop 24 = dktX9_drawMeals_1 := dk_seg dksX9_drawMeals_0 24 rfl rfl
theorem dksX9_drawMeals_2 : cX9_drawMeals.data.toList.drop 47 = dktX9_drawMeals_2 := dk_seg dksX9_drawMeals_1 23 rfl rfl
theorem dksX9_drawMeals_3 : cX9_drawMeals.data.toList.drop 70 = dktX9_drawMeals_3 := dk_seg dksX9_drawMeals_2 23 rfl rfl
theorem dksX9_drawMeals_4 : cX9_drawMeals.data.toList.drop 94 = dktX9_drawMeals_4 := dk_seg dksX9_drawMeals_3 24 rfl rfl
theorem dksX9_drawMeals_5 : cX9_drawMeals.data.toList.drop 116 = dktX9_drawMeals_5 := dk_seg dksX9_drawMeals_4 22 rfl rfl
theorem dX9_drawMeals_0 : decode cX9_drawMeals 0 = .ok (.aload_n 0, 1) := dk_42 (dk_at dksX9_drawMeals_0 0 rfl rfl)
theorem dX9_drawMeals_1 : decode cX9_drawMeals 1 = .ok (.iload_n 2, 1) := dk_28 (dk_at dksX9_drawMeals_0 1 rfl rfl)
theorem dX9_drawMeals_2 : decode cX9_drawMeals 2 = .ok (.putfield 351, 3) := dk_181 1 95 (dk_at dksX9_drawMeals_0 2 rfl rfl)
theorem dX9_drawMeals_5 : decode cX9_drawMeals 5 = .ok (.iload_n 1, 1) := dk_27 (dk_at dksX9_drawMeals_0 5 rfl rfl)
theorem dX9_drawMeals_6 : decode cX9_drawMeals 6 = .ok (.sipush 200, 3) := dk_17 0 200 (dk_at dksX9_drawMeals_0 6 rfl rfl)
theorem dX9_drawMeals_9 : decode cX9_drawMeals 9 = .ok (.aload_n 0, 1) := dk_42 (dk_at dksX9_drawMeals_0 9 rfl rfl)
theorem dX9_drawMeals_10 : decode cX9_drawMeals 10 = .ok (.getfield 13, 3) := dk_180 0 13 (dk_at dksX9_drawMeals_0 10 rfl rfl)
theorem dX9_drawMeals_13 : decode cX9_drawMeals 13 = .ok (.bipush 72, 2) := dk_16 72 (dk_at dksX9_drawMeals_0 13 rfl rfl)
theorem dX9_drawMeals_15 : decode cX9_drawMeals 15 = .ok (.iaload, 1) := dk_46 (dk_at dksX9_drawMeals_0 15 rfl rfl)
theorem dX9_drawMeals_16 : decode cX9_drawMeals 16 = .ok (.isub, 1) := dk_100 (dk_at dksX9_drawMeals_0 16 rfl rfl)
theorem dX9_drawMeals_17 : decode cX9_drawMeals 17 = .ok (.invokestatic 265, 3) := dk_184 1 9 (dk_at dksX9_drawMeals_0 17 rfl rfl)
theorem dX9_drawMeals_20 : decode cX9_drawMeals 20 = .ok (.istore_n 3, 1) := dk_62 (dk_at dksX9_drawMeals_0 20 rfl rfl)
theorem dX9_drawMeals_21 : decode cX9_drawMeals 21 = .ok (.iconst 0, 1) := dk_3 (dk_at dksX9_drawMeals_0 21 rfl rfl)
theorem dX9_drawMeals_22 : decode cX9_drawMeals 22 = .ok (.istore 4, 2) := dk_54 4 (dk_at dksX9_drawMeals_0 22 rfl rfl)
theorem dX9_drawMeals_24 : decode cX9_drawMeals 24 = .ok (.iload 4, 2) := dk_21 4 (dk_at dksX9_drawMeals_1 0 rfl rfl)
theorem dX9_drawMeals_26 : decode cX9_drawMeals 26 = .ok (.iload_n 3, 1) := dk_29 (dk_at dksX9_drawMeals_1 2 rfl rfl)
theorem dX9_drawMeals_27 : decode cX9_drawMeals 27 = .ok (.if_icmp .ge 108, 3) := dk_162 0 108 (dk_at dksX9_drawMeals_1 3 rfl rfl)
theorem dX9_drawMeals_30 : decode cX9_drawMeals 30 = .ok (.iconst 0, 1) := dk_3 (dk_at dksX9_drawMeals_1 6 rfl rfl)
theorem dX9_drawMeals_31 : decode cX9_drawMeals 31 = .ok (.istore 5, 2) := dk_54 5 (dk_at dksX9_drawMeals_1 7 rfl rfl)
theorem dX9_drawMeals_33 : decode cX9_drawMeals 33 = .ok (.iload 5, 2) := dk_21 5 (dk_at dksX9_drawMeals_1 9 rfl rfl)
theorem dX9_drawMeals_35 : decode cX9_drawMeals 35 = .ok (.aload_n 0, 1) := dk_42 (dk_at dksX9_drawMeals_1 11 rfl rfl)
theorem dX9_drawMeals_36 : decode cX9_drawMeals 36 = .ok (.getfield 13, 3) := dk_180 0 13 (dk_at dksX9_drawMeals_1 12 rfl rfl)
theorem dX9_drawMeals_39 : decode cX9_drawMeals 39 = .ok (.iconst 0, 1) := dk_3 (dk_at dksX9_drawMeals_1 15 rfl rfl)
theorem dX9_drawMeals_40 : decode cX9_drawMeals 40 = .ok (.iaload, 1) := dk_46 (dk_at dksX9_drawMeals_1 16 rfl rfl)
theorem dX9_drawMeals_41 : decode cX9_drawMeals 41 = .ok (.if_icmp .ge 84, 3) := dk_162 0 84 (dk_at dksX9_drawMeals_1 17 rfl rfl)
theorem dX9_drawMeals_44 : decode cX9_drawMeals 44 = .ok (.aload_n 0, 1) := dk_42 (dk_at dksX9_drawMeals_1 20 rfl rfl)
theorem dX9_drawMeals_45 : decode cX9_drawMeals 45 = .ok (.iload 5, 2) := dk_21 5 (dk_at dksX9_drawMeals_1 21 rfl rfl)
theorem dX9_drawMeals_47 : decode cX9_drawMeals 47 = .ok (.invokevirtual 244, 3) := dk_182 0 244 (dk_at dksX9_drawMeals_2 0 rfl rfl)
theorem dX9_drawMeals_50 : decode cX9_drawMeals 50 = .ok (.ifCond .eq 6, 3) := dk_153 0 6 (dk_at dksX9_drawMeals_2 3 rfl rfl)
theorem dX9_drawMeals_53 : decode cX9_drawMeals 53 = .ok (.goto 66, 3) := dk_167 0 66 (dk_at dksX9_drawMeals_2 6 rfl rfl)
theorem dX9_drawMeals_56 : decode cX9_drawMeals 56 = .ok (.aload_n 0, 1) := dk_42 (dk_at dksX9_drawMeals_2 9 rfl rfl)
theorem dX9_drawMeals_57 : decode cX9_drawMeals 57 = .ok (.bipush 6, 2) := dk_16 6 (dk_at dksX9_drawMeals_2 10 rfl rfl)
theorem dX9_drawMeals_59 : decode cX9_drawMeals 59 = .ok (.invokevirtual 355, 3) := dk_182 1 99 (dk_at dksX9_drawMeals_2 12 rfl rfl)
theorem dX9_drawMeals_62 : decode cX9_drawMeals 62 = .ok (.istore 6, 2) := dk_54 6 (dk_at dksX9_drawMeals_2 15 rfl rfl)
theorem dX9_drawMeals_64 : decode cX9_drawMeals 64 = .ok (.iload 6, 2) := dk_21 6 (dk_at dksX9_drawMeals_2 17 rfl rfl)
theorem dX9_drawMeals_66 : decode cX9_drawMeals 66 = .ok (.ifCond .ne 21, 3) := dk_154 0 21 (dk_at dksX9_drawMeals_2 19 rfl rfl)
theorem dX9_drawMeals_69 : decode cX9_drawMeals 69 = .ok (.aload_n 0, 1) := dk_42 (dk_at dksX9_drawMeals_2 22 rfl rfl)
theorem dX9_drawMeals_70 : decode cX9_drawMeals 70 = .ok (.iload 5, 2) := dk_21 5 (dk_at dksX9_drawMeals_3 0 rfl rfl)
theorem dX9_drawMeals_72 : decode cX9_drawMeals 72 = .ok (.invokevirtual 247, 3) := dk_182 0 247 (dk_at dksX9_drawMeals_3 2 rfl rfl)
theorem dX9_drawMeals_75 : decode cX9_drawMeals 75 = .ok (.ifCond .le 44, 3) := dk_158 0 44 (dk_at dksX9_drawMeals_3 5 rfl rfl)
theorem dX9_drawMeals_78 : decode cX9_drawMeals 78 = .ok (.aload_n 0, 1) := dk_42 (dk_at dksX9_drawMeals_3 8 rfl rfl)
theorem dX9_drawMeals_79 : decode cX9_drawMeals 79 = .ok (.iload 5, 2) := dk_21 5 (dk_at dksX9_drawMeals_3 9 rfl rfl)
theorem dX9_drawMeals_81 : decode cX9_drawMeals 81 = .ok (.invokevirtual 275, 3) := dk_182 1 19 (dk_at dksX9_drawMeals_3 11 rfl rfl)
theorem dX9_drawMeals_84 : decode cX9_drawMeals 84 = .ok (.goto 35, 3) := dk_167 0 35 (dk_at dksX9_drawMeals_3 14 rfl rfl)
theorem dX9_drawMeals_87 : decode cX9_drawMeals 87 = .ok (.iload 6, 2) := dk_21 6 (dk_at dksX9_drawMeals_3 17 rfl rfl)
theorem dX9_drawMeals_89 : decode cX9_drawMeals 89 = .ok (.iconst 1, 1) := dk_4 (dk_at dksX9_drawMeals_3 19 rfl rfl)
theorem dX9_drawMeals_90 : decode cX9_drawMeals 90 = .ok (.if_icmp .le 12, 3) := dk_164 0 12 (dk_at dksX9_drawMeals_3 20 rfl rfl)
theorem dX9_drawMeals_93 : decode cX9_drawMeals 93 = .ok (.aload_n 0, 1) := dk_42 (dk_at dksX9_drawMeals_3 23 rfl rfl)
theorem dX9_drawMeals_94 : decode cX9_drawMeals 94 = .ok (.iload 5, 2) := dk_21 5 (dk_at dksX9_drawMeals_4 0 rfl rfl)
theorem dX9_drawMeals_96 : decode cX9_drawMeals 96 = .ok (.invokevirtual 301, 3) := dk_182 1 45 (dk_at dksX9_drawMeals_4 2 rfl rfl)
theorem dX9_drawMeals_99 : decode cX9_drawMeals 99 = .ok (.goto 20, 3) := dk_167 0 20 (dk_at dksX9_drawMeals_4 5 rfl rfl)
theorem dX9_drawMeals_102 : decode cX9_drawMeals 102 = .ok (.aload_n 0, 1) := dk_42 (dk_at dksX9_drawMeals_4 8 rfl rfl)
theorem dX9_drawMeals_103 : decode cX9_drawMeals 103 = .ok (.iconst 4, 1) := dk_7 (dk_at dksX9_drawMeals_4 9 rfl rfl)
theorem dX9_drawMeals_104 : decode cX9_drawMeals 104 = .ok (.invokevirtual 355, 3) := dk_182 1 99 (dk_at dksX9_drawMeals_4 10 rfl rfl)
theorem dX9_drawMeals_107 : decode cX9_drawMeals 107 = .ok (.ifCond .ne 12, 3) := dk_154 0 12 (dk_at dksX9_drawMeals_4 13 rfl rfl)
theorem dX9_drawMeals_110 : decode cX9_drawMeals 110 = .ok (.aload_n 0, 1) := dk_42 (dk_at dksX9_drawMeals_4 16 rfl rfl)
theorem dX9_drawMeals_111 : decode cX9_drawMeals 111 = .ok (.iconst 5, 1) := dk_8 (dk_at dksX9_drawMeals_4 17 rfl rfl)
theorem dX9_drawMeals_112 : decode cX9_drawMeals 112 = .ok (.iload 5, 2) := dk_21 5 (dk_at dksX9_drawMeals_4 18 rfl rfl)
theorem dX9_drawMeals_114 : decode cX9_drawMeals 114 = .ok (.iconst 0, 1) := dk_3 (dk_at dksX9_drawMeals_4 20 rfl rfl)
theorem dX9_drawMeals_115 : decode cX9_drawMeals 115 = .ok (.iconst 0, 1) := dk_3 (dk_at dksX9_drawMeals_4 21 rfl rfl)
theorem dX9_drawMeals_116 : decode cX9_drawMeals 116 = .ok (.invokevirtual 285, 3) := dk_182 1 29 (dk_at dksX9_drawMeals_5 0 rfl rfl)
theorem dX9_drawMeals_119 : decode cX9_drawMeals 119 = .ok (.iinc 5 1, 3) := dk_132 5 1 (dk_at dksX9_drawMeals_5 3 rfl rfl)
theorem dX9_drawMeals_122 : decode cX9_drawMeals 122 = .ok (.goto (-89), 3) := dk_167 255 167 (dk_at dksX9_drawMeals_5 6 rfl rfl)
theorem dX9_drawMeals_125 : decode cX9_drawMeals 125 = .ok (.aload_n 0, 1) := dk_42 (dk_at dksX9_drawMeals_5 9 rfl rfl)
theorem dX9_drawMeals_126 : decode cX9_drawMeals 126 = .ok (.invokevirtual 292, 3) := dk_182 1 36 (dk_at dksX9_drawMeals_5 10 rfl rfl)
theorem dX9_drawMeals_129 : decode cX9_drawMeals 129 = .ok (.iinc 4 1, 3) := dk_132 4 1 (dk_at dksX9_drawMeals_5 13 rfl rfl)
theorem dX9_drawMeals_132 : decode cX9_drawMeals 132 = .ok (.goto (-108), 3) := dk_167 255 148 (dk_at dksX9_drawMeals_5 16 rfl rfl)
theorem dX9_drawMeals_135 : decode cX9_drawMeals 135 = .ok (.iload_n 3, 1) := dk_29 (dk_at dksX9_drawMeals_5 19 rfl rfl)
theorem dX9_drawMeals_136 : decode cX9_drawMeals 136 = .ok (.ireturn, 1) := dk_172 (dk_at dksX9_drawMeals_5 20 rfl rfl)
abbrev cX9_draw : ByteArray := prog_25_method_97_code
def yX9_draw : MethodName := ⟨RX9, "draw", "(I)I"⟩
def dkwX9_draw_1 : List UInt8 := [112, 172]
abbrev dktX9_draw_1 : List UInt8 := dkwX9_draw_1 ++ []
def dkwX9_draw_0 : List UInt8 := [42, 42, 180, 1, 95, 19, 1, 98, 104, 17, 48, 57, 96, 181, 1, 95, 42, 180, 1, 95, 16, 8, 124, 27]
abbrev dktX9_draw_0 : List UInt8 := dkwX9_draw_0 ++ dktX9_draw_1
theorem dksX9_draw_0 : cX9_draw.data.toList.drop 0 = dktX9_draw_0 := by decide +kernel
theorem dksX9_draw_1 : cX9_draw.data.toList.drop 24 = dktX9_draw_1 := dk_seg dksX9_draw_0 24 rfl rfl
theorem dX9_draw_0 : decode cX9_draw 0 = .ok (.aload_n 0, 1) := dk_42 (dk_at dksX9_draw_0 0 rfl rfl)
theorem dX9_draw_1 : decode cX9_draw 1 = .ok (.aload_n 0, 1) := dk_42 (dk_at dksX9_draw_0 1 rfl rfl)
theorem dX9_draw_2 : decode cX9_draw 2 = .ok (.getfield 351, 3) := dk_180 1 95 (dk_at dksX9_draw_0 2 rfl rfl)
theorem dX9_draw_5 : decode cX9_draw 5 = .ok (.ldc_w 354, 3) := dk_19 1 98 (dk_at dksX9_draw_0 5 rfl rfl)
theorem dX9_draw_8 : decode cX9_draw 8 = .ok (.imul, 1) := dk_104 (dk_at dksX9_draw_0 8 rfl rfl)
theorem dX9_draw_9 : decode cX9_draw 9 = .ok (.sipush 12345, 3) := dk_17 48 57 (dk_at dksX9_draw_0 9 rfl rfl)
theorem dX9_draw_12 : decode cX9_draw 12 = .ok (.iadd, 1) := dk_96 (dk_at dksX9_draw_0 12 rfl rfl)
theorem dX9_draw_13 : decode cX9_draw 13 = .ok (.putfield 351, 3) := dk_181 1 95 (dk_at dksX9_draw_0 13 rfl rfl)
theorem dX9_draw_16 : decode cX9_draw 16 = .ok (.aload_n 0, 1) := dk_42 (dk_at dksX9_draw_0 16 rfl rfl)
theorem dX9_draw_17 : decode cX9_draw 17 = .ok (.getfield 351, 3) := dk_180 1 95 (dk_at dksX9_draw_0 17 rfl rfl)
theorem dX9_draw_20 : decode cX9_draw 20 = .ok (.bipush 8, 2) := dk_16 8 (dk_at dksX9_draw_0 20 rfl rfl)
theorem dX9_draw_22 : decode cX9_draw 22 = .ok (.iushr, 1) := dk_124 (dk_at dksX9_draw_0 22 rfl rfl)
theorem dX9_draw_23 : decode cX9_draw 23 = .ok (.iload_n 1, 1) := dk_27 (dk_at dksX9_draw_0 23 rfl rfl)
theorem dX9_draw_24 : decode cX9_draw 24 = .ok (.irem, 1) := dk_112 (dk_at dksX9_draw_1 0 rfl rfl)
theorem dX9_draw_25 : decode cX9_draw 25 = .ok (.ireturn, 1) := dk_172 (dk_at dksX9_draw_1 1 rfl rfl)
abbrev cX9_odds : ByteArray := prog_25_method_100_code
def yX9_odds : MethodName := ⟨RX9, "odds", "(III)I"⟩
def dkwX9_odds_3 : List UInt8 := [167, 255, 221, 21, 4, 172]
abbrev dktX9_odds_3 : List UInt8 := dkwX9_odds_3 ++ []
def dkwX9_odds_2 : List UInt8 := [182, 1, 102, 87, 42, 27, 182, 0, 244, 154, 0, 6, 132, 4, 1, 42, 182, 1, 76, 132, 5, 1]
abbrev dktX9_odds_2 : List UInt8 := dkwX9_odds_2 ++ dktX9_odds_3
def dkwX9_odds_1 : List UInt8 := [172, 42, 182, 1, 73, 3, 54, 4, 3, 54, 5, 21, 5, 28, 162, 0, 35, 42, 16, 10, 29, 21, 5, 96]
abbrev dktX9_odds_1 : List UInt8 := dkwX9_odds_1 ++ dktX9_odds_2
def dkwX9_odds_0 : List UInt8 := [42, 3, 181, 0, 82, 42, 27, 182, 0, 238, 153, 0, 13, 28, 4, 16, 30, 184, 0, 149, 154, 0, 5, 2]
abbrev dktX9_odds_0 : List UInt8 := dkwX9_odds_0 ++ dktX9_odds_1
theorem dksX9_odds_0 : cX9_odds.data.toList.drop 0 = dktX9_odds_0 := by decide +kernel
theorem dksX9_odds_1 : cX9_odds.data.toList.drop 24 = dktX9_odds_1 := dk_seg dksX9_odds_0 24 rfl rfl
theorem dksX9_odds_2 : cX9_odds.data.toList.drop 48 = dktX9_odds_2 := dk_seg dksX9_odds_1 24 rfl rfl
theorem dksX9_odds_3 : cX9_odds.data.toList.drop 70 = dktX9_odds_3 := dk_seg dksX9_odds_2 22 rfl rfl
theorem dX9_odds_0 : decode cX9_odds 0 = .ok (.aload_n 0, 1) := dk_42 (dk_at dksX9_odds_0 0 rfl rfl)
theorem dX9_odds_1 : decode cX9_odds 1 = .ok (.iconst 0, 1) := dk_3 (dk_at dksX9_odds_0 1 rfl rfl)
theorem dX9_odds_2 : decode cX9_odds 2 = .ok (.putfield 82, 3) := dk_181 0 82 (dk_at dksX9_odds_0 2 rfl rfl)
theorem dX9_odds_5 : decode cX9_odds 5 = .ok (.aload_n 0, 1) := dk_42 (dk_at dksX9_odds_0 5 rfl rfl)
theorem dX9_odds_6 : decode cX9_odds 6 = .ok (.iload_n 1, 1) := dk_27 (dk_at dksX9_odds_0 6 rfl rfl)
theorem dX9_odds_7 : decode cX9_odds 7 = .ok (.invokevirtual 238, 3) := dk_182 0 238 (dk_at dksX9_odds_0 7 rfl rfl)
theorem dX9_odds_10 : decode cX9_odds 10 = .ok (.ifCond .eq 13, 3) := dk_153 0 13 (dk_at dksX9_odds_0 10 rfl rfl)
theorem dX9_odds_13 : decode cX9_odds 13 = .ok (.iload_n 2, 1) := dk_28 (dk_at dksX9_odds_0 13 rfl rfl)
theorem dX9_odds_14 : decode cX9_odds 14 = .ok (.iconst 1, 1) := dk_4 (dk_at dksX9_odds_0 14 rfl rfl)
theorem dX9_odds_15 : decode cX9_odds 15 = .ok (.bipush 30, 2) := dk_16 30 (dk_at dksX9_odds_0 15 rfl rfl)
theorem dX9_odds_17 : decode cX9_odds 17 = .ok (.invokestatic 149, 3) := dk_184 0 149 (dk_at dksX9_odds_0 17 rfl rfl)
theorem dX9_odds_20 : decode cX9_odds 20 = .ok (.ifCond .ne 5, 3) := dk_154 0 5 (dk_at dksX9_odds_0 20 rfl rfl)
theorem dX9_odds_23 : decode cX9_odds 23 = .ok (.iconst (-1), 1) := dk_2 (dk_at dksX9_odds_0 23 rfl rfl)
theorem dX9_odds_24 : decode cX9_odds 24 = .ok (.ireturn, 1) := dk_172 (dk_at dksX9_odds_1 0 rfl rfl)
theorem dX9_odds_25 : decode cX9_odds 25 = .ok (.aload_n 0, 1) := dk_42 (dk_at dksX9_odds_1 1 rfl rfl)
theorem dX9_odds_26 : decode cX9_odds 26 = .ok (.invokevirtual 329, 3) := dk_182 1 73 (dk_at dksX9_odds_1 2 rfl rfl)
theorem dX9_odds_29 : decode cX9_odds 29 = .ok (.iconst 0, 1) := dk_3 (dk_at dksX9_odds_1 5 rfl rfl)
theorem dX9_odds_30 : decode cX9_odds 30 = .ok (.istore 4, 2) := dk_54 4 (dk_at dksX9_odds_1 6 rfl rfl)
theorem dX9_odds_32 : decode cX9_odds 32 = .ok (.iconst 0, 1) := dk_3 (dk_at dksX9_odds_1 8 rfl rfl)
theorem dX9_odds_33 : decode cX9_odds 33 = .ok (.istore 5, 2) := dk_54 5 (dk_at dksX9_odds_1 9 rfl rfl)
theorem dX9_odds_35 : decode cX9_odds 35 = .ok (.iload 5, 2) := dk_21 5 (dk_at dksX9_odds_1 11 rfl rfl)
theorem dX9_odds_37 : decode cX9_odds 37 = .ok (.iload_n 2, 1) := dk_28 (dk_at dksX9_odds_1 13 rfl rfl)
theorem dX9_odds_38 : decode cX9_odds 38 = .ok (.if_icmp .ge 35, 3) := dk_162 0 35 (dk_at dksX9_odds_1 14 rfl rfl)
theorem dX9_odds_41 : decode cX9_odds 41 = .ok (.aload_n 0, 1) := dk_42 (dk_at dksX9_odds_1 17 rfl rfl)
theorem dX9_odds_42 : decode cX9_odds 42 = .ok (.bipush 10, 2) := dk_16 10 (dk_at dksX9_odds_1 18 rfl rfl)
theorem dX9_odds_44 : decode cX9_odds 44 = .ok (.iload_n 3, 1) := dk_29 (dk_at dksX9_odds_1 20 rfl rfl)
theorem dX9_odds_45 : decode cX9_odds 45 = .ok (.iload 5, 2) := dk_21 5 (dk_at dksX9_odds_1 21 rfl rfl)
theorem dX9_odds_47 : decode cX9_odds 47 = .ok (.iadd, 1) := dk_96 (dk_at dksX9_odds_1 23 rfl rfl)
theorem dX9_odds_48 : decode cX9_odds 48 = .ok (.invokevirtual 358, 3) := dk_182 1 102 (dk_at dksX9_odds_2 0 rfl rfl)
theorem dX9_odds_51 : decode cX9_odds 51 = .ok (.pop, 1) := dk_87 (dk_at dksX9_odds_2 3 rfl rfl)
theorem dX9_odds_52 : decode cX9_odds 52 = .ok (.aload_n 0, 1) := dk_42 (dk_at dksX9_odds_2 4 rfl rfl)
theorem dX9_odds_53 : decode cX9_odds 53 = .ok (.iload_n 1, 1) := dk_27 (dk_at dksX9_odds_2 5 rfl rfl)
theorem dX9_odds_54 : decode cX9_odds 54 = .ok (.invokevirtual 244, 3) := dk_182 0 244 (dk_at dksX9_odds_2 6 rfl rfl)
theorem dX9_odds_57 : decode cX9_odds 57 = .ok (.ifCond .ne 6, 3) := dk_154 0 6 (dk_at dksX9_odds_2 9 rfl rfl)
theorem dX9_odds_60 : decode cX9_odds 60 = .ok (.iinc 4 1, 3) := dk_132 4 1 (dk_at dksX9_odds_2 12 rfl rfl)
theorem dX9_odds_63 : decode cX9_odds 63 = .ok (.aload_n 0, 1) := dk_42 (dk_at dksX9_odds_2 15 rfl rfl)
theorem dX9_odds_64 : decode cX9_odds 64 = .ok (.invokevirtual 332, 3) := dk_182 1 76 (dk_at dksX9_odds_2 16 rfl rfl)
theorem dX9_odds_67 : decode cX9_odds 67 = .ok (.iinc 5 1, 3) := dk_132 5 1 (dk_at dksX9_odds_2 19 rfl rfl)
theorem dX9_odds_70 : decode cX9_odds 70 = .ok (.goto (-35), 3) := dk_167 255 221 (dk_at dksX9_odds_3 0 rfl rfl)
theorem dX9_odds_73 : decode cX9_odds 73 = .ok (.iload 4, 2) := dk_21 4 (dk_at dksX9_odds_3 3 rfl rfl)
theorem dX9_odds_75 : decode cX9_odds 75 = .ok (.ireturn, 1) := dk_172 (dk_at dksX9_odds_3 5 rfl rfl)
abbrev cX9_book : ByteArray := prog_25_method_104_code
def yX9_book : MethodName := ⟨RX9, "book", "(I)I"⟩
def dkwX9_book_7 : List UInt8 := [29, 154, 0, 7, 2, 167, 0, 4, 28, 172]
abbrev dktX9_book_7 : List UInt8 := dkwX9_book_7 ++ []
def dkwX9_book_6 : List UInt8 := [79, 42, 4, 181, 1, 117, 42, 27, 4, 160, 0, 11, 28, 158, 0, 7, 4, 167, 0, 4, 3, 182, 1, 120]
abbrev dktX9_book_6 : List UInt8 := dkwX9_book_6 ++ dktX9_book_7
def dkwX9_book_5 : List UInt8 := [180, 0, 76, 5, 42, 180, 0, 13, 16, 72, 46, 79, 42, 180, 0, 76, 6, 42, 180, 0, 13, 16, 73, 46]
abbrev dktX9_book_5 : List UInt8 := dkwX9_book_5 ++ dktX9_book_6
def dkwX9_book_4 : List UInt8 := [154, 255, 235, 132, 2, 1, 167, 255, 229, 42, 180, 0, 76, 3, 29, 79, 42, 180, 0, 76, 4, 28, 79, 42]
abbrev dktX9_book_4 : List UInt8 := dkwX9_book_4 ++ dktX9_book_5
def dkwX9_book_3 : List UInt8 := [61, 3, 62, 28, 42, 180, 1, 105, 162, 0, 25, 29, 154, 0, 21, 42, 7, 28, 104, 182, 1, 114, 62, 29]
abbrev dktX9_book_3 : List UInt8 := dkwX9_book_3 ++ dktX9_book_4
def dkwX9_book_2 : List UInt8 := [42, 180, 0, 143, 100, 172, 42, 89, 180, 1, 105, 4, 96, 181, 1, 105, 167, 255, 224, 42, 182, 1, 73, 3]
abbrev dktX9_book_2 : List UInt8 := dkwX9_book_2 ++ dktX9_book_3
def dkwX9_book_1 : List UInt8 := [182, 0, 216, 42, 3, 181, 1, 105, 42, 180, 0, 104, 153, 0, 31, 42, 182, 1, 111, 154, 0, 11, 16, 254]
abbrev dktX9_book_1 : List UInt8 := dkwX9_book_1 ++ dktX9_book_2
def dkwX9_book_0 : List UInt8 := [42, 3, 181, 0, 82, 27, 3, 4, 184, 0, 149, 154, 0, 7, 17, 252, 24, 172, 42, 17, 1, 144]
abbrev dktX9_book_0 : List UInt8 := dkwX9_book_0 ++ dktX9_book_1
theorem dksX9_book_0 : cX9_book.data.toList.drop 0 = dktX9_book_0 := by decide +kernel
theorem dksX9_book_1 : cX9_book.data.toList.drop 22 = dktX9_book_1 := dk_seg dksX9_book_0 22 rfl rfl
theorem dksX9_book_2 : cX9_book.data.toList.drop 46 = dktX9_book_2 := dk_seg dksX9_book_1 24 rfl rfl
theorem dksX9_book_3 : cX9_book.data.toList.drop 70 = dktX9_book_3 := dk_seg dksX9_book_2 24 rfl rfl
theorem dksX9_book_4 : cX9_book.data.toList.drop 94 = dktX9_book_4 := dk_seg dksX9_book_3 24 rfl rfl
theorem dksX9_book_5 : cX9_book.data.toList.drop 118 = dktX9_book_5 := dk_seg dksX9_book_4 24 rfl rfl
theorem dksX9_book_6 : cX9_book.data.toList.drop 142 = dktX9_book_6 := dk_seg dksX9_book_5 24 rfl rfl
theorem dksX9_book_7 : cX9_book.data.toList.drop 166 = dktX9_book_7 := dk_seg dksX9_book_6 24 rfl rfl
theorem dX9_book_0 : decode cX9_book 0 = .ok (.aload_n 0, 1) := dk_42 (dk_at dksX9_book_0 0 rfl rfl)
theorem dX9_book_1 : decode cX9_book 1 = .ok (.iconst 0, 1) := dk_3 (dk_at dksX9_book_0 1 rfl rfl)
theorem dX9_book_2 : decode cX9_book 2 = .ok (.putfield 82, 3) := dk_181 0 82 (dk_at dksX9_book_0 2 rfl rfl)
theorem dX9_book_5 : decode cX9_book 5 = .ok (.iload_n 1, 1) := dk_27 (dk_at dksX9_book_0 5 rfl rfl)
theorem dX9_book_6 : decode cX9_book 6 = .ok (.iconst 0, 1) := dk_3 (dk_at dksX9_book_0 6 rfl rfl)
theorem dX9_book_7 : decode cX9_book 7 = .ok (.iconst 1, 1) := dk_4 (dk_at dksX9_book_0 7 rfl rfl)
theorem dX9_book_8 : decode cX9_book 8 = .ok (.invokestatic 149, 3) := dk_184 0 149 (dk_at dksX9_book_0 8 rfl rfl)
theorem dX9_book_11 : decode cX9_book 11 = .ok (.ifCond .ne 7, 3) := dk_154 0 7 (dk_at dksX9_book_0 11 rfl rfl)
theorem dX9_book_14 : decode cX9_book 14 = .ok (.sipush (-1000), 3) := dk_17 252 24 (dk_at dksX9_book_0 14 rfl rfl)
theorem dX9_book_17 : decode cX9_book 17 = .ok (.ireturn, 1) := dk_172 (dk_at dksX9_book_0 17 rfl rfl)
theorem dX9_book_18 : decode cX9_book 18 = .ok (.aload_n 0, 1) := dk_42 (dk_at dksX9_book_0 18 rfl rfl)
theorem dX9_book_19 : decode cX9_book 19 = .ok (.sipush 400, 3) := dk_17 1 144 (dk_at dksX9_book_0 19 rfl rfl)
theorem dX9_book_22 : decode cX9_book 22 = .ok (.invokevirtual 216, 3) := dk_182 0 216 (dk_at dksX9_book_1 0 rfl rfl)
theorem dX9_book_25 : decode cX9_book 25 = .ok (.aload_n 0, 1) := dk_42 (dk_at dksX9_book_1 3 rfl rfl)
theorem dX9_book_26 : decode cX9_book 26 = .ok (.iconst 0, 1) := dk_3 (dk_at dksX9_book_1 4 rfl rfl)
theorem dX9_book_27 : decode cX9_book 27 = .ok (.putfield 361, 3) := dk_181 1 105 (dk_at dksX9_book_1 5 rfl rfl)
theorem dX9_book_30 : decode cX9_book 30 = .ok (.aload_n 0, 1) := dk_42 (dk_at dksX9_book_1 8 rfl rfl)
theorem dX9_book_31 : decode cX9_book 31 = .ok (.getfield 104, 3) := dk_180 0 104 (dk_at dksX9_book_1 9 rfl rfl)
theorem dX9_book_34 : decode cX9_book 34 = .ok (.ifCond .eq 31, 3) := dk_153 0 31 (dk_at dksX9_book_1 12 rfl rfl)
theorem dX9_book_37 : decode cX9_book 37 = .ok (.aload_n 0, 1) := dk_42 (dk_at dksX9_book_1 15 rfl rfl)
theorem dX9_book_38 : decode cX9_book 38 = .ok (.invokevirtual 367, 3) := dk_182 1 111 (dk_at dksX9_book_1 16 rfl rfl)
theorem dX9_book_41 : decode cX9_book 41 = .ok (.ifCond .ne 11, 3) := dk_154 0 11 (dk_at dksX9_book_1 19 rfl rfl)
theorem dX9_book_44 : decode cX9_book 44 = .ok (.bipush (-2), 2) := dk_16 254 (dk_at dksX9_book_1 22 rfl rfl)
theorem dX9_book_46 : decode cX9_book 46 = .ok (.aload_n 0, 1) := dk_42 (dk_at dksX9_book_2 0 rfl rfl)
theorem dX9_book_47 : decode cX9_book 47 = .ok (.getfield 143, 3) := dk_180 0 143 (dk_at dksX9_book_2 1 rfl rfl)
theorem dX9_book_50 : decode cX9_book 50 = .ok (.isub, 1) := dk_100 (dk_at dksX9_book_2 4 rfl rfl)
theorem dX9_book_51 : decode cX9_book 51 = .ok (.ireturn, 1) := dk_172 (dk_at dksX9_book_2 5 rfl rfl)
theorem dX9_book_52 : decode cX9_book 52 = .ok (.aload_n 0, 1) := dk_42 (dk_at dksX9_book_2 6 rfl rfl)
theorem dX9_book_53 : decode cX9_book 53 = .ok (.dup, 1) := dk_89 (dk_at dksX9_book_2 7 rfl rfl)
theorem dX9_book_54 : decode cX9_book 54 = .ok (.getfield 361, 3) := dk_180 1 105 (dk_at dksX9_book_2 8 rfl rfl)
theorem dX9_book_57 : decode cX9_book 57 = .ok (.iconst 1, 1) := dk_4 (dk_at dksX9_book_2 11 rfl rfl)
theorem dX9_book_58 : decode cX9_book 58 = .ok (.iadd, 1) := dk_96 (dk_at dksX9_book_2 12 rfl rfl)
theorem dX9_book_59 : decode cX9_book 59 = .ok (.putfield 361, 3) := dk_181 1 105 (dk_at dksX9_book_2 13 rfl rfl)
theorem dX9_book_62 : decode cX9_book 62 = .ok (.goto (-32), 3) := dk_167 255 224 (dk_at dksX9_book_2 16 rfl rfl)
theorem dX9_book_65 : decode cX9_book 65 = .ok (.aload_n 0, 1) := dk_42 (dk_at dksX9_book_2 19 rfl rfl)
theorem dX9_book_66 : decode cX9_book 66 = .ok (.invokevirtual 329, 3) := dk_182 1 73 (dk_at dksX9_book_2 20 rfl rfl)
theorem dX9_book_69 : decode cX9_book 69 = .ok (.iconst 0, 1) := dk_3 (dk_at dksX9_book_2 23 rfl rfl)
theorem dX9_book_70 : decode cX9_book 70 = .ok (.istore_n 2, 1) := dk_61 (dk_at dksX9_book_3 0 rfl rfl)
theorem dX9_book_71 : decode cX9_book 71 = .ok (.iconst 0, 1) := dk_3 (dk_at dksX9_book_3 1 rfl rfl)
theorem dX9_book_72 : decode cX9_book 72 = .ok (.istore_n 3, 1) := dk_62 (dk_at dksX9_book_3 2 rfl rfl)
theorem dX9_book_73 : decode cX9_book 73 = .ok (.iload_n 2, 1) := dk_28 (dk_at dksX9_book_3 3 rfl rfl)
theorem dX9_book_74 : decode cX9_book 74 = .ok (.aload_n 0, 1) := dk_42 (dk_at dksX9_book_3 4 rfl rfl)
theorem dX9_book_75 : decode cX9_book 75 = .ok (.getfield 361, 3) := dk_180 1 105 (dk_at dksX9_book_3 5 rfl rfl)
theorem dX9_book_78 : decode cX9_book 78 = .ok (.if_icmp .ge 25, 3) := dk_162 0 25 (dk_at dksX9_book_3 8 rfl rfl)
theorem dX9_book_81 : decode cX9_book 81 = .ok (.iload_n 3, 1) := dk_29 (dk_at dksX9_book_3 11 rfl rfl)
theorem dX9_book_82 : decode cX9_book 82 = .ok (.ifCond .ne 21, 3) := dk_154 0 21 (dk_at dksX9_book_3 12 rfl rfl)
theorem dX9_book_85 : decode cX9_book 85 = .ok (.aload_n 0, 1) := dk_42 (dk_at dksX9_book_3 15 rfl rfl)
theorem dX9_book_86 : decode cX9_book 86 = .ok (.iconst 4, 1) := dk_7 (dk_at dksX9_book_3 16 rfl rfl)
theorem dX9_book_87 : decode cX9_book 87 = .ok (.iload_n 2, 1) := dk_28 (dk_at dksX9_book_3 17 rfl rfl)
theorem dX9_book_88 : decode cX9_book 88 = .ok (.imul, 1) := dk_104 (dk_at dksX9_book_3 18 rfl rfl)
theorem dX9_book_89 : decode cX9_book 89 = .ok (.invokevirtual 370, 3) := dk_182 1 114 (dk_at dksX9_book_3 19 rfl rfl)
theorem dX9_book_92 : decode cX9_book 92 = .ok (.istore_n 3, 1) := dk_62 (dk_at dksX9_book_3 22 rfl rfl)
theorem dX9_book_93 : decode cX9_book 93 = .ok (.iload_n 3, 1) := dk_29 (dk_at dksX9_book_3 23 rfl rfl)
theorem dX9_book_94 : decode cX9_book 94 = .ok (.ifCond .ne (-21), 3) := dk_154 255 235 (dk_at dksX9_book_4 0 rfl rfl)
theorem dX9_book_97 : decode cX9_book 97 = .ok (.iinc 2 1, 3) := dk_132 2 1 (dk_at dksX9_book_4 3 rfl rfl)
theorem dX9_book_100 : decode cX9_book 100 = .ok (.goto (-27), 3) := dk_167 255 229 (dk_at dksX9_book_4 6 rfl rfl)
theorem dX9_book_103 : decode cX9_book 103 = .ok (.aload_n 0, 1) := dk_42 (dk_at dksX9_book_4 9 rfl rfl)
theorem dX9_book_104 : decode cX9_book 104 = .ok (.getfield 76, 3) := dk_180 0 76 (dk_at dksX9_book_4 10 rfl rfl)
theorem dX9_book_107 : decode cX9_book 107 = .ok (.iconst 0, 1) := dk_3 (dk_at dksX9_book_4 13 rfl rfl)
theorem dX9_book_108 : decode cX9_book 108 = .ok (.iload_n 3, 1) := dk_29 (dk_at dksX9_book_4 14 rfl rfl)
theorem dX9_book_109 : decode cX9_book 109 = .ok (.iastore, 1) := dk_79 (dk_at dksX9_book_4 15 rfl rfl)
theorem dX9_book_110 : decode cX9_book 110 = .ok (.aload_n 0, 1) := dk_42 (dk_at dksX9_book_4 16 rfl rfl)
theorem dX9_book_111 : decode cX9_book 111 = .ok (.getfield 76, 3) := dk_180 0 76 (dk_at dksX9_book_4 17 rfl rfl)
theorem dX9_book_114 : decode cX9_book 114 = .ok (.iconst 1, 1) := dk_4 (dk_at dksX9_book_4 20 rfl rfl)
theorem dX9_book_115 : decode cX9_book 115 = .ok (.iload_n 2, 1) := dk_28 (dk_at dksX9_book_4 21 rfl rfl)
theorem dX9_book_116 : decode cX9_book 116 = .ok (.iastore, 1) := dk_79 (dk_at dksX9_book_4 22 rfl rfl)
theorem dX9_book_117 : decode cX9_book 117 = .ok (.aload_n 0, 1) := dk_42 (dk_at dksX9_book_4 23 rfl rfl)
theorem dX9_book_118 : decode cX9_book 118 = .ok (.getfield 76, 3) := dk_180 0 76 (dk_at dksX9_book_5 0 rfl rfl)
theorem dX9_book_121 : decode cX9_book 121 = .ok (.iconst 2, 1) := dk_5 (dk_at dksX9_book_5 3 rfl rfl)
theorem dX9_book_122 : decode cX9_book 122 = .ok (.aload_n 0, 1) := dk_42 (dk_at dksX9_book_5 4 rfl rfl)
theorem dX9_book_123 : decode cX9_book 123 = .ok (.getfield 13, 3) := dk_180 0 13 (dk_at dksX9_book_5 5 rfl rfl)
theorem dX9_book_126 : decode cX9_book 126 = .ok (.bipush 72, 2) := dk_16 72 (dk_at dksX9_book_5 8 rfl rfl)
theorem dX9_book_128 : decode cX9_book 128 = .ok (.iaload, 1) := dk_46 (dk_at dksX9_book_5 10 rfl rfl)
theorem dX9_book_129 : decode cX9_book 129 = .ok (.iastore, 1) := dk_79 (dk_at dksX9_book_5 11 rfl rfl)
theorem dX9_book_130 : decode cX9_book 130 = .ok (.aload_n 0, 1) := dk_42 (dk_at dksX9_book_5 12 rfl rfl)
theorem dX9_book_131 : decode cX9_book 131 = .ok (.getfield 76, 3) := dk_180 0 76 (dk_at dksX9_book_5 13 rfl rfl)
theorem dX9_book_134 : decode cX9_book 134 = .ok (.iconst 3, 1) := dk_6 (dk_at dksX9_book_5 16 rfl rfl)
theorem dX9_book_135 : decode cX9_book 135 = .ok (.aload_n 0, 1) := dk_42 (dk_at dksX9_book_5 17 rfl rfl)
theorem dX9_book_136 : decode cX9_book 136 = .ok (.getfield 13, 3) := dk_180 0 13 (dk_at dksX9_book_5 18 rfl rfl)
theorem dX9_book_139 : decode cX9_book 139 = .ok (.bipush 73, 2) := dk_16 73 (dk_at dksX9_book_5 21 rfl rfl)
theorem dX9_book_141 : decode cX9_book 141 = .ok (.iaload, 1) := dk_46 (dk_at dksX9_book_5 23 rfl rfl)
theorem dX9_book_142 : decode cX9_book 142 = .ok (.iastore, 1) := dk_79 (dk_at dksX9_book_6 0 rfl rfl)
theorem dX9_book_143 : decode cX9_book 143 = .ok (.aload_n 0, 1) := dk_42 (dk_at dksX9_book_6 1 rfl rfl)
theorem dX9_book_144 : decode cX9_book 144 = .ok (.iconst 1, 1) := dk_4 (dk_at dksX9_book_6 2 rfl rfl)
theorem dX9_book_145 : decode cX9_book 145 = .ok (.putfield 373, 3) := dk_181 1 117 (dk_at dksX9_book_6 3 rfl rfl)
theorem dX9_book_148 : decode cX9_book 148 = .ok (.aload_n 0, 1) := dk_42 (dk_at dksX9_book_6 6 rfl rfl)
theorem dX9_book_149 : decode cX9_book 149 = .ok (.iload_n 1, 1) := dk_27 (dk_at dksX9_book_6 7 rfl rfl)
theorem dX9_book_150 : decode cX9_book 150 = .ok (.iconst 1, 1) := dk_4 (dk_at dksX9_book_6 8 rfl rfl)
theorem dX9_book_151 : decode cX9_book 151 = .ok (.if_icmp .ne 11, 3) := dk_160 0 11 (dk_at dksX9_book_6 9 rfl rfl)
theorem dX9_book_154 : decode cX9_book 154 = .ok (.iload_n 2, 1) := dk_28 (dk_at dksX9_book_6 12 rfl rfl)
theorem dX9_book_155 : decode cX9_book 155 = .ok (.ifCond .le 7, 3) := dk_158 0 7 (dk_at dksX9_book_6 13 rfl rfl)
theorem dX9_book_158 : decode cX9_book 158 = .ok (.iconst 1, 1) := dk_4 (dk_at dksX9_book_6 16 rfl rfl)
theorem dX9_book_159 : decode cX9_book 159 = .ok (.goto 4, 3) := dk_167 0 4 (dk_at dksX9_book_6 17 rfl rfl)
theorem dX9_book_162 : decode cX9_book 162 = .ok (.iconst 0, 1) := dk_3 (dk_at dksX9_book_6 20 rfl rfl)
theorem dX9_book_163 : decode cX9_book 163 = .ok (.invokevirtual 376, 3) := dk_182 1 120 (dk_at dksX9_book_6 21 rfl rfl)
theorem dX9_book_166 : decode cX9_book 166 = .ok (.iload_n 3, 1) := dk_29 (dk_at dksX9_book_7 0 rfl rfl)
theorem dX9_book_167 : decode cX9_book 167 = .ok (.ifCond .ne 7, 3) := dk_154 0 7 (dk_at dksX9_book_7 1 rfl rfl)
theorem dX9_book_170 : decode cX9_book 170 = .ok (.iconst (-1), 1) := dk_2 (dk_at dksX9_book_7 4 rfl rfl)
theorem dX9_book_171 : decode cX9_book 171 = .ok (.goto 4, 3) := dk_167 0 4 (dk_at dksX9_book_7 5 rfl rfl)
theorem dX9_book_174 : decode cX9_book 174 = .ok (.iload_n 2, 1) := dk_28 (dk_at dksX9_book_7 8 rfl rfl)
theorem dX9_book_175 : decode cX9_book 175 = .ok (.ireturn, 1) := dk_172 (dk_at dksX9_book_7 9 rfl rfl)
abbrev cX9_readBookLine : ByteArray := prog_25_method_102_code
def yX9_readBookLine : MethodName := ⟨RX9, "readBookLine", "()Z"⟩
def dkwX9_readBookLine_7 : List UInt8 := [172, 42, 180, 0, 73, 28, 6, 96, 42, 180, 0, 153, 79, 42, 182, 0, 222, 172]
abbrev dktX9_readBookLine_7 : List UInt8 := dkwX9_readBookLine_7 ++ []
def dkwX9_readBookLine_6 : List UInt8 := [42, 182, 0, 222, 153, 0, 7, 4, 167, 0, 4, 3, 172, 42, 4, 16, 60, 182, 0, 184, 154, 0, 5, 3]
abbrev dktX9_readBookLine_6 : List UInt8 := dkwX9_readBookLine_6 ++ dktX9_readBookLine_7
def dkwX9_readBookLine_5 : List UInt8 := [180, 0, 73, 28, 5, 96, 3, 79, 42, 182, 0, 156, 27, 154, 0, 24, 42, 28, 182, 1, 108, 153, 0, 14]
abbrev dktX9_readBookLine_5 : List UInt8 := dkwX9_readBookLine_5 ++ dktX9_readBookLine_6
def dkwX9_readBookLine_4 : List UInt8 := [167, 0, 21, 42, 180, 0, 28, 3, 42, 180, 0, 13, 3, 46, 42, 180, 0, 117, 184, 0, 170, 79, 42]
abbrev dktX9_readBookLine_4 : List UInt8 := dkwX9_readBookLine_4 ++ dktX9_readBookLine_5
def dkwX9_readBookLine_3 : List UInt8 := [104, 61, 42, 180, 0, 73, 28, 16, 6, 79, 42, 180, 0, 73, 28, 4, 96, 27, 153, 0, 7, 3]
abbrev dktX9_readBookLine_3 : List UInt8 := dkwX9_readBookLine_3 ++ dktX9_readBookLine_4
def dkwX9_readBookLine_2 : List UInt8 := [182, 0, 146, 172, 42, 180, 1, 105, 16, 40, 160, 0, 9, 42, 7, 182, 0, 146, 172, 7, 42, 180, 1, 105]
abbrev dktX9_readBookLine_2 : List UInt8 := dkwX9_readBookLine_2 ++ dktX9_readBookLine_3
def dkwX9_readBookLine_1 : List UInt8 := [42, 180, 0, 28, 3, 42, 180, 0, 13, 3, 46, 42, 180, 0, 117, 184, 0, 170, 2, 160, 0, 9, 42, 6]
abbrev dktX9_readBookLine_1 : List UInt8 := dkwX9_readBookLine_1 ++ dktX9_readBookLine_2
def dkwX9_readBookLine_0 : List UInt8 := [42, 16, 15, 182, 0, 191, 60, 27, 154, 0, 44, 42, 182, 0, 166, 154, 0, 9, 42, 4, 182, 0, 146, 172]
abbrev dktX9_readBookLine_0 : List UInt8 := dkwX9_readBookLine_0 ++ dktX9_readBookLine_1
theorem dksX9_readBookLine_0 : cX9_readBookLine.data.toList.drop 0 = dktX9_readBookLine_0 := by decide +kernel
theorem dksX9_readBookLine_1 : cX9_readBookLine.data.toList.drop 24 = dktX9_readBookLine_1 := dk_seg dksX9_readBookLine_0 24 rfl rfl
theorem dksX9_readBookLine_2 : cX9_readBookLine.data.toList.drop 48 = dktX9_readBookLine_2 := dk_seg dksX9_readBookLine_1 24 rfl rfl
theorem dksX9_readBookLine_3 : cX9_readBookLine.data.toList.drop 72 = dktX9_readBookLine_3 := dk_seg dksX9_readBookLine_2 24 rfl rfl
theorem dksX9_readBookLine_4 : cX9_readBookLine.data.toList.drop 94 = dktX9_readBookLine_4 := dk_seg dksX9_readBookLine_3 22 rfl rfl
theorem dksX9_readBookLine_5 : cX9_readBookLine.data.toList.drop 117 = dktX9_readBookLine_5 := dk_seg dksX9_readBookLine_4 23 rfl rfl
theorem dksX9_readBookLine_6 : cX9_readBookLine.data.toList.drop 141 = dktX9_readBookLine_6 := dk_seg dksX9_readBookLine_5 24 rfl rfl
theorem dksX9_readBookLine_7 : cX9_readBookLine.data.toList.drop 165 = dktX9_readBookLine_7 := dk_seg dksX9_readBookLine_6 24 rfl rfl
theorem dX9_readBookLine_0 : decode cX9_readBookLine 0 = .ok (.aload_n 0, 1) := dk_42 (dk_at dksX9_readBookLine_0 0 rfl rfl)
theorem dX9_readBookLine_1 : decode cX9_readBookLine 1 = .ok (.bipush 15, 2) := dk_16 15 (dk_at dksX9_readBookLine_0 1 rfl rfl)
theorem dX9_readBookLine_3 : decode cX9_readBookLine 3 = .ok (.invokevirtual 191, 3) := dk_182 0 191 (dk_at dksX9_readBookLine_0 3 rfl rfl)
theorem dX9_readBookLine_6 : decode cX9_readBookLine 6 = .ok (.istore_n 1, 1) := dk_60 (dk_at dksX9_readBookLine_0 6 rfl rfl)
theorem dX9_readBookLine_7 : decode cX9_readBookLine 7 = .ok (.iload_n 1, 1) := dk_27 (dk_at dksX9_readBookLine_0 7 rfl rfl)
theorem dX9_readBookLine_8 : decode cX9_readBookLine 8 = .ok (.ifCond .ne 44, 3) := dk_154 0 44 (dk_at dksX9_readBookLine_0 8 rfl rfl)
theorem dX9_readBookLine_11 : decode cX9_readBookLine 11 = .ok (.aload_n 0, 1) := dk_42 (dk_at dksX9_readBookLine_0 11 rfl rfl)
theorem dX9_readBookLine_12 : decode cX9_readBookLine 12 = .ok (.invokevirtual 166, 3) := dk_182 0 166 (dk_at dksX9_readBookLine_0 12 rfl rfl)
theorem dX9_readBookLine_15 : decode cX9_readBookLine 15 = .ok (.ifCond .ne 9, 3) := dk_154 0 9 (dk_at dksX9_readBookLine_0 15 rfl rfl)
theorem dX9_readBookLine_18 : decode cX9_readBookLine 18 = .ok (.aload_n 0, 1) := dk_42 (dk_at dksX9_readBookLine_0 18 rfl rfl)
theorem dX9_readBookLine_19 : decode cX9_readBookLine 19 = .ok (.iconst 1, 1) := dk_4 (dk_at dksX9_readBookLine_0 19 rfl rfl)
theorem dX9_readBookLine_20 : decode cX9_readBookLine 20 = .ok (.invokevirtual 146, 3) := dk_182 0 146 (dk_at dksX9_readBookLine_0 20 rfl rfl)
theorem dX9_readBookLine_23 : decode cX9_readBookLine 23 = .ok (.ireturn, 1) := dk_172 (dk_at dksX9_readBookLine_0 23 rfl rfl)
theorem dX9_readBookLine_24 : decode cX9_readBookLine 24 = .ok (.aload_n 0, 1) := dk_42 (dk_at dksX9_readBookLine_1 0 rfl rfl)
theorem dX9_readBookLine_25 : decode cX9_readBookLine 25 = .ok (.getfield 28, 3) := dk_180 0 28 (dk_at dksX9_readBookLine_1 1 rfl rfl)
theorem dX9_readBookLine_28 : decode cX9_readBookLine 28 = .ok (.iconst 0, 1) := dk_3 (dk_at dksX9_readBookLine_1 4 rfl rfl)
theorem dX9_readBookLine_29 : decode cX9_readBookLine 29 = .ok (.aload_n 0, 1) := dk_42 (dk_at dksX9_readBookLine_1 5 rfl rfl)
theorem dX9_readBookLine_30 : decode cX9_readBookLine 30 = .ok (.getfield 13, 3) := dk_180 0 13 (dk_at dksX9_readBookLine_1 6 rfl rfl)
theorem dX9_readBookLine_33 : decode cX9_readBookLine 33 = .ok (.iconst 0, 1) := dk_3 (dk_at dksX9_readBookLine_1 9 rfl rfl)
theorem dX9_readBookLine_34 : decode cX9_readBookLine 34 = .ok (.iaload, 1) := dk_46 (dk_at dksX9_readBookLine_1 10 rfl rfl)
theorem dX9_readBookLine_35 : decode cX9_readBookLine 35 = .ok (.aload_n 0, 1) := dk_42 (dk_at dksX9_readBookLine_1 11 rfl rfl)
theorem dX9_readBookLine_36 : decode cX9_readBookLine 36 = .ok (.getfield 117, 3) := dk_180 0 117 (dk_at dksX9_readBookLine_1 12 rfl rfl)
theorem dX9_readBookLine_39 : decode cX9_readBookLine 39 = .ok (.invokestatic 170, 3) := dk_184 0 170 (dk_at dksX9_readBookLine_1 15 rfl rfl)
theorem dX9_readBookLine_42 : decode cX9_readBookLine 42 = .ok (.iconst (-1), 1) := dk_2 (dk_at dksX9_readBookLine_1 18 rfl rfl)
theorem dX9_readBookLine_43 : decode cX9_readBookLine 43 = .ok (.if_icmp .ne 9, 3) := dk_160 0 9 (dk_at dksX9_readBookLine_1 19 rfl rfl)
theorem dX9_readBookLine_46 : decode cX9_readBookLine 46 = .ok (.aload_n 0, 1) := dk_42 (dk_at dksX9_readBookLine_1 22 rfl rfl)
theorem dX9_readBookLine_47 : decode cX9_readBookLine 47 = .ok (.iconst 3, 1) := dk_6 (dk_at dksX9_readBookLine_1 23 rfl rfl)
theorem dX9_readBookLine_48 : decode cX9_readBookLine 48 = .ok (.invokevirtual 146, 3) := dk_182 0 146 (dk_at dksX9_readBookLine_2 0 rfl rfl)
theorem dX9_readBookLine_51 : decode cX9_readBookLine 51 = .ok (.ireturn, 1) := dk_172 (dk_at dksX9_readBookLine_2 3 rfl rfl)
theorem dX9_readBookLine_52 : decode cX9_readBookLine 52 = .ok (.aload_n 0, 1) := dk_42 (dk_at dksX9_readBookLine_2 4 rfl rfl)
theorem dX9_readBookLine_53 : decode cX9_readBookLine 53 = .ok (.getfield 361, 3) := dk_180 1 105 (dk_at dksX9_readBookLine_2 5 rfl rfl)
theorem dX9_readBookLine_56 : decode cX9_readBookLine 56 = .ok (.bipush 40, 2) := dk_16 40 (dk_at dksX9_readBookLine_2 8 rfl rfl)
theorem dX9_readBookLine_58 : decode cX9_readBookLine 58 = .ok (.if_icmp .ne 9, 3) := dk_160 0 9 (dk_at dksX9_readBookLine_2 10 rfl rfl)
theorem dX9_readBookLine_61 : decode cX9_readBookLine 61 = .ok (.aload_n 0, 1) := dk_42 (dk_at dksX9_readBookLine_2 13 rfl rfl)
theorem dX9_readBookLine_62 : decode cX9_readBookLine 62 = .ok (.iconst 4, 1) := dk_7 (dk_at dksX9_readBookLine_2 14 rfl rfl)
theorem dX9_readBookLine_63 : decode cX9_readBookLine 63 = .ok (.invokevirtual 146, 3) := dk_182 0 146 (dk_at dksX9_readBookLine_2 15 rfl rfl)
theorem dX9_readBookLine_66 : decode cX9_readBookLine 66 = .ok (.ireturn, 1) := dk_172 (dk_at dksX9_readBookLine_2 18 rfl rfl)
theorem dX9_readBookLine_67 : decode cX9_readBookLine 67 = .ok (.iconst 4, 1) := dk_7 (dk_at dksX9_readBookLine_2 19 rfl rfl)
theorem dX9_readBookLine_68 : decode cX9_readBookLine 68 = .ok (.aload_n 0, 1) := dk_42 (dk_at dksX9_readBookLine_2 20 rfl rfl)
theorem dX9_readBookLine_69 : decode cX9_readBookLine 69 = .ok (.getfield 361, 3) := dk_180 1 105 (dk_at dksX9_readBookLine_2 21 rfl rfl)
theorem dX9_readBookLine_72 : decode cX9_readBookLine 72 = .ok (.imul, 1) := dk_104 (dk_at dksX9_readBookLine_3 0 rfl rfl)
theorem dX9_readBookLine_73 : decode cX9_readBookLine 73 = .ok (.istore_n 2, 1) := dk_61 (dk_at dksX9_readBookLine_3 1 rfl rfl)
theorem dX9_readBookLine_74 : decode cX9_readBookLine 74 = .ok (.aload_n 0, 1) := dk_42 (dk_at dksX9_readBookLine_3 2 rfl rfl)
theorem dX9_readBookLine_75 : decode cX9_readBookLine 75 = .ok (.getfield 73, 3) := dk_180 0 73 (dk_at dksX9_readBookLine_3 3 rfl rfl)
theorem dX9_readBookLine_78 : decode cX9_readBookLine 78 = .ok (.iload_n 2, 1) := dk_28 (dk_at dksX9_readBookLine_3 6 rfl rfl)
theorem dX9_readBookLine_79 : decode cX9_readBookLine 79 = .ok (.bipush 6, 2) := dk_16 6 (dk_at dksX9_readBookLine_3 7 rfl rfl)
theorem dX9_readBookLine_81 : decode cX9_readBookLine 81 = .ok (.iastore, 1) := dk_79 (dk_at dksX9_readBookLine_3 9 rfl rfl)
theorem dX9_readBookLine_82 : decode cX9_readBookLine 82 = .ok (.aload_n 0, 1) := dk_42 (dk_at dksX9_readBookLine_3 10 rfl rfl)
theorem dX9_readBookLine_83 : decode cX9_readBookLine 83 = .ok (.getfield 73, 3) := dk_180 0 73 (dk_at dksX9_readBookLine_3 11 rfl rfl)
theorem dX9_readBookLine_86 : decode cX9_readBookLine 86 = .ok (.iload_n 2, 1) := dk_28 (dk_at dksX9_readBookLine_3 14 rfl rfl)
theorem dX9_readBookLine_87 : decode cX9_readBookLine 87 = .ok (.iconst 1, 1) := dk_4 (dk_at dksX9_readBookLine_3 15 rfl rfl)
theorem dX9_readBookLine_88 : decode cX9_readBookLine 88 = .ok (.iadd, 1) := dk_96 (dk_at dksX9_readBookLine_3 16 rfl rfl)
theorem dX9_readBookLine_89 : decode cX9_readBookLine 89 = .ok (.iload_n 1, 1) := dk_27 (dk_at dksX9_readBookLine_3 17 rfl rfl)
theorem dX9_readBookLine_90 : decode cX9_readBookLine 90 = .ok (.ifCond .eq 7, 3) := dk_153 0 7 (dk_at dksX9_readBookLine_3 18 rfl rfl)
theorem dX9_readBookLine_93 : decode cX9_readBookLine 93 = .ok (.iconst 0, 1) := dk_3 (dk_at dksX9_readBookLine_3 21 rfl rfl)
theorem dX9_readBookLine_94 : decode cX9_readBookLine 94 = .ok (.goto 21, 3) := dk_167 0 21 (dk_at dksX9_readBookLine_4 0 rfl rfl)
theorem dX9_readBookLine_97 : decode cX9_readBookLine 97 = .ok (.aload_n 0, 1) := dk_42 (dk_at dksX9_readBookLine_4 3 rfl rfl)
theorem dX9_readBookLine_98 : decode cX9_readBookLine 98 = .ok (.getfield 28, 3) := dk_180 0 28 (dk_at dksX9_readBookLine_4 4 rfl rfl)
theorem dX9_readBookLine_101 : decode cX9_readBookLine 101 = .ok (.iconst 0, 1) := dk_3 (dk_at dksX9_readBookLine_4 7 rfl rfl)
theorem dX9_readBookLine_102 : decode cX9_readBookLine 102 = .ok (.aload_n 0, 1) := dk_42 (dk_at dksX9_readBookLine_4 8 rfl rfl)
theorem dX9_readBookLine_103 : decode cX9_readBookLine 103 = .ok (.getfield 13, 3) := dk_180 0 13 (dk_at dksX9_readBookLine_4 9 rfl rfl)
theorem dX9_readBookLine_106 : decode cX9_readBookLine 106 = .ok (.iconst 0, 1) := dk_3 (dk_at dksX9_readBookLine_4 12 rfl rfl)
theorem dX9_readBookLine_107 : decode cX9_readBookLine 107 = .ok (.iaload, 1) := dk_46 (dk_at dksX9_readBookLine_4 13 rfl rfl)
theorem dX9_readBookLine_108 : decode cX9_readBookLine 108 = .ok (.aload_n 0, 1) := dk_42 (dk_at dksX9_readBookLine_4 14 rfl rfl)
theorem dX9_readBookLine_109 : decode cX9_readBookLine 109 = .ok (.getfield 117, 3) := dk_180 0 117 (dk_at dksX9_readBookLine_4 15 rfl rfl)
theorem dX9_readBookLine_112 : decode cX9_readBookLine 112 = .ok (.invokestatic 170, 3) := dk_184 0 170 (dk_at dksX9_readBookLine_4 18 rfl rfl)
theorem dX9_readBookLine_115 : decode cX9_readBookLine 115 = .ok (.iastore, 1) := dk_79 (dk_at dksX9_readBookLine_4 21 rfl rfl)
theorem dX9_readBookLine_116 : decode cX9_readBookLine 116 = .ok (.aload_n 0, 1) := dk_42 (dk_at dksX9_readBookLine_4 22 rfl rfl)
theorem dX9_readBookLine_117 : decode cX9_readBookLine 117 = .ok (.getfield 73, 3) := dk_180 0 73 (dk_at dksX9_readBookLine_5 0 rfl rfl)
theorem dX9_readBookLine_120 : decode cX9_readBookLine 120 = .ok (.iload_n 2, 1) := dk_28 (dk_at dksX9_readBookLine_5 3 rfl rfl)
theorem dX9_readBookLine_121 : decode cX9_readBookLine 121 = .ok (.iconst 2, 1) := dk_5 (dk_at dksX9_readBookLine_5 4 rfl rfl)
theorem dX9_readBookLine_122 : decode cX9_readBookLine 122 = .ok (.iadd, 1) := dk_96 (dk_at dksX9_readBookLine_5 5 rfl rfl)
theorem dX9_readBookLine_123 : decode cX9_readBookLine 123 = .ok (.iconst 0, 1) := dk_3 (dk_at dksX9_readBookLine_5 6 rfl rfl)
theorem dX9_readBookLine_124 : decode cX9_readBookLine 124 = .ok (.iastore, 1) := dk_79 (dk_at dksX9_readBookLine_5 7 rfl rfl)
theorem dX9_readBookLine_125 : decode cX9_readBookLine 125 = .ok (.aload_n 0, 1) := dk_42 (dk_at dksX9_readBookLine_5 8 rfl rfl)
theorem dX9_readBookLine_126 : decode cX9_readBookLine 126 = .ok (.invokevirtual 156, 3) := dk_182 0 156 (dk_at dksX9_readBookLine_5 9 rfl rfl)
theorem dX9_readBookLine_129 : decode cX9_readBookLine 129 = .ok (.iload_n 1, 1) := dk_27 (dk_at dksX9_readBookLine_5 12 rfl rfl)
theorem dX9_readBookLine_130 : decode cX9_readBookLine 130 = .ok (.ifCond .ne 24, 3) := dk_154 0 24 (dk_at dksX9_readBookLine_5 13 rfl rfl)
theorem dX9_readBookLine_133 : decode cX9_readBookLine 133 = .ok (.aload_n 0, 1) := dk_42 (dk_at dksX9_readBookLine_5 16 rfl rfl)
theorem dX9_readBookLine_134 : decode cX9_readBookLine 134 = .ok (.iload_n 2, 1) := dk_28 (dk_at dksX9_readBookLine_5 17 rfl rfl)
theorem dX9_readBookLine_135 : decode cX9_readBookLine 135 = .ok (.invokevirtual 364, 3) := dk_182 1 108 (dk_at dksX9_readBookLine_5 18 rfl rfl)
theorem dX9_readBookLine_138 : decode cX9_readBookLine 138 = .ok (.ifCond .eq 14, 3) := dk_153 0 14 (dk_at dksX9_readBookLine_5 21 rfl rfl)
theorem dX9_readBookLine_141 : decode cX9_readBookLine 141 = .ok (.aload_n 0, 1) := dk_42 (dk_at dksX9_readBookLine_6 0 rfl rfl)
theorem dX9_readBookLine_142 : decode cX9_readBookLine 142 = .ok (.invokevirtual 222, 3) := dk_182 0 222 (dk_at dksX9_readBookLine_6 1 rfl rfl)
theorem dX9_readBookLine_145 : decode cX9_readBookLine 145 = .ok (.ifCond .eq 7, 3) := dk_153 0 7 (dk_at dksX9_readBookLine_6 4 rfl rfl)
theorem dX9_readBookLine_148 : decode cX9_readBookLine 148 = .ok (.iconst 1, 1) := dk_4 (dk_at dksX9_readBookLine_6 7 rfl rfl)
theorem dX9_readBookLine_149 : decode cX9_readBookLine 149 = .ok (.goto 4, 3) := dk_167 0 4 (dk_at dksX9_readBookLine_6 8 rfl rfl)
theorem dX9_readBookLine_152 : decode cX9_readBookLine 152 = .ok (.iconst 0, 1) := dk_3 (dk_at dksX9_readBookLine_6 11 rfl rfl)
theorem dX9_readBookLine_153 : decode cX9_readBookLine 153 = .ok (.ireturn, 1) := dk_172 (dk_at dksX9_readBookLine_6 12 rfl rfl)
theorem dX9_readBookLine_154 : decode cX9_readBookLine 154 = .ok (.aload_n 0, 1) := dk_42 (dk_at dksX9_readBookLine_6 13 rfl rfl)
theorem dX9_readBookLine_155 : decode cX9_readBookLine 155 = .ok (.iconst 1, 1) := dk_4 (dk_at dksX9_readBookLine_6 14 rfl rfl)
theorem dX9_readBookLine_156 : decode cX9_readBookLine 156 = .ok (.bipush 60, 2) := dk_16 60 (dk_at dksX9_readBookLine_6 15 rfl rfl)
theorem dX9_readBookLine_158 : decode cX9_readBookLine 158 = .ok (.invokevirtual 184, 3) := dk_182 0 184 (dk_at dksX9_readBookLine_6 17 rfl rfl)
theorem dX9_readBookLine_161 : decode cX9_readBookLine 161 = .ok (.ifCond .ne 5, 3) := dk_154 0 5 (dk_at dksX9_readBookLine_6 20 rfl rfl)
theorem dX9_readBookLine_164 : decode cX9_readBookLine 164 = .ok (.iconst 0, 1) := dk_3 (dk_at dksX9_readBookLine_6 23 rfl rfl)
theorem dX9_readBookLine_165 : decode cX9_readBookLine 165 = .ok (.ireturn, 1) := dk_172 (dk_at dksX9_readBookLine_7 0 rfl rfl)
theorem dX9_readBookLine_166 : decode cX9_readBookLine 166 = .ok (.aload_n 0, 1) := dk_42 (dk_at dksX9_readBookLine_7 1 rfl rfl)
theorem dX9_readBookLine_167 : decode cX9_readBookLine 167 = .ok (.getfield 73, 3) := dk_180 0 73 (dk_at dksX9_readBookLine_7 2 rfl rfl)
theorem dX9_readBookLine_170 : decode cX9_readBookLine 170 = .ok (.iload_n 2, 1) := dk_28 (dk_at dksX9_readBookLine_7 5 rfl rfl)
theorem dX9_readBookLine_171 : decode cX9_readBookLine 171 = .ok (.iconst 3, 1) := dk_6 (dk_at dksX9_readBookLine_7 6 rfl rfl)
theorem dX9_readBookLine_172 : decode cX9_readBookLine 172 = .ok (.iadd, 1) := dk_96 (dk_at dksX9_readBookLine_7 7 rfl rfl)
theorem dX9_readBookLine_173 : decode cX9_readBookLine 173 = .ok (.aload_n 0, 1) := dk_42 (dk_at dksX9_readBookLine_7 8 rfl rfl)
theorem dX9_readBookLine_174 : decode cX9_readBookLine 174 = .ok (.getfield 153, 3) := dk_180 0 153 (dk_at dksX9_readBookLine_7 9 rfl rfl)
theorem dX9_readBookLine_177 : decode cX9_readBookLine 177 = .ok (.iastore, 1) := dk_79 (dk_at dksX9_readBookLine_7 12 rfl rfl)
theorem dX9_readBookLine_178 : decode cX9_readBookLine 178 = .ok (.aload_n 0, 1) := dk_42 (dk_at dksX9_readBookLine_7 13 rfl rfl)
theorem dX9_readBookLine_179 : decode cX9_readBookLine 179 = .ok (.invokevirtual 222, 3) := dk_182 0 222 (dk_at dksX9_readBookLine_7 14 rfl rfl)
theorem dX9_readBookLine_182 : decode cX9_readBookLine 182 = .ok (.ireturn, 1) := dk_172 (dk_at dksX9_readBookLine_7 17 rfl rfl)
abbrev cX9_readDoes : ByteArray := prog_25_method_101_code
def yX9_readDoes : MethodName := ⟨RX9, "readDoes", "(I)Z"⟩
def dkwX9_readDoes_6 : List UInt8 := [182, 0, 184, 154, 0, 5, 3, 172, 42, 180, 0, 73, 27, 6, 96, 42, 180, 0, 153, 79, 4, 172]
abbrev dktX9_readDoes_6 : List UInt8 := dkwX9_readDoes_6 ++ []
def dkwX9_readDoes_5 : List UInt8 := [172, 42, 182, 0, 156, 42, 4, 42, 180, 0, 73, 27, 46, 154, 0, 8, 16, 20, 167, 0, 5, 16, 40]
abbrev dktX9_readDoes_5 : List UInt8 := dkwX9_readDoes_5 ++ dktX9_readDoes_6
def dkwX9_readDoes_4 : List UInt8 := [180, 0, 117, 184, 0, 170, 79, 42, 180, 0, 73, 27, 5, 96, 46, 2, 160, 0, 9, 42, 6, 182, 0, 146]
abbrev dktX9_readDoes_4 : List UInt8 := dkwX9_readDoes_4 ++ dktX9_readDoes_5
def dkwX9_readDoes_3 : List UInt8 := [182, 0, 146, 172, 42, 180, 0, 73, 27, 5, 96, 42, 180, 0, 28, 16, 7, 42, 180, 0, 13, 4, 46, 42]
abbrev dktX9_readDoes_3 : List UInt8 := dkwX9_readDoes_3 ++ dktX9_readDoes_4
def dkwX9_readDoes_2 : List UInt8 := [182, 0, 156, 42, 180, 0, 73, 27, 46, 4, 164, 0, 5, 4, 172, 42, 182, 0, 166, 154, 0, 9, 42, 4]
abbrev dktX9_readDoes_2 : List UInt8 := dkwX9_readDoes_2 ++ dktX9_readDoes_3
def dkwX9_readDoes_1 : List UInt8 := [16, 14, 164, 0, 9, 42, 4, 182, 0, 146, 172, 42, 180, 0, 73, 27, 28, 16, 9, 100, 79, 42]
abbrev dktX9_readDoes_1 : List UInt8 := dkwX9_readDoes_1 ++ dktX9_readDoes_2
def dkwX9_readDoes_0 : List UInt8 := [16, 9, 61, 28, 16, 14, 163, 0, 17, 42, 28, 182, 0, 191, 154, 0, 9, 132, 2, 1, 167, 255, 239, 28]
abbrev dktX9_readDoes_0 : List UInt8 := dkwX9_readDoes_0 ++ dktX9_readDoes_1
theorem dksX9_readDoes_0 : cX9_readDoes.data.toList.drop 0 = dktX9_readDoes_0 := by decide +kernel
theorem dksX9_readDoes_1 : cX9_readDoes.data.toList.drop 24 = dktX9_readDoes_1 := dk_seg dksX9_readDoes_0 24 rfl rfl
theorem dksX9_readDoes_2 : cX9_readDoes.data.toList.drop 46 = dktX9_readDoes_2 := dk_seg dksX9_readDoes_1 22 rfl rfl
theorem dksX9_readDoes_3 : cX9_readDoes.data.toList.drop 70 = dktX9_readDoes_3 := dk_seg dksX9_readDoes_2 24 rfl rfl
theorem dksX9_readDoes_4 : cX9_readDoes.data.toList.drop 94 = dktX9_readDoes_4 := dk_seg dksX9_readDoes_3 24 rfl rfl
theorem dksX9_readDoes_5 : cX9_readDoes.data.toList.drop 118 = dktX9_readDoes_5 := dk_seg dksX9_readDoes_4 24 rfl rfl
theorem dksX9_readDoes_6 : cX9_readDoes.data.toList.drop 141 = dktX9_readDoes_6 := dk_seg dksX9_readDoes_5 23 rfl rfl
theorem dX9_readDoes_0 : decode cX9_readDoes 0 = .ok (.bipush 9, 2) := dk_16 9 (dk_at dksX9_readDoes_0 0 rfl rfl)
theorem dX9_readDoes_2 : decode cX9_readDoes 2 = .ok (.istore_n 2, 1) := dk_61 (dk_at dksX9_readDoes_0 2 rfl rfl)
theorem dX9_readDoes_3 : decode cX9_readDoes 3 = .ok (.iload_n 2, 1) := dk_28 (dk_at dksX9_readDoes_0 3 rfl rfl)
theorem dX9_readDoes_4 : decode cX9_readDoes 4 = .ok (.bipush 14, 2) := dk_16 14 (dk_at dksX9_readDoes_0 4 rfl rfl)
theorem dX9_readDoes_6 : decode cX9_readDoes 6 = .ok (.if_icmp .gt 17, 3) := dk_163 0 17 (dk_at dksX9_readDoes_0 6 rfl rfl)
theorem dX9_readDoes_9 : decode cX9_readDoes 9 = .ok (.aload_n 0, 1) := dk_42 (dk_at dksX9_readDoes_0 9 rfl rfl)
theorem dX9_readDoes_10 : decode cX9_readDoes 10 = .ok (.iload_n 2, 1) := dk_28 (dk_at dksX9_readDoes_0 10 rfl rfl)
theorem dX9_readDoes_11 : decode cX9_readDoes 11 = .ok (.invokevirtual 191, 3) := dk_182 0 191 (dk_at dksX9_readDoes_0 11 rfl rfl)
theorem dX9_readDoes_14 : decode cX9_readDoes 14 = .ok (.ifCond .ne 9, 3) := dk_154 0 9 (dk_at dksX9_readDoes_0 14 rfl rfl)
theorem dX9_readDoes_17 : decode cX9_readDoes 17 = .ok (.iinc 2 1, 3) := dk_132 2 1 (dk_at dksX9_readDoes_0 17 rfl rfl)
theorem dX9_readDoes_20 : decode cX9_readDoes 20 = .ok (.goto (-17), 3) := dk_167 255 239 (dk_at dksX9_readDoes_0 20 rfl rfl)
theorem dX9_readDoes_23 : decode cX9_readDoes 23 = .ok (.iload_n 2, 1) := dk_28 (dk_at dksX9_readDoes_0 23 rfl rfl)
theorem dX9_readDoes_24 : decode cX9_readDoes 24 = .ok (.bipush 14, 2) := dk_16 14 (dk_at dksX9_readDoes_1 0 rfl rfl)
theorem dX9_readDoes_26 : decode cX9_readDoes 26 = .ok (.if_icmp .le 9, 3) := dk_164 0 9 (dk_at dksX9_readDoes_1 2 rfl rfl)
theorem dX9_readDoes_29 : decode cX9_readDoes 29 = .ok (.aload_n 0, 1) := dk_42 (dk_at dksX9_readDoes_1 5 rfl rfl)
theorem dX9_readDoes_30 : decode cX9_readDoes 30 = .ok (.iconst 1, 1) := dk_4 (dk_at dksX9_readDoes_1 6 rfl rfl)
theorem dX9_readDoes_31 : decode cX9_readDoes 31 = .ok (.invokevirtual 146, 3) := dk_182 0 146 (dk_at dksX9_readDoes_1 7 rfl rfl)
theorem dX9_readDoes_34 : decode cX9_readDoes 34 = .ok (.ireturn, 1) := dk_172 (dk_at dksX9_readDoes_1 10 rfl rfl)
theorem dX9_readDoes_35 : decode cX9_readDoes 35 = .ok (.aload_n 0, 1) := dk_42 (dk_at dksX9_readDoes_1 11 rfl rfl)
theorem dX9_readDoes_36 : decode cX9_readDoes 36 = .ok (.getfield 73, 3) := dk_180 0 73 (dk_at dksX9_readDoes_1 12 rfl rfl)
theorem dX9_readDoes_39 : decode cX9_readDoes 39 = .ok (.iload_n 1, 1) := dk_27 (dk_at dksX9_readDoes_1 15 rfl rfl)
theorem dX9_readDoes_40 : decode cX9_readDoes 40 = .ok (.iload_n 2, 1) := dk_28 (dk_at dksX9_readDoes_1 16 rfl rfl)
theorem dX9_readDoes_41 : decode cX9_readDoes 41 = .ok (.bipush 9, 2) := dk_16 9 (dk_at dksX9_readDoes_1 17 rfl rfl)
theorem dX9_readDoes_43 : decode cX9_readDoes 43 = .ok (.isub, 1) := dk_100 (dk_at dksX9_readDoes_1 19 rfl rfl)
theorem dX9_readDoes_44 : decode cX9_readDoes 44 = .ok (.iastore, 1) := dk_79 (dk_at dksX9_readDoes_1 20 rfl rfl)
theorem dX9_readDoes_45 : decode cX9_readDoes 45 = .ok (.aload_n 0, 1) := dk_42 (dk_at dksX9_readDoes_1 21 rfl rfl)
theorem dX9_readDoes_46 : decode cX9_readDoes 46 = .ok (.invokevirtual 156, 3) := dk_182 0 156 (dk_at dksX9_readDoes_2 0 rfl rfl)
theorem dX9_readDoes_49 : decode cX9_readDoes 49 = .ok (.aload_n 0, 1) := dk_42 (dk_at dksX9_readDoes_2 3 rfl rfl)
theorem dX9_readDoes_50 : decode cX9_readDoes 50 = .ok (.getfield 73, 3) := dk_180 0 73 (dk_at dksX9_readDoes_2 4 rfl rfl)
theorem dX9_readDoes_53 : decode cX9_readDoes 53 = .ok (.iload_n 1, 1) := dk_27 (dk_at dksX9_readDoes_2 7 rfl rfl)
theorem dX9_readDoes_54 : decode cX9_readDoes 54 = .ok (.iaload, 1) := dk_46 (dk_at dksX9_readDoes_2 8 rfl rfl)
theorem dX9_readDoes_55 : decode cX9_readDoes 55 = .ok (.iconst 1, 1) := dk_4 (dk_at dksX9_readDoes_2 9 rfl rfl)
theorem dX9_readDoes_56 : decode cX9_readDoes 56 = .ok (.if_icmp .le 5, 3) := dk_164 0 5 (dk_at dksX9_readDoes_2 10 rfl rfl)
theorem dX9_readDoes_59 : decode cX9_readDoes 59 = .ok (.iconst 1, 1) := dk_4 (dk_at dksX9_readDoes_2 13 rfl rfl)
theorem dX9_readDoes_60 : decode cX9_readDoes 60 = .ok (.ireturn, 1) := dk_172 (dk_at dksX9_readDoes_2 14 rfl rfl)
theorem dX9_readDoes_61 : decode cX9_readDoes 61 = .ok (.aload_n 0, 1) := dk_42 (dk_at dksX9_readDoes_2 15 rfl rfl)
theorem dX9_readDoes_62 : decode cX9_readDoes 62 = .ok (.invokevirtual 166, 3) := dk_182 0 166 (dk_at dksX9_readDoes_2 16 rfl rfl)
theorem dX9_readDoes_65 : decode cX9_readDoes 65 = .ok (.ifCond .ne 9, 3) := dk_154 0 9 (dk_at dksX9_readDoes_2 19 rfl rfl)
theorem dX9_readDoes_68 : decode cX9_readDoes 68 = .ok (.aload_n 0, 1) := dk_42 (dk_at dksX9_readDoes_2 22 rfl rfl)
theorem dX9_readDoes_69 : decode cX9_readDoes 69 = .ok (.iconst 1, 1) := dk_4 (dk_at dksX9_readDoes_2 23 rfl rfl)
theorem dX9_readDoes_70 : decode cX9_readDoes 70 = .ok (.invokevirtual 146, 3) := dk_182 0 146 (dk_at dksX9_readDoes_3 0 rfl rfl)
theorem dX9_readDoes_73 : decode cX9_readDoes 73 = .ok (.ireturn, 1) := dk_172 (dk_at dksX9_readDoes_3 3 rfl rfl)
theorem dX9_readDoes_74 : decode cX9_readDoes 74 = .ok (.aload_n 0, 1) := dk_42 (dk_at dksX9_readDoes_3 4 rfl rfl)
theorem dX9_readDoes_75 : decode cX9_readDoes 75 = .ok (.getfield 73, 3) := dk_180 0 73 (dk_at dksX9_readDoes_3 5 rfl rfl)
theorem dX9_readDoes_78 : decode cX9_readDoes 78 = .ok (.iload_n 1, 1) := dk_27 (dk_at dksX9_readDoes_3 8 rfl rfl)
theorem dX9_readDoes_79 : decode cX9_readDoes 79 = .ok (.iconst 2, 1) := dk_5 (dk_at dksX9_readDoes_3 9 rfl rfl)
theorem dX9_readDoes_80 : decode cX9_readDoes 80 = .ok (.iadd, 1) := dk_96 (dk_at dksX9_readDoes_3 10 rfl rfl)
theorem dX9_readDoes_81 : decode cX9_readDoes 81 = .ok (.aload_n 0, 1) := dk_42 (dk_at dksX9_readDoes_3 11 rfl rfl)
theorem dX9_readDoes_82 : decode cX9_readDoes 82 = .ok (.getfield 28, 3) := dk_180 0 28 (dk_at dksX9_readDoes_3 12 rfl rfl)
theorem dX9_readDoes_85 : decode cX9_readDoes 85 = .ok (.bipush 7, 2) := dk_16 7 (dk_at dksX9_readDoes_3 15 rfl rfl)
theorem dX9_readDoes_87 : decode cX9_readDoes 87 = .ok (.aload_n 0, 1) := dk_42 (dk_at dksX9_readDoes_3 17 rfl rfl)
theorem dX9_readDoes_88 : decode cX9_readDoes 88 = .ok (.getfield 13, 3) := dk_180 0 13 (dk_at dksX9_readDoes_3 18 rfl rfl)
theorem dX9_readDoes_91 : decode cX9_readDoes 91 = .ok (.iconst 1, 1) := dk_4 (dk_at dksX9_readDoes_3 21 rfl rfl)
theorem dX9_readDoes_92 : decode cX9_readDoes 92 = .ok (.iaload, 1) := dk_46 (dk_at dksX9_readDoes_3 22 rfl rfl)
theorem dX9_readDoes_93 : decode cX9_readDoes 93 = .ok (.aload_n 0, 1) := dk_42 (dk_at dksX9_readDoes_3 23 rfl rfl)
theorem dX9_readDoes_94 : decode cX9_readDoes 94 = .ok (.getfield 117, 3) := dk_180 0 117 (dk_at dksX9_readDoes_4 0 rfl rfl)
theorem dX9_readDoes_97 : decode cX9_readDoes 97 = .ok (.invokestatic 170, 3) := dk_184 0 170 (dk_at dksX9_readDoes_4 3 rfl rfl)
theorem dX9_readDoes_100 : decode cX9_readDoes 100 = .ok (.iastore, 1) := dk_79 (dk_at dksX9_readDoes_4 6 rfl rfl)
theorem dX9_readDoes_101 : decode cX9_readDoes 101 = .ok (.aload_n 0, 1) := dk_42 (dk_at dksX9_readDoes_4 7 rfl rfl)
theorem dX9_readDoes_102 : decode cX9_readDoes 102 = .ok (.getfield 73, 3) := dk_180 0 73 (dk_at dksX9_readDoes_4 8 rfl rfl)
theorem dX9_readDoes_105 : decode cX9_readDoes 105 = .ok (.iload_n 1, 1) := dk_27 (dk_at dksX9_readDoes_4 11 rfl rfl)
theorem dX9_readDoes_106 : decode cX9_readDoes 106 = .ok (.iconst 2, 1) := dk_5 (dk_at dksX9_readDoes_4 12 rfl rfl)
theorem dX9_readDoes_107 : decode cX9_readDoes 107 = .ok (.iadd, 1) := dk_96 (dk_at dksX9_readDoes_4 13 rfl rfl)
theorem dX9_readDoes_108 : decode cX9_readDoes 108 = .ok (.iaload, 1) := dk_46 (dk_at dksX9_readDoes_4 14 rfl rfl)
theorem dX9_readDoes_109 : decode cX9_readDoes 109 = .ok (.iconst (-1), 1) := dk_2 (dk_at dksX9_readDoes_4 15 rfl rfl)
theorem dX9_readDoes_110 : decode cX9_readDoes 110 = .ok (.if_icmp .ne 9, 3) := dk_160 0 9 (dk_at dksX9_readDoes_4 16 rfl rfl)
theorem dX9_readDoes_113 : decode cX9_readDoes 113 = .ok (.aload_n 0, 1) := dk_42 (dk_at dksX9_readDoes_4 19 rfl rfl)
theorem dX9_readDoes_114 : decode cX9_readDoes 114 = .ok (.iconst 3, 1) := dk_6 (dk_at dksX9_readDoes_4 20 rfl rfl)
theorem dX9_readDoes_115 : decode cX9_readDoes 115 = .ok (.invokevirtual 146, 3) := dk_182 0 146 (dk_at dksX9_readDoes_4 21 rfl rfl)
theorem dX9_readDoes_118 : decode cX9_readDoes 118 = .ok (.ireturn, 1) := dk_172 (dk_at dksX9_readDoes_5 0 rfl rfl)
theorem dX9_readDoes_119 : decode cX9_readDoes 119 = .ok (.aload_n 0, 1) := dk_42 (dk_at dksX9_readDoes_5 1 rfl rfl)
theorem dX9_readDoes_120 : decode cX9_readDoes 120 = .ok (.invokevirtual 156, 3) := dk_182 0 156 (dk_at dksX9_readDoes_5 2 rfl rfl)
theorem dX9_readDoes_123 : decode cX9_readDoes 123 = .ok (.aload_n 0, 1) := dk_42 (dk_at dksX9_readDoes_5 5 rfl rfl)
theorem dX9_readDoes_124 : decode cX9_readDoes 124 = .ok (.iconst 1, 1) := dk_4 (dk_at dksX9_readDoes_5 6 rfl rfl)
theorem dX9_readDoes_125 : decode cX9_readDoes 125 = .ok (.aload_n 0, 1) := dk_42 (dk_at dksX9_readDoes_5 7 rfl rfl)
theorem dX9_readDoes_126 : decode cX9_readDoes 126 = .ok (.getfield 73, 3) := dk_180 0 73 (dk_at dksX9_readDoes_5 8 rfl rfl)
theorem dX9_readDoes_129 : decode cX9_readDoes 129 = .ok (.iload_n 1, 1) := dk_27 (dk_at dksX9_readDoes_5 11 rfl rfl)
theorem dX9_readDoes_130 : decode cX9_readDoes 130 = .ok (.iaload, 1) := dk_46 (dk_at dksX9_readDoes_5 12 rfl rfl)
theorem dX9_readDoes_131 : decode cX9_readDoes 131 = .ok (.ifCond .ne 8, 3) := dk_154 0 8 (dk_at dksX9_readDoes_5 13 rfl rfl)
theorem dX9_readDoes_134 : decode cX9_readDoes 134 = .ok (.bipush 20, 2) := dk_16 20 (dk_at dksX9_readDoes_5 16 rfl rfl)
theorem dX9_readDoes_136 : decode cX9_readDoes 136 = .ok (.goto 5, 3) := dk_167 0 5 (dk_at dksX9_readDoes_5 18 rfl rfl)
theorem dX9_readDoes_139 : decode cX9_readDoes 139 = .ok (.bipush 40, 2) := dk_16 40 (dk_at dksX9_readDoes_5 21 rfl rfl)
theorem dX9_readDoes_141 : decode cX9_readDoes 141 = .ok (.invokevirtual 184, 3) := dk_182 0 184 (dk_at dksX9_readDoes_6 0 rfl rfl)
theorem dX9_readDoes_144 : decode cX9_readDoes 144 = .ok (.ifCond .ne 5, 3) := dk_154 0 5 (dk_at dksX9_readDoes_6 3 rfl rfl)
theorem dX9_readDoes_147 : decode cX9_readDoes 147 = .ok (.iconst 0, 1) := dk_3 (dk_at dksX9_readDoes_6 6 rfl rfl)
theorem dX9_readDoes_148 : decode cX9_readDoes 148 = .ok (.ireturn, 1) := dk_172 (dk_at dksX9_readDoes_6 7 rfl rfl)
theorem dX9_readDoes_149 : decode cX9_readDoes 149 = .ok (.aload_n 0, 1) := dk_42 (dk_at dksX9_readDoes_6 8 rfl rfl)
theorem dX9_readDoes_150 : decode cX9_readDoes 150 = .ok (.getfield 73, 3) := dk_180 0 73 (dk_at dksX9_readDoes_6 9 rfl rfl)
theorem dX9_readDoes_153 : decode cX9_readDoes 153 = .ok (.iload_n 1, 1) := dk_27 (dk_at dksX9_readDoes_6 12 rfl rfl)
theorem dX9_readDoes_154 : decode cX9_readDoes 154 = .ok (.iconst 3, 1) := dk_6 (dk_at dksX9_readDoes_6 13 rfl rfl)
theorem dX9_readDoes_155 : decode cX9_readDoes 155 = .ok (.iadd, 1) := dk_96 (dk_at dksX9_readDoes_6 14 rfl rfl)
theorem dX9_readDoes_156 : decode cX9_readDoes 156 = .ok (.aload_n 0, 1) := dk_42 (dk_at dksX9_readDoes_6 15 rfl rfl)
theorem dX9_readDoes_157 : decode cX9_readDoes 157 = .ok (.getfield 153, 3) := dk_180 0 153 (dk_at dksX9_readDoes_6 16 rfl rfl)
theorem dX9_readDoes_160 : decode cX9_readDoes 160 = .ok (.iastore, 1) := dk_79 (dk_at dksX9_readDoes_6 19 rfl rfl)
theorem dX9_readDoes_161 : decode cX9_readDoes 161 = .ok (.iconst 1, 1) := dk_4 (dk_at dksX9_readDoes_6 20 rfl rfl)
theorem dX9_readDoes_162 : decode cX9_readDoes 162 = .ok (.ireturn, 1) := dk_172 (dk_at dksX9_readDoes_6 21 rfl rfl)
abbrev cX9_goBy : ByteArray := prog_25_method_103_code
def yX9_goBy : MethodName := ⟨RX9, "goBy", "(I)I"⟩
def dkwX9_goBy_5 : List UInt8 := [182, 1, 29, 3, 172]
abbrev dktX9_goBy_5 : List UInt8 := dkwX9_goBy_5 ++ []
def dkwX9_goBy_4 : List UInt8 := [180, 0, 73, 27, 46, 42, 180, 0, 73, 27, 4, 96, 46, 42, 180, 0, 73, 27, 5, 96, 46, 28]
abbrev dktX9_goBy_4 : List UInt8 := dkwX9_goBy_4 ++ dktX9_goBy_5
def dkwX9_goBy_3 : List UInt8 := [182, 1, 22, 62, 29, 153, 0, 15, 16, 10, 42, 180, 0, 73, 27, 46, 104, 29, 96, 172, 42, 42]
abbrev dktX9_goBy_3 : List UInt8 := dkwX9_goBy_3 ++ dktX9_goBy_4
def dkwX9_goBy_2 : List UInt8 := [180, 0, 73, 27, 46, 42, 180, 0, 73, 27, 4, 96, 46, 42, 180, 0, 73, 27, 5, 96, 46, 28]
abbrev dktX9_goBy_2 : List UInt8 := dkwX9_goBy_2 ++ dktX9_goBy_3
def dkwX9_goBy_1 : List UInt8 := [16, 72, 46, 28, 96, 17, 0, 200, 164, 0, 6, 16, 61, 172, 42, 28, 182, 1, 39, 87, 3, 172, 42, 42]
abbrev dktX9_goBy_1 : List UInt8 := dkwX9_goBy_1 ++ dktX9_goBy_2
def dkwX9_goBy_0 : List UInt8 := [42, 180, 0, 73, 27, 6, 96, 46, 61, 42, 180, 0, 73, 27, 46, 16, 6, 160, 0, 29, 42, 180, 0, 13]
abbrev dktX9_goBy_0 : List UInt8 := dkwX9_goBy_0 ++ dktX9_goBy_1
theorem dksX9_goBy_0 : cX9_goBy.data.toList.drop 0 = dktX9_goBy_0 := by decide +kernel
theorem dksX9_goBy_1 : cX9_goBy.data.toList.drop 24 = dktX9_goBy_1 := dk_seg dksX9_goBy_0 24 rfl rfl
theorem dksX9_goBy_2 : cX9_goBy.data.toList.drop 48 = dktX9_goBy_2 := dk_seg dksX9_goBy_1 24 rfl rfl
theorem dksX9_goBy_3 : cX9_goBy.data.toList.drop 70 = dktX9_goBy_3 := dk_seg dksX9_goBy_2 22 rfl rfl
theorem dksX9_goBy_4 : cX9_goBy.data.toList.drop 92 = dktX9_goBy_4 := dk_seg dksX9_goBy_3 22 rfl rfl
theorem dksX9_goBy_5 : cX9_goBy.data.toList.drop 114 = dktX9_goBy_5 := dk_seg dksX9_goBy_4 22 rfl rfl
theorem dX9_goBy_0 : decode cX9_goBy 0 = .ok (.aload_n 0, 1) := dk_42 (dk_at dksX9_goBy_0 0 rfl rfl)
theorem dX9_goBy_1 : decode cX9_goBy 1 = .ok (.getfield 73, 3) := dk_180 0 73 (dk_at dksX9_goBy_0 1 rfl rfl)
theorem dX9_goBy_4 : decode cX9_goBy 4 = .ok (.iload_n 1, 1) := dk_27 (dk_at dksX9_goBy_0 4 rfl rfl)
theorem dX9_goBy_5 : decode cX9_goBy 5 = .ok (.iconst 3, 1) := dk_6 (dk_at dksX9_goBy_0 5 rfl rfl)
theorem dX9_goBy_6 : decode cX9_goBy 6 = .ok (.iadd, 1) := dk_96 (dk_at dksX9_goBy_0 6 rfl rfl)
theorem dX9_goBy_7 : decode cX9_goBy 7 = .ok (.iaload, 1) := dk_46 (dk_at dksX9_goBy_0 7 rfl rfl)
theorem dX9_goBy_8 : decode cX9_goBy 8 = .ok (.istore_n 2, 1) := dk_61 (dk_at dksX9_goBy_0 8 rfl rfl)
theorem dX9_goBy_9 : decode cX9_goBy 9 = .ok (.aload_n 0, 1) := dk_42 (dk_at dksX9_goBy_0 9 rfl rfl)
theorem dX9_goBy_10 : decode cX9_goBy 10 = .ok (.getfield 73, 3) := dk_180 0 73 (dk_at dksX9_goBy_0 10 rfl rfl)
theorem dX9_goBy_13 : decode cX9_goBy 13 = .ok (.iload_n 1, 1) := dk_27 (dk_at dksX9_goBy_0 13 rfl rfl)
theorem dX9_goBy_14 : decode cX9_goBy 14 = .ok (.iaload, 1) := dk_46 (dk_at dksX9_goBy_0 14 rfl rfl)
theorem dX9_goBy_15 : decode cX9_goBy 15 = .ok (.bipush 6, 2) := dk_16 6 (dk_at dksX9_goBy_0 15 rfl rfl)
theorem dX9_goBy_17 : decode cX9_goBy 17 = .ok (.if_icmp .ne 29, 3) := dk_160 0 29 (dk_at dksX9_goBy_0 17 rfl rfl)
theorem dX9_goBy_20 : decode cX9_goBy 20 = .ok (.aload_n 0, 1) := dk_42 (dk_at dksX9_goBy_0 20 rfl rfl)
theorem dX9_goBy_21 : decode cX9_goBy 21 = .ok (.getfield 13, 3) := dk_180 0 13 (dk_at dksX9_goBy_0 21 rfl rfl)
theorem dX9_goBy_24 : decode cX9_goBy 24 = .ok (.bipush 72, 2) := dk_16 72 (dk_at dksX9_goBy_1 0 rfl rfl)
theorem dX9_goBy_26 : decode cX9_goBy 26 = .ok (.iaload, 1) := dk_46 (dk_at dksX9_goBy_1 2 rfl rfl)
theorem dX9_goBy_27 : decode cX9_goBy 27 = .ok (.iload_n 2, 1) := dk_28 (dk_at dksX9_goBy_1 3 rfl rfl)
theorem dX9_goBy_28 : decode cX9_goBy 28 = .ok (.iadd, 1) := dk_96 (dk_at dksX9_goBy_1 4 rfl rfl)
theorem dX9_goBy_29 : decode cX9_goBy 29 = .ok (.sipush 200, 3) := dk_17 0 200 (dk_at dksX9_goBy_1 5 rfl rfl)
theorem dX9_goBy_32 : decode cX9_goBy 32 = .ok (.if_icmp .le 6, 3) := dk_164 0 6 (dk_at dksX9_goBy_1 8 rfl rfl)
theorem dX9_goBy_35 : decode cX9_goBy 35 = .ok (.bipush 61, 2) := dk_16 61 (dk_at dksX9_goBy_1 11 rfl rfl)
theorem dX9_goBy_37 : decode cX9_goBy 37 = .ok (.ireturn, 1) := dk_172 (dk_at dksX9_goBy_1 13 rfl rfl)
theorem dX9_goBy_38 : decode cX9_goBy 38 = .ok (.aload_n 0, 1) := dk_42 (dk_at dksX9_goBy_1 14 rfl rfl)
theorem dX9_goBy_39 : decode cX9_goBy 39 = .ok (.iload_n 2, 1) := dk_28 (dk_at dksX9_goBy_1 15 rfl rfl)
theorem dX9_goBy_40 : decode cX9_goBy 40 = .ok (.invokevirtual 295, 3) := dk_182 1 39 (dk_at dksX9_goBy_1 16 rfl rfl)
theorem dX9_goBy_43 : decode cX9_goBy 43 = .ok (.pop, 1) := dk_87 (dk_at dksX9_goBy_1 19 rfl rfl)
theorem dX9_goBy_44 : decode cX9_goBy 44 = .ok (.iconst 0, 1) := dk_3 (dk_at dksX9_goBy_1 20 rfl rfl)
theorem dX9_goBy_45 : decode cX9_goBy 45 = .ok (.ireturn, 1) := dk_172 (dk_at dksX9_goBy_1 21 rfl rfl)
theorem dX9_goBy_46 : decode cX9_goBy 46 = .ok (.aload_n 0, 1) := dk_42 (dk_at dksX9_goBy_1 22 rfl rfl)
theorem dX9_goBy_47 : decode cX9_goBy 47 = .ok (.aload_n 0, 1) := dk_42 (dk_at dksX9_goBy_1 23 rfl rfl)
theorem dX9_goBy_48 : decode cX9_goBy 48 = .ok (.getfield 73, 3) := dk_180 0 73 (dk_at dksX9_goBy_2 0 rfl rfl)
theorem dX9_goBy_51 : decode cX9_goBy 51 = .ok (.iload_n 1, 1) := dk_27 (dk_at dksX9_goBy_2 3 rfl rfl)
theorem dX9_goBy_52 : decode cX9_goBy 52 = .ok (.iaload, 1) := dk_46 (dk_at dksX9_goBy_2 4 rfl rfl)
theorem dX9_goBy_53 : decode cX9_goBy 53 = .ok (.aload_n 0, 1) := dk_42 (dk_at dksX9_goBy_2 5 rfl rfl)
theorem dX9_goBy_54 : decode cX9_goBy 54 = .ok (.getfield 73, 3) := dk_180 0 73 (dk_at dksX9_goBy_2 6 rfl rfl)
theorem dX9_goBy_57 : decode cX9_goBy 57 = .ok (.iload_n 1, 1) := dk_27 (dk_at dksX9_goBy_2 9 rfl rfl)
theorem dX9_goBy_58 : decode cX9_goBy 58 = .ok (.iconst 1, 1) := dk_4 (dk_at dksX9_goBy_2 10 rfl rfl)
theorem dX9_goBy_59 : decode cX9_goBy 59 = .ok (.iadd, 1) := dk_96 (dk_at dksX9_goBy_2 11 rfl rfl)
theorem dX9_goBy_60 : decode cX9_goBy 60 = .ok (.iaload, 1) := dk_46 (dk_at dksX9_goBy_2 12 rfl rfl)
theorem dX9_goBy_61 : decode cX9_goBy 61 = .ok (.aload_n 0, 1) := dk_42 (dk_at dksX9_goBy_2 13 rfl rfl)
theorem dX9_goBy_62 : decode cX9_goBy 62 = .ok (.getfield 73, 3) := dk_180 0 73 (dk_at dksX9_goBy_2 14 rfl rfl)
theorem dX9_goBy_65 : decode cX9_goBy 65 = .ok (.iload_n 1, 1) := dk_27 (dk_at dksX9_goBy_2 17 rfl rfl)
theorem dX9_goBy_66 : decode cX9_goBy 66 = .ok (.iconst 2, 1) := dk_5 (dk_at dksX9_goBy_2 18 rfl rfl)
theorem dX9_goBy_67 : decode cX9_goBy 67 = .ok (.iadd, 1) := dk_96 (dk_at dksX9_goBy_2 19 rfl rfl)
theorem dX9_goBy_68 : decode cX9_goBy 68 = .ok (.iaload, 1) := dk_46 (dk_at dksX9_goBy_2 20 rfl rfl)
theorem dX9_goBy_69 : decode cX9_goBy 69 = .ok (.iload_n 2, 1) := dk_28 (dk_at dksX9_goBy_2 21 rfl rfl)
theorem dX9_goBy_70 : decode cX9_goBy 70 = .ok (.invokevirtual 278, 3) := dk_182 1 22 (dk_at dksX9_goBy_3 0 rfl rfl)
theorem dX9_goBy_73 : decode cX9_goBy 73 = .ok (.istore_n 3, 1) := dk_62 (dk_at dksX9_goBy_3 3 rfl rfl)
theorem dX9_goBy_74 : decode cX9_goBy 74 = .ok (.iload_n 3, 1) := dk_29 (dk_at dksX9_goBy_3 4 rfl rfl)
theorem dX9_goBy_75 : decode cX9_goBy 75 = .ok (.ifCond .eq 15, 3) := dk_153 0 15 (dk_at dksX9_goBy_3 5 rfl rfl)
theorem dX9_goBy_78 : decode cX9_goBy 78 = .ok (.bipush 10, 2) := dk_16 10 (dk_at dksX9_goBy_3 8 rfl rfl)
theorem dX9_goBy_80 : decode cX9_goBy 80 = .ok (.aload_n 0, 1) := dk_42 (dk_at dksX9_goBy_3 10 rfl rfl)
theorem dX9_goBy_81 : decode cX9_goBy 81 = .ok (.getfield 73, 3) := dk_180 0 73 (dk_at dksX9_goBy_3 11 rfl rfl)
theorem dX9_goBy_84 : decode cX9_goBy 84 = .ok (.iload_n 1, 1) := dk_27 (dk_at dksX9_goBy_3 14 rfl rfl)
theorem dX9_goBy_85 : decode cX9_goBy 85 = .ok (.iaload, 1) := dk_46 (dk_at dksX9_goBy_3 15 rfl rfl)
theorem dX9_goBy_86 : decode cX9_goBy 86 = .ok (.imul, 1) := dk_104 (dk_at dksX9_goBy_3 16 rfl rfl)
theorem dX9_goBy_87 : decode cX9_goBy 87 = .ok (.iload_n 3, 1) := dk_29 (dk_at dksX9_goBy_3 17 rfl rfl)
theorem dX9_goBy_88 : decode cX9_goBy 88 = .ok (.iadd, 1) := dk_96 (dk_at dksX9_goBy_3 18 rfl rfl)
theorem dX9_goBy_89 : decode cX9_goBy 89 = .ok (.ireturn, 1) := dk_172 (dk_at dksX9_goBy_3 19 rfl rfl)
theorem dX9_goBy_90 : decode cX9_goBy 90 = .ok (.aload_n 0, 1) := dk_42 (dk_at dksX9_goBy_3 20 rfl rfl)
theorem dX9_goBy_91 : decode cX9_goBy 91 = .ok (.aload_n 0, 1) := dk_42 (dk_at dksX9_goBy_3 21 rfl rfl)
theorem dX9_goBy_92 : decode cX9_goBy 92 = .ok (.getfield 73, 3) := dk_180 0 73 (dk_at dksX9_goBy_4 0 rfl rfl)
theorem dX9_goBy_95 : decode cX9_goBy 95 = .ok (.iload_n 1, 1) := dk_27 (dk_at dksX9_goBy_4 3 rfl rfl)
theorem dX9_goBy_96 : decode cX9_goBy 96 = .ok (.iaload, 1) := dk_46 (dk_at dksX9_goBy_4 4 rfl rfl)
theorem dX9_goBy_97 : decode cX9_goBy 97 = .ok (.aload_n 0, 1) := dk_42 (dk_at dksX9_goBy_4 5 rfl rfl)
theorem dX9_goBy_98 : decode cX9_goBy 98 = .ok (.getfield 73, 3) := dk_180 0 73 (dk_at dksX9_goBy_4 6 rfl rfl)
theorem dX9_goBy_101 : decode cX9_goBy 101 = .ok (.iload_n 1, 1) := dk_27 (dk_at dksX9_goBy_4 9 rfl rfl)
theorem dX9_goBy_102 : decode cX9_goBy 102 = .ok (.iconst 1, 1) := dk_4 (dk_at dksX9_goBy_4 10 rfl rfl)
theorem dX9_goBy_103 : decode cX9_goBy 103 = .ok (.iadd, 1) := dk_96 (dk_at dksX9_goBy_4 11 rfl rfl)
theorem dX9_goBy_104 : decode cX9_goBy 104 = .ok (.iaload, 1) := dk_46 (dk_at dksX9_goBy_4 12 rfl rfl)
theorem dX9_goBy_105 : decode cX9_goBy 105 = .ok (.aload_n 0, 1) := dk_42 (dk_at dksX9_goBy_4 13 rfl rfl)
theorem dX9_goBy_106 : decode cX9_goBy 106 = .ok (.getfield 73, 3) := dk_180 0 73 (dk_at dksX9_goBy_4 14 rfl rfl)
theorem dX9_goBy_109 : decode cX9_goBy 109 = .ok (.iload_n 1, 1) := dk_27 (dk_at dksX9_goBy_4 17 rfl rfl)
theorem dX9_goBy_110 : decode cX9_goBy 110 = .ok (.iconst 2, 1) := dk_5 (dk_at dksX9_goBy_4 18 rfl rfl)
theorem dX9_goBy_111 : decode cX9_goBy 111 = .ok (.iadd, 1) := dk_96 (dk_at dksX9_goBy_4 19 rfl rfl)
theorem dX9_goBy_112 : decode cX9_goBy 112 = .ok (.iaload, 1) := dk_46 (dk_at dksX9_goBy_4 20 rfl rfl)
theorem dX9_goBy_113 : decode cX9_goBy 113 = .ok (.iload_n 2, 1) := dk_28 (dk_at dksX9_goBy_4 21 rfl rfl)
theorem dX9_goBy_114 : decode cX9_goBy 114 = .ok (.invokevirtual 285, 3) := dk_182 1 29 (dk_at dksX9_goBy_5 0 rfl rfl)
theorem dX9_goBy_117 : decode cX9_goBy 117 = .ok (.iconst 0, 1) := dk_3 (dk_at dksX9_goBy_5 3 rfl rfl)
theorem dX9_goBy_118 : decode cX9_goBy 118 = .ok (.ireturn, 1) := dk_172 (dk_at dksX9_goBy_5 4 rfl rfl)
abbrev cX9_stay : ByteArray := prog_25_method_105_code
def yX9_stay : MethodName := ⟨RX9, "stay", "(Z)V"⟩
def dkwX9_stay_2 : List UInt8 := [154, 0, 4, 177, 42, 182, 1, 26, 42, 182, 1, 76, 177]
abbrev dktX9_stay_2 : List UInt8 := dkwX9_stay_2 ++ []
def dkwX9_stay_1 : List UInt8 := [28, 96, 42, 180, 0, 25, 28, 46, 79, 42, 180, 0, 25, 28, 29, 79, 132, 2, 1, 167, 255, 215, 27]
abbrev dktX9_stay_1 : List UInt8 := dkwX9_stay_1 ++ dktX9_stay_2
def dkwX9_stay_0 : List UInt8 := [3, 61, 28, 16, 75, 162, 0, 41, 42, 180, 0, 13, 16, 72, 28, 96, 46, 62, 42, 180, 0, 13, 16, 72]
abbrev dktX9_stay_0 : List UInt8 := dkwX9_stay_0 ++ dktX9_stay_1
theorem dksX9_stay_0 : cX9_stay.data.toList.drop 0 = dktX9_stay_0 := by decide +kernel
theorem dksX9_stay_1 : cX9_stay.data.toList.drop 24 = dktX9_stay_1 := dk_seg dksX9_stay_0 24 rfl rfl
theorem dksX9_stay_2 : cX9_stay.data.toList.drop 47 = dktX9_stay_2 := dk_seg dksX9_stay_1 23 rfl rfl
theorem dX9_stay_0 : decode cX9_stay 0 = .ok (.iconst 0, 1) := dk_3 (dk_at dksX9_stay_0 0 rfl rfl)
theorem dX9_stay_1 : decode cX9_stay 1 = .ok (.istore_n 2, 1) := dk_61 (dk_at dksX9_stay_0 1 rfl rfl)
theorem dX9_stay_2 : decode cX9_stay 2 = .ok (.iload_n 2, 1) := dk_28 (dk_at dksX9_stay_0 2 rfl rfl)
theorem dX9_stay_3 : decode cX9_stay 3 = .ok (.bipush 75, 2) := dk_16 75 (dk_at dksX9_stay_0 3 rfl rfl)
theorem dX9_stay_5 : decode cX9_stay 5 = .ok (.if_icmp .ge 41, 3) := dk_162 0 41 (dk_at dksX9_stay_0 5 rfl rfl)
theorem dX9_stay_8 : decode cX9_stay 8 = .ok (.aload_n 0, 1) := dk_42 (dk_at dksX9_stay_0 8 rfl rfl)
theorem dX9_stay_9 : decode cX9_stay 9 = .ok (.getfield 13, 3) := dk_180 0 13 (dk_at dksX9_stay_0 9 rfl rfl)
theorem dX9_stay_12 : decode cX9_stay 12 = .ok (.bipush 72, 2) := dk_16 72 (dk_at dksX9_stay_0 12 rfl rfl)
theorem dX9_stay_14 : decode cX9_stay 14 = .ok (.iload_n 2, 1) := dk_28 (dk_at dksX9_stay_0 14 rfl rfl)
theorem dX9_stay_15 : decode cX9_stay 15 = .ok (.iadd, 1) := dk_96 (dk_at dksX9_stay_0 15 rfl rfl)
theorem dX9_stay_16 : decode cX9_stay 16 = .ok (.iaload, 1) := dk_46 (dk_at dksX9_stay_0 16 rfl rfl)
theorem dX9_stay_17 : decode cX9_stay 17 = .ok (.istore_n 3, 1) := dk_62 (dk_at dksX9_stay_0 17 rfl rfl)
theorem dX9_stay_18 : decode cX9_stay 18 = .ok (.aload_n 0, 1) := dk_42 (dk_at dksX9_stay_0 18 rfl rfl)
theorem dX9_stay_19 : decode cX9_stay 19 = .ok (.getfield 13, 3) := dk_180 0 13 (dk_at dksX9_stay_0 19 rfl rfl)
theorem dX9_stay_22 : decode cX9_stay 22 = .ok (.bipush 72, 2) := dk_16 72 (dk_at dksX9_stay_0 22 rfl rfl)
theorem dX9_stay_24 : decode cX9_stay 24 = .ok (.iload_n 2, 1) := dk_28 (dk_at dksX9_stay_1 0 rfl rfl)
theorem dX9_stay_25 : decode cX9_stay 25 = .ok (.iadd, 1) := dk_96 (dk_at dksX9_stay_1 1 rfl rfl)
theorem dX9_stay_26 : decode cX9_stay 26 = .ok (.aload_n 0, 1) := dk_42 (dk_at dksX9_stay_1 2 rfl rfl)
theorem dX9_stay_27 : decode cX9_stay 27 = .ok (.getfield 25, 3) := dk_180 0 25 (dk_at dksX9_stay_1 3 rfl rfl)
theorem dX9_stay_30 : decode cX9_stay 30 = .ok (.iload_n 2, 1) := dk_28 (dk_at dksX9_stay_1 6 rfl rfl)
theorem dX9_stay_31 : decode cX9_stay 31 = .ok (.iaload, 1) := dk_46 (dk_at dksX9_stay_1 7 rfl rfl)
theorem dX9_stay_32 : decode cX9_stay 32 = .ok (.iastore, 1) := dk_79 (dk_at dksX9_stay_1 8 rfl rfl)
theorem dX9_stay_33 : decode cX9_stay 33 = .ok (.aload_n 0, 1) := dk_42 (dk_at dksX9_stay_1 9 rfl rfl)
theorem dX9_stay_34 : decode cX9_stay 34 = .ok (.getfield 25, 3) := dk_180 0 25 (dk_at dksX9_stay_1 10 rfl rfl)
theorem dX9_stay_37 : decode cX9_stay 37 = .ok (.iload_n 2, 1) := dk_28 (dk_at dksX9_stay_1 13 rfl rfl)
theorem dX9_stay_38 : decode cX9_stay 38 = .ok (.iload_n 3, 1) := dk_29 (dk_at dksX9_stay_1 14 rfl rfl)
theorem dX9_stay_39 : decode cX9_stay 39 = .ok (.iastore, 1) := dk_79 (dk_at dksX9_stay_1 15 rfl rfl)
theorem dX9_stay_40 : decode cX9_stay 40 = .ok (.iinc 2 1, 3) := dk_132 2 1 (dk_at dksX9_stay_1 16 rfl rfl)
theorem dX9_stay_43 : decode cX9_stay 43 = .ok (.goto (-41), 3) := dk_167 255 215 (dk_at dksX9_stay_1 19 rfl rfl)
theorem dX9_stay_46 : decode cX9_stay 46 = .ok (.iload_n 1, 1) := dk_27 (dk_at dksX9_stay_1 22 rfl rfl)
theorem dX9_stay_47 : decode cX9_stay 47 = .ok (.ifCond .ne 4, 3) := dk_154 0 4 (dk_at dksX9_stay_2 0 rfl rfl)
theorem dX9_stay_50 : decode cX9_stay 50 = .ok (.return_, 1) := dk_177 (dk_at dksX9_stay_2 3 rfl rfl)
theorem dX9_stay_51 : decode cX9_stay 51 = .ok (.aload_n 0, 1) := dk_42 (dk_at dksX9_stay_2 4 rfl rfl)
theorem dX9_stay_52 : decode cX9_stay 52 = .ok (.invokevirtual 282, 3) := dk_182 1 26 (dk_at dksX9_stay_2 5 rfl rfl)
theorem dX9_stay_55 : decode cX9_stay 55 = .ok (.aload_n 0, 1) := dk_42 (dk_at dksX9_stay_2 8 rfl rfl)
theorem dX9_stay_56 : decode cX9_stay 56 = .ok (.invokevirtual 332, 3) := dk_182 1 76 (dk_at dksX9_stay_2 9 rfl rfl)
theorem dX9_stay_59 : decode cX9_stay 59 = .ok (.return_, 1) := dk_177 (dk_at dksX9_stay_2 12 rfl rfl)
abbrev cX9_told : ByteArray := prog_25_method_106_code
def yX9_told : MethodName := ⟨RX9, "told", "(I)I"⟩
def dkwX9_told_1 : List UInt8 := [180, 0, 76, 27, 46, 167, 0, 4, 2, 172]
abbrev dktX9_told_1 : List UInt8 := dkwX9_told_1 ++ []
def dkwX9_told_0 : List UInt8 := [42, 3, 181, 0, 82, 42, 180, 1, 117, 153, 0, 21, 27, 3, 6, 184, 0, 149, 153, 0, 12, 42]
abbrev dktX9_told_0 : List UInt8 := dkwX9_told_0 ++ dktX9_told_1
theorem dksX9_told_0 : cX9_told.data.toList.drop 0 = dktX9_told_0 := by decide +kernel
theorem dksX9_told_1 : cX9_told.data.toList.drop 22 = dktX9_told_1 := dk_seg dksX9_told_0 22 rfl rfl
theorem dX9_told_0 : decode cX9_told 0 = .ok (.aload_n 0, 1) := dk_42 (dk_at dksX9_told_0 0 rfl rfl)
theorem dX9_told_1 : decode cX9_told 1 = .ok (.iconst 0, 1) := dk_3 (dk_at dksX9_told_0 1 rfl rfl)
theorem dX9_told_2 : decode cX9_told 2 = .ok (.putfield 82, 3) := dk_181 0 82 (dk_at dksX9_told_0 2 rfl rfl)
theorem dX9_told_5 : decode cX9_told 5 = .ok (.aload_n 0, 1) := dk_42 (dk_at dksX9_told_0 5 rfl rfl)
theorem dX9_told_6 : decode cX9_told 6 = .ok (.getfield 373, 3) := dk_180 1 117 (dk_at dksX9_told_0 6 rfl rfl)
theorem dX9_told_9 : decode cX9_told 9 = .ok (.ifCond .eq 21, 3) := dk_153 0 21 (dk_at dksX9_told_0 9 rfl rfl)
theorem dX9_told_12 : decode cX9_told 12 = .ok (.iload_n 1, 1) := dk_27 (dk_at dksX9_told_0 12 rfl rfl)
theorem dX9_told_13 : decode cX9_told 13 = .ok (.iconst 0, 1) := dk_3 (dk_at dksX9_told_0 13 rfl rfl)
theorem dX9_told_14 : decode cX9_told 14 = .ok (.iconst 3, 1) := dk_6 (dk_at dksX9_told_0 14 rfl rfl)
theorem dX9_told_15 : decode cX9_told 15 = .ok (.invokestatic 149, 3) := dk_184 0 149 (dk_at dksX9_told_0 15 rfl rfl)
theorem dX9_told_18 : decode cX9_told 18 = .ok (.ifCond .eq 12, 3) := dk_153 0 12 (dk_at dksX9_told_0 18 rfl rfl)
theorem dX9_told_21 : decode cX9_told 21 = .ok (.aload_n 0, 1) := dk_42 (dk_at dksX9_told_0 21 rfl rfl)
theorem dX9_told_22 : decode cX9_told 22 = .ok (.getfield 76, 3) := dk_180 0 76 (dk_at dksX9_told_1 0 rfl rfl)
theorem dX9_told_25 : decode cX9_told 25 = .ok (.iload_n 1, 1) := dk_27 (dk_at dksX9_told_1 3 rfl rfl)
theorem dX9_told_26 : decode cX9_told 26 = .ok (.iaload, 1) := dk_46 (dk_at dksX9_told_1 4 rfl rfl)
theorem dX9_told_27 : decode cX9_told 27 = .ok (.goto 4, 3) := dk_167 0 4 (dk_at dksX9_told_1 5 rfl rfl)
theorem dX9_told_30 : decode cX9_told 30 = .ok (.iconst (-1), 1) := dk_2 (dk_at dksX9_told_1 8 rfl rfl)
theorem dX9_told_31 : decode cX9_told 31 = .ok (.ireturn, 1) := dk_172 (dk_at dksX9_told_1 9 rfl rfl)
abbrev cX9_sentence : ByteArray := prog_25_method_116_code
def yX9_sentence : MethodName := ⟨RX9, "sentence", "()I"⟩
def dkwX9_sentence_4 : List UInt8 := [27, 96, 42, 180, 0, 79, 27, 46, 79, 132, 1, 1, 167, 255, 230, 42, 180, 1, 139, 172]
abbrev dktX9_sentence_4 : List UInt8 := dkwX9_sentence_4 ++ []
def dkwX9_sentence_3 : List UInt8 := [17, 0, 148, 42, 180, 1, 130, 79, 3, 60, 27, 17, 0, 240, 162, 0, 25, 42, 180, 0, 13, 17, 0, 149]
abbrev dktX9_sentence_3 : List UInt8 := dkwX9_sentence_3 ++ dktX9_sentence_4
def dkwX9_sentence_2 : List UInt8 := [182, 0, 146, 87, 2, 42, 180, 0, 143, 100, 172, 42, 180, 0, 13, 17, 0, 147, 4, 79, 42, 180, 0, 13]
abbrev dktX9_sentence_2 : List UInt8 := dkwX9_sentence_2 ++ dktX9_sentence_3
def dkwX9_sentence_1 : List UInt8 := [182, 1, 157, 154, 0, 10, 2, 42, 180, 0, 143, 100, 172, 42, 180, 0, 104, 153, 0, 16, 42, 4]
abbrev dktX9_sentence_1 : List UInt8 := dkwX9_sentence_1 ++ dktX9_sentence_2
def dkwX9_sentence_0 : List UInt8 := [42, 17, 0, 200, 182, 0, 216, 42, 3, 181, 1, 124, 42, 3, 181, 1, 139, 42, 3, 181, 1, 142, 42]
abbrev dktX9_sentence_0 : List UInt8 := dkwX9_sentence_0 ++ dktX9_sentence_1
theorem dksX9_sentence_0 : cX9_sentence.data.toList.drop 0 = dktX9_sentence_0 := by decide +kernel
theorem dksX9_sentence_1 : cX9_sentence.data.toList.drop 23 = dktX9_sentence_1 := dk_seg dksX9_sentence_0 23 rfl rfl
theorem dksX9_sentence_2 : cX9_sentence.data.toList.drop 45 = dktX9_sentence_2 := dk_seg dksX9_sentence_1 22 rfl rfl
theorem dksX9_sentence_3 : cX9_sentence.data.toList.drop 69 = dktX9_sentence_3 := dk_seg dksX9_sentence_2 24 rfl rfl
theorem dksX9_sentence_4 : cX9_sentence.data.toList.drop 93 = dktX9_sentence_4 := dk_seg dksX9_sentence_3 24 rfl rfl
theorem dX9_sentence_0 : decode cX9_sentence 0 = .ok (.aload_n 0, 1) := dk_42 (dk_at dksX9_sentence_0 0 rfl rfl)
theorem dX9_sentence_1 : decode cX9_sentence 1 = .ok (.sipush 200, 3) := dk_17 0 200 (dk_at dksX9_sentence_0 1 rfl rfl)
theorem dX9_sentence_4 : decode cX9_sentence 4 = .ok (.invokevirtual 216, 3) := dk_182 0 216 (dk_at dksX9_sentence_0 4 rfl rfl)
theorem dX9_sentence_7 : decode cX9_sentence 7 = .ok (.aload_n 0, 1) := dk_42 (dk_at dksX9_sentence_0 7 rfl rfl)
theorem dX9_sentence_8 : decode cX9_sentence 8 = .ok (.iconst 0, 1) := dk_3 (dk_at dksX9_sentence_0 8 rfl rfl)
theorem dX9_sentence_9 : decode cX9_sentence 9 = .ok (.putfield 380, 3) := dk_181 1 124 (dk_at dksX9_sentence_0 9 rfl rfl)
theorem dX9_sentence_12 : decode cX9_sentence 12 = .ok (.aload_n 0, 1) := dk_42 (dk_at dksX9_sentence_0 12 rfl rfl)
theorem dX9_sentence_13 : decode cX9_sentence 13 = .ok (.iconst 0, 1) := dk_3 (dk_at dksX9_sentence_0 13 rfl rfl)
theorem dX9_sentence_14 : decode cX9_sentence 14 = .ok (.putfield 395, 3) := dk_181 1 139 (dk_at dksX9_sentence_0 14 rfl rfl)
theorem dX9_sentence_17 : decode cX9_sentence 17 = .ok (.aload_n 0, 1) := dk_42 (dk_at dksX9_sentence_0 17 rfl rfl)
theorem dX9_sentence_18 : decode cX9_sentence 18 = .ok (.iconst 0, 1) := dk_3 (dk_at dksX9_sentence_0 18 rfl rfl)
theorem dX9_sentence_19 : decode cX9_sentence 19 = .ok (.putfield 398, 3) := dk_181 1 142 (dk_at dksX9_sentence_0 19 rfl rfl)
theorem dX9_sentence_22 : decode cX9_sentence 22 = .ok (.aload_n 0, 1) := dk_42 (dk_at dksX9_sentence_0 22 rfl rfl)
theorem dX9_sentence_23 : decode cX9_sentence 23 = .ok (.invokevirtual 413, 3) := dk_182 1 157 (dk_at dksX9_sentence_1 0 rfl rfl)
theorem dX9_sentence_26 : decode cX9_sentence 26 = .ok (.ifCond .ne 10, 3) := dk_154 0 10 (dk_at dksX9_sentence_1 3 rfl rfl)
theorem dX9_sentence_29 : decode cX9_sentence 29 = .ok (.iconst (-1), 1) := dk_2 (dk_at dksX9_sentence_1 6 rfl rfl)
theorem dX9_sentence_30 : decode cX9_sentence 30 = .ok (.aload_n 0, 1) := dk_42 (dk_at dksX9_sentence_1 7 rfl rfl)
theorem dX9_sentence_31 : decode cX9_sentence 31 = .ok (.getfield 143, 3) := dk_180 0 143 (dk_at dksX9_sentence_1 8 rfl rfl)
theorem dX9_sentence_34 : decode cX9_sentence 34 = .ok (.isub, 1) := dk_100 (dk_at dksX9_sentence_1 11 rfl rfl)
theorem dX9_sentence_35 : decode cX9_sentence 35 = .ok (.ireturn, 1) := dk_172 (dk_at dksX9_sentence_1 12 rfl rfl)
theorem dX9_sentence_36 : decode cX9_sentence 36 = .ok (.aload_n 0, 1) := dk_42 (dk_at dksX9_sentence_1 13 rfl rfl)
theorem dX9_sentence_37 : decode cX9_sentence 37 = .ok (.getfield 104, 3) := dk_180 0 104 (dk_at dksX9_sentence_1 14 rfl rfl)
theorem dX9_sentence_40 : decode cX9_sentence 40 = .ok (.ifCond .eq 16, 3) := dk_153 0 16 (dk_at dksX9_sentence_1 17 rfl rfl)
theorem dX9_sentence_43 : decode cX9_sentence 43 = .ok (.aload_n 0, 1) := dk_42 (dk_at dksX9_sentence_1 20 rfl rfl)
theorem dX9_sentence_44 : decode cX9_sentence 44 = .ok (.iconst 1, 1) := dk_4 (dk_at dksX9_sentence_1 21 rfl rfl)
theorem dX9_sentence_45 : decode cX9_sentence 45 = .ok (.invokevirtual 146, 3) := dk_182 0 146 (dk_at dksX9_sentence_2 0 rfl rfl)
theorem dX9_sentence_48 : decode cX9_sentence 48 = .ok (.pop, 1) := dk_87 (dk_at dksX9_sentence_2 3 rfl rfl)
theorem dX9_sentence_49 : decode cX9_sentence 49 = .ok (.iconst (-1), 1) := dk_2 (dk_at dksX9_sentence_2 4 rfl rfl)
theorem dX9_sentence_50 : decode cX9_sentence 50 = .ok (.aload_n 0, 1) := dk_42 (dk_at dksX9_sentence_2 5 rfl rfl)
theorem dX9_sentence_51 : decode cX9_sentence 51 = .ok (.getfield 143, 3) := dk_180 0 143 (dk_at dksX9_sentence_2 6 rfl rfl)
theorem dX9_sentence_54 : decode cX9_sentence 54 = .ok (.isub, 1) := dk_100 (dk_at dksX9_sentence_2 9 rfl rfl)
theorem dX9_sentence_55 : decode cX9_sentence 55 = .ok (.ireturn, 1) := dk_172 (dk_at dksX9_sentence_2 10 rfl rfl)
theorem dX9_sentence_56 : decode cX9_sentence 56 = .ok (.aload_n 0, 1) := dk_42 (dk_at dksX9_sentence_2 11 rfl rfl)
theorem dX9_sentence_57 : decode cX9_sentence 57 = .ok (.getfield 13, 3) := dk_180 0 13 (dk_at dksX9_sentence_2 12 rfl rfl)
theorem dX9_sentence_60 : decode cX9_sentence 60 = .ok (.sipush 147, 3) := dk_17 0 147 (dk_at dksX9_sentence_2 15 rfl rfl)
theorem dX9_sentence_63 : decode cX9_sentence 63 = .ok (.iconst 1, 1) := dk_4 (dk_at dksX9_sentence_2 18 rfl rfl)
theorem dX9_sentence_64 : decode cX9_sentence 64 = .ok (.iastore, 1) := dk_79 (dk_at dksX9_sentence_2 19 rfl rfl)
theorem dX9_sentence_65 : decode cX9_sentence 65 = .ok (.aload_n 0, 1) := dk_42 (dk_at dksX9_sentence_2 20 rfl rfl)
theorem dX9_sentence_66 : decode cX9_sentence 66 = .ok (.getfield 13, 3) := dk_180 0 13 (dk_at dksX9_sentence_2 21 rfl rfl)
theorem dX9_sentence_69 : decode cX9_sentence 69 = .ok (.sipush 148, 3) := dk_17 0 148 (dk_at dksX9_sentence_3 0 rfl rfl)
theorem dX9_sentence_72 : decode cX9_sentence 72 = .ok (.aload_n 0, 1) := dk_42 (dk_at dksX9_sentence_3 3 rfl rfl)
theorem dX9_sentence_73 : decode cX9_sentence 73 = .ok (.getfield 386, 3) := dk_180 1 130 (dk_at dksX9_sentence_3 4 rfl rfl)
theorem dX9_sentence_76 : decode cX9_sentence 76 = .ok (.iastore, 1) := dk_79 (dk_at dksX9_sentence_3 7 rfl rfl)
theorem dX9_sentence_77 : decode cX9_sentence 77 = .ok (.iconst 0, 1) := dk_3 (dk_at dksX9_sentence_3 8 rfl rfl)
theorem dX9_sentence_78 : decode cX9_sentence 78 = .ok (.istore_n 1, 1) := dk_60 (dk_at dksX9_sentence_3 9 rfl rfl)
theorem dX9_sentence_79 : decode cX9_sentence 79 = .ok (.iload_n 1, 1) := dk_27 (dk_at dksX9_sentence_3 10 rfl rfl)
theorem dX9_sentence_80 : decode cX9_sentence 80 = .ok (.sipush 240, 3) := dk_17 0 240 (dk_at dksX9_sentence_3 11 rfl rfl)
theorem dX9_sentence_83 : decode cX9_sentence 83 = .ok (.if_icmp .ge 25, 3) := dk_162 0 25 (dk_at dksX9_sentence_3 14 rfl rfl)
theorem dX9_sentence_86 : decode cX9_sentence 86 = .ok (.aload_n 0, 1) := dk_42 (dk_at dksX9_sentence_3 17 rfl rfl)
theorem dX9_sentence_87 : decode cX9_sentence 87 = .ok (.getfield 13, 3) := dk_180 0 13 (dk_at dksX9_sentence_3 18 rfl rfl)
theorem dX9_sentence_90 : decode cX9_sentence 90 = .ok (.sipush 149, 3) := dk_17 0 149 (dk_at dksX9_sentence_3 21 rfl rfl)
theorem dX9_sentence_93 : decode cX9_sentence 93 = .ok (.iload_n 1, 1) := dk_27 (dk_at dksX9_sentence_4 0 rfl rfl)
theorem dX9_sentence_94 : decode cX9_sentence 94 = .ok (.iadd, 1) := dk_96 (dk_at dksX9_sentence_4 1 rfl rfl)
theorem dX9_sentence_95 : decode cX9_sentence 95 = .ok (.aload_n 0, 1) := dk_42 (dk_at dksX9_sentence_4 2 rfl rfl)
theorem dX9_sentence_96 : decode cX9_sentence 96 = .ok (.getfield 79, 3) := dk_180 0 79 (dk_at dksX9_sentence_4 3 rfl rfl)
theorem dX9_sentence_99 : decode cX9_sentence 99 = .ok (.iload_n 1, 1) := dk_27 (dk_at dksX9_sentence_4 6 rfl rfl)
theorem dX9_sentence_100 : decode cX9_sentence 100 = .ok (.iaload, 1) := dk_46 (dk_at dksX9_sentence_4 7 rfl rfl)
theorem dX9_sentence_101 : decode cX9_sentence 101 = .ok (.iastore, 1) := dk_79 (dk_at dksX9_sentence_4 8 rfl rfl)
theorem dX9_sentence_102 : decode cX9_sentence 102 = .ok (.iinc 1 1, 3) := dk_132 1 1 (dk_at dksX9_sentence_4 9 rfl rfl)
theorem dX9_sentence_105 : decode cX9_sentence 105 = .ok (.goto (-26), 3) := dk_167 255 230 (dk_at dksX9_sentence_4 12 rfl rfl)
theorem dX9_sentence_108 : decode cX9_sentence 108 = .ok (.aload_n 0, 1) := dk_42 (dk_at dksX9_sentence_4 15 rfl rfl)
theorem dX9_sentence_109 : decode cX9_sentence 109 = .ok (.getfield 395, 3) := dk_180 1 139 (dk_at dksX9_sentence_4 16 rfl rfl)
theorem dX9_sentence_112 : decode cX9_sentence 112 = .ok (.ireturn, 1) := dk_172 (dk_at dksX9_sentence_4 19 rfl rfl)
abbrev cX9_readOr : ByteArray := prog_25_method_109_code
def yX9_readOr : MethodName := ⟨RX9, "readOr", "()Z"⟩
def dkwX9_readOr_2 : List UInt8 := [167, 255, 222, 42, 27, 181, 1, 130, 4, 172]
abbrev dktX9_readOr_2 : List UInt8 := dkwX9_readOr_2 ++ []
def dkwX9_readOr_1 : List UInt8 := [182, 0, 156, 42, 182, 1, 127, 154, 0, 5, 3, 172, 42, 6, 27, 42, 180, 1, 130, 3, 182, 1, 133, 60]
abbrev dktX9_readOr_1 : List UInt8 := dkwX9_readOr_1 ++ dktX9_readOr_2
def dkwX9_readOr_0 : List UInt8 := [42, 182, 1, 127, 154, 0, 5, 3, 172, 42, 180, 1, 130, 60, 42, 16, 16, 182, 0, 191, 153, 0, 31, 42]
abbrev dktX9_readOr_0 : List UInt8 := dkwX9_readOr_0 ++ dktX9_readOr_1
theorem dksX9_readOr_0 : cX9_readOr.data.toList.drop 0 = dktX9_readOr_0 := by decide +kernel
theorem dksX9_readOr_1 : cX9_readOr.data.toList.drop 24 = dktX9_readOr_1 := dk_seg dksX9_readOr_0 24 rfl rfl
theorem dksX9_readOr_2 : cX9_readOr.data.toList.drop 48 = dktX9_readOr_2 := dk_seg dksX9_readOr_1 24 rfl rfl
theorem dX9_readOr_0 : decode cX9_readOr 0 = .ok (.aload_n 0, 1) := dk_42 (dk_at dksX9_readOr_0 0 rfl rfl)
theorem dX9_readOr_1 : decode cX9_readOr 1 = .ok (.invokevirtual 383, 3) := dk_182 1 127 (dk_at dksX9_readOr_0 1 rfl rfl)
theorem dX9_readOr_4 : decode cX9_readOr 4 = .ok (.ifCond .ne 5, 3) := dk_154 0 5 (dk_at dksX9_readOr_0 4 rfl rfl)
theorem dX9_readOr_7 : decode cX9_readOr 7 = .ok (.iconst 0, 1) := dk_3 (dk_at dksX9_readOr_0 7 rfl rfl)
theorem dX9_readOr_8 : decode cX9_readOr 8 = .ok (.ireturn, 1) := dk_172 (dk_at dksX9_readOr_0 8 rfl rfl)
theorem dX9_readOr_9 : decode cX9_readOr 9 = .ok (.aload_n 0, 1) := dk_42 (dk_at dksX9_readOr_0 9 rfl rfl)
theorem dX9_readOr_10 : decode cX9_readOr 10 = .ok (.getfield 386, 3) := dk_180 1 130 (dk_at dksX9_readOr_0 10 rfl rfl)
theorem dX9_readOr_13 : decode cX9_readOr 13 = .ok (.istore_n 1, 1) := dk_60 (dk_at dksX9_readOr_0 13 rfl rfl)
theorem dX9_readOr_14 : decode cX9_readOr 14 = .ok (.aload_n 0, 1) := dk_42 (dk_at dksX9_readOr_0 14 rfl rfl)
theorem dX9_readOr_15 : decode cX9_readOr 15 = .ok (.bipush 16, 2) := dk_16 16 (dk_at dksX9_readOr_0 15 rfl rfl)
theorem dX9_readOr_17 : decode cX9_readOr 17 = .ok (.invokevirtual 191, 3) := dk_182 0 191 (dk_at dksX9_readOr_0 17 rfl rfl)
theorem dX9_readOr_20 : decode cX9_readOr 20 = .ok (.ifCond .eq 31, 3) := dk_153 0 31 (dk_at dksX9_readOr_0 20 rfl rfl)
theorem dX9_readOr_23 : decode cX9_readOr 23 = .ok (.aload_n 0, 1) := dk_42 (dk_at dksX9_readOr_0 23 rfl rfl)
theorem dX9_readOr_24 : decode cX9_readOr 24 = .ok (.invokevirtual 156, 3) := dk_182 0 156 (dk_at dksX9_readOr_1 0 rfl rfl)
theorem dX9_readOr_27 : decode cX9_readOr 27 = .ok (.aload_n 0, 1) := dk_42 (dk_at dksX9_readOr_1 3 rfl rfl)
theorem dX9_readOr_28 : decode cX9_readOr 28 = .ok (.invokevirtual 383, 3) := dk_182 1 127 (dk_at dksX9_readOr_1 4 rfl rfl)
theorem dX9_readOr_31 : decode cX9_readOr 31 = .ok (.ifCond .ne 5, 3) := dk_154 0 5 (dk_at dksX9_readOr_1 7 rfl rfl)
theorem dX9_readOr_34 : decode cX9_readOr 34 = .ok (.iconst 0, 1) := dk_3 (dk_at dksX9_readOr_1 10 rfl rfl)
theorem dX9_readOr_35 : decode cX9_readOr 35 = .ok (.ireturn, 1) := dk_172 (dk_at dksX9_readOr_1 11 rfl rfl)
theorem dX9_readOr_36 : decode cX9_readOr 36 = .ok (.aload_n 0, 1) := dk_42 (dk_at dksX9_readOr_1 12 rfl rfl)
theorem dX9_readOr_37 : decode cX9_readOr 37 = .ok (.iconst 3, 1) := dk_6 (dk_at dksX9_readOr_1 13 rfl rfl)
theorem dX9_readOr_38 : decode cX9_readOr 38 = .ok (.iload_n 1, 1) := dk_27 (dk_at dksX9_readOr_1 14 rfl rfl)
theorem dX9_readOr_39 : decode cX9_readOr 39 = .ok (.aload_n 0, 1) := dk_42 (dk_at dksX9_readOr_1 15 rfl rfl)
theorem dX9_readOr_40 : decode cX9_readOr 40 = .ok (.getfield 386, 3) := dk_180 1 130 (dk_at dksX9_readOr_1 16 rfl rfl)
theorem dX9_readOr_43 : decode cX9_readOr 43 = .ok (.iconst 0, 1) := dk_3 (dk_at dksX9_readOr_1 19 rfl rfl)
theorem dX9_readOr_44 : decode cX9_readOr 44 = .ok (.invokevirtual 389, 3) := dk_182 1 133 (dk_at dksX9_readOr_1 20 rfl rfl)
theorem dX9_readOr_47 : decode cX9_readOr 47 = .ok (.istore_n 1, 1) := dk_60 (dk_at dksX9_readOr_1 23 rfl rfl)
theorem dX9_readOr_48 : decode cX9_readOr 48 = .ok (.goto (-34), 3) := dk_167 255 222 (dk_at dksX9_readOr_2 0 rfl rfl)
theorem dX9_readOr_51 : decode cX9_readOr 51 = .ok (.aload_n 0, 1) := dk_42 (dk_at dksX9_readOr_2 3 rfl rfl)
theorem dX9_readOr_52 : decode cX9_readOr 52 = .ok (.iload_n 1, 1) := dk_27 (dk_at dksX9_readOr_2 4 rfl rfl)
theorem dX9_readOr_53 : decode cX9_readOr 53 = .ok (.putfield 386, 3) := dk_181 1 130 (dk_at dksX9_readOr_2 5 rfl rfl)
theorem dX9_readOr_56 : decode cX9_readOr 56 = .ok (.iconst 1, 1) := dk_4 (dk_at dksX9_readOr_2 8 rfl rfl)
theorem dX9_readOr_57 : decode cX9_readOr 57 = .ok (.ireturn, 1) := dk_172 (dk_at dksX9_readOr_2 9 rfl rfl)
abbrev cX9_readAnd : ByteArray := prog_25_method_110_code
def yX9_readAnd : MethodName := ⟨RX9, "readAnd", "()Z"⟩
def dkwX9_readAnd_2 : List UInt8 := [167, 255, 222, 42, 27, 181, 1, 130, 4, 172]
abbrev dktX9_readAnd_2 : List UInt8 := dkwX9_readAnd_2 ++ []
def dkwX9_readAnd_1 : List UInt8 := [182, 0, 156, 42, 182, 1, 136, 154, 0, 5, 3, 172, 42, 5, 27, 42, 180, 1, 130, 3, 182, 1, 133, 60]
abbrev dktX9_readAnd_1 : List UInt8 := dkwX9_readAnd_1 ++ dktX9_readAnd_2
def dkwX9_readAnd_0 : List UInt8 := [42, 182, 1, 136, 154, 0, 5, 3, 172, 42, 180, 1, 130, 60, 42, 16, 17, 182, 0, 191, 153, 0, 31, 42]
abbrev dktX9_readAnd_0 : List UInt8 := dkwX9_readAnd_0 ++ dktX9_readAnd_1
theorem dksX9_readAnd_0 : cX9_readAnd.data.toList.drop 0 = dktX9_readAnd_0 := by decide +kernel
theorem dksX9_readAnd_1 : cX9_readAnd.data.toList.drop 24 = dktX9_readAnd_1 := dk_seg dksX9_readAnd_0 24 rfl rfl
theorem dksX9_readAnd_2 : cX9_readAnd.data.toList.drop 48 = dktX9_readAnd_2 := dk_seg dksX9_readAnd_1 24 rfl rfl
theorem dX9_readAnd_0 : decode cX9_readAnd 0 = .ok (.aload_n 0, 1) := dk_42 (dk_at dksX9_readAnd_0 0 rfl rfl)
theorem dX9_readAnd_1 : decode cX9_readAnd 1 = .ok (.invokevirtual 392, 3) := dk_182 1 136 (dk_at dksX9_readAnd_0 1 rfl rfl)
theorem dX9_readAnd_4 : decode cX9_readAnd 4 = .ok (.ifCond .ne 5, 3) := dk_154 0 5 (dk_at dksX9_readAnd_0 4 rfl rfl)
theorem dX9_readAnd_7 : decode cX9_readAnd 7 = .ok (.iconst 0, 1) := dk_3 (dk_at dksX9_readAnd_0 7 rfl rfl)
theorem dX9_readAnd_8 : decode cX9_readAnd 8 = .ok (.ireturn, 1) := dk_172 (dk_at dksX9_readAnd_0 8 rfl rfl)
theorem dX9_readAnd_9 : decode cX9_readAnd 9 = .ok (.aload_n 0, 1) := dk_42 (dk_at dksX9_readAnd_0 9 rfl rfl)
theorem dX9_readAnd_10 : decode cX9_readAnd 10 = .ok (.getfield 386, 3) := dk_180 1 130 (dk_at dksX9_readAnd_0 10 rfl rfl)
theorem dX9_readAnd_13 : decode cX9_readAnd 13 = .ok (.istore_n 1, 1) := dk_60 (dk_at dksX9_readAnd_0 13 rfl rfl)
theorem dX9_readAnd_14 : decode cX9_readAnd 14 = .ok (.aload_n 0, 1) := dk_42 (dk_at dksX9_readAnd_0 14 rfl rfl)
theorem dX9_readAnd_15 : decode cX9_readAnd 15 = .ok (.bipush 17, 2) := dk_16 17 (dk_at dksX9_readAnd_0 15 rfl rfl)
theorem dX9_readAnd_17 : decode cX9_readAnd 17 = .ok (.invokevirtual 191, 3) := dk_182 0 191 (dk_at dksX9_readAnd_0 17 rfl rfl)
theorem dX9_readAnd_20 : decode cX9_readAnd 20 = .ok (.ifCond .eq 31, 3) := dk_153 0 31 (dk_at dksX9_readAnd_0 20 rfl rfl)
theorem dX9_readAnd_23 : decode cX9_readAnd 23 = .ok (.aload_n 0, 1) := dk_42 (dk_at dksX9_readAnd_0 23 rfl rfl)
theorem dX9_readAnd_24 : decode cX9_readAnd 24 = .ok (.invokevirtual 156, 3) := dk_182 0 156 (dk_at dksX9_readAnd_1 0 rfl rfl)
theorem dX9_readAnd_27 : decode cX9_readAnd 27 = .ok (.aload_n 0, 1) := dk_42 (dk_at dksX9_readAnd_1 3 rfl rfl)
theorem dX9_readAnd_28 : decode cX9_readAnd 28 = .ok (.invokevirtual 392, 3) := dk_182 1 136 (dk_at dksX9_readAnd_1 4 rfl rfl)
theorem dX9_readAnd_31 : decode cX9_readAnd 31 = .ok (.ifCond .ne 5, 3) := dk_154 0 5 (dk_at dksX9_readAnd_1 7 rfl rfl)
theorem dX9_readAnd_34 : decode cX9_readAnd 34 = .ok (.iconst 0, 1) := dk_3 (dk_at dksX9_readAnd_1 10 rfl rfl)
theorem dX9_readAnd_35 : decode cX9_readAnd 35 = .ok (.ireturn, 1) := dk_172 (dk_at dksX9_readAnd_1 11 rfl rfl)
theorem dX9_readAnd_36 : decode cX9_readAnd 36 = .ok (.aload_n 0, 1) := dk_42 (dk_at dksX9_readAnd_1 12 rfl rfl)
theorem dX9_readAnd_37 : decode cX9_readAnd 37 = .ok (.iconst 2, 1) := dk_5 (dk_at dksX9_readAnd_1 13 rfl rfl)
theorem dX9_readAnd_38 : decode cX9_readAnd 38 = .ok (.iload_n 1, 1) := dk_27 (dk_at dksX9_readAnd_1 14 rfl rfl)
theorem dX9_readAnd_39 : decode cX9_readAnd 39 = .ok (.aload_n 0, 1) := dk_42 (dk_at dksX9_readAnd_1 15 rfl rfl)
theorem dX9_readAnd_40 : decode cX9_readAnd 40 = .ok (.getfield 386, 3) := dk_180 1 130 (dk_at dksX9_readAnd_1 16 rfl rfl)
theorem dX9_readAnd_43 : decode cX9_readAnd 43 = .ok (.iconst 0, 1) := dk_3 (dk_at dksX9_readAnd_1 19 rfl rfl)
theorem dX9_readAnd_44 : decode cX9_readAnd 44 = .ok (.invokevirtual 389, 3) := dk_182 1 133 (dk_at dksX9_readAnd_1 20 rfl rfl)
theorem dX9_readAnd_47 : decode cX9_readAnd 47 = .ok (.istore_n 1, 1) := dk_60 (dk_at dksX9_readAnd_1 23 rfl rfl)
theorem dX9_readAnd_48 : decode cX9_readAnd 48 = .ok (.goto (-34), 3) := dk_167 255 222 (dk_at dksX9_readAnd_2 0 rfl rfl)
theorem dX9_readAnd_51 : decode cX9_readAnd 51 = .ok (.aload_n 0, 1) := dk_42 (dk_at dksX9_readAnd_2 3 rfl rfl)
theorem dX9_readAnd_52 : decode cX9_readAnd 52 = .ok (.iload_n 1, 1) := dk_27 (dk_at dksX9_readAnd_2 4 rfl rfl)
theorem dX9_readAnd_53 : decode cX9_readAnd 53 = .ok (.putfield 386, 3) := dk_181 1 130 (dk_at dksX9_readAnd_2 5 rfl rfl)
theorem dX9_readAnd_56 : decode cX9_readAnd 56 = .ok (.iconst 1, 1) := dk_4 (dk_at dksX9_readAnd_2 8 rfl rfl)
theorem dX9_readAnd_57 : decode cX9_readAnd 57 = .ok (.ireturn, 1) := dk_172 (dk_at dksX9_readAnd_2 9 rfl rfl)
abbrev cX9_readSaid : ByteArray := prog_25_method_111_code
def yX9_readSaid : MethodName := ⟨RX9, "readSaid", "()Z"⟩
def dkwX9_readSaid_7 : List UInt8 := [89, 180, 1, 142, 4, 100, 181, 1, 142, 29, 172]
abbrev dktX9_readSaid_7 : List UInt8 := dkwX9_readSaid_7 ++ []
def dkwX9_readSaid_6 : List UInt8 := [167, 0, 23, 28, 16, 24, 162, 0, 11, 42, 28, 182, 1, 151, 167, 0, 8, 42, 28, 182, 1, 154, 62, 42]
abbrev dktX9_readSaid_6 : List UInt8 := dkwX9_readSaid_6 ++ dktX9_readSaid_7
def dkwX9_readSaid_5 : List UInt8 := [167, 0, 47, 28, 16, 22, 162, 0, 21, 42, 42, 16, 50, 28, 96, 3, 3, 3, 182, 1, 133, 181, 1, 130]
abbrev dktX9_readSaid_5 : List UInt8 := dkwX9_readSaid_5 ++ dktX9_readSaid_6
def dkwX9_readSaid_4 : List UInt8 := [62, 27, 153, 0, 11, 42, 182, 1, 145, 62, 167, 0, 61, 28, 16, 18, 160, 0, 11, 42, 182, 1, 148, 62]
abbrev dktX9_readSaid_4 : List UInt8 := dkwX9_readSaid_4 ++ dktX9_readSaid_5
def dkwX9_readSaid_3 : List UInt8 := [89, 180, 1, 139, 4, 96, 181, 1, 139, 42, 89, 180, 1, 142, 4, 96, 181, 1, 142, 42, 182, 0, 156, 4]
abbrev dktX9_readSaid_3 : List UInt8 := dkwX9_readSaid_3 ++ dktX9_readSaid_4
def dkwX9_readSaid_2 : List UInt8 := [180, 1, 139, 16, 20, 159, 0, 12, 42, 180, 1, 142, 16, 8, 160, 0, 9, 42, 7, 182, 0, 146, 172, 42]
abbrev dktX9_readSaid_2 : List UInt8 := dkwX9_readSaid_2 ++ dktX9_readSaid_3
def dkwX9_readSaid_1 : List UInt8 := [132, 2, 1, 167, 255, 239, 27, 154, 0, 15, 28, 16, 27, 164, 0, 9, 42, 4, 182, 0, 146, 172, 42]
abbrev dktX9_readSaid_1 : List UInt8 := dkwX9_readSaid_1 ++ dktX9_readSaid_2
def dkwX9_readSaid_0 : List UInt8 := [42, 16, 40, 182, 0, 159, 60, 16, 18, 61, 28, 16, 27, 163, 0, 17, 42, 28, 182, 0, 191, 154, 0, 9]
abbrev dktX9_readSaid_0 : List UInt8 := dkwX9_readSaid_0 ++ dktX9_readSaid_1
theorem dksX9_readSaid_0 : cX9_readSaid.data.toList.drop 0 = dktX9_readSaid_0 := by decide +kernel
theorem dksX9_readSaid_1 : cX9_readSaid.data.toList.drop 24 = dktX9_readSaid_1 := dk_seg dksX9_readSaid_0 24 rfl rfl
theorem dksX9_readSaid_2 : cX9_readSaid.data.toList.drop 47 = dktX9_readSaid_2 := dk_seg dksX9_readSaid_1 23 rfl rfl
theorem dksX9_readSaid_3 : cX9_readSaid.data.toList.drop 71 = dktX9_readSaid_3 := dk_seg dksX9_readSaid_2 24 rfl rfl
theorem dksX9_readSaid_4 : cX9_readSaid.data.toList.drop 95 = dktX9_readSaid_4 := dk_seg dksX9_readSaid_3 24 rfl rfl
theorem dksX9_readSaid_5 : cX9_readSaid.data.toList.drop 119 = dktX9_readSaid_5 := dk_seg dksX9_readSaid_4 24 rfl rfl
theorem dksX9_readSaid_6 : cX9_readSaid.data.toList.drop 143 = dktX9_readSaid_6 := dk_seg dksX9_readSaid_5 24 rfl rfl
theorem dksX9_readSaid_7 : cX9_readSaid.data.toList.drop 167 = dktX9_readSaid_7 := dk_seg dksX9_readSaid_6 24 rfl rfl
theorem dX9_readSaid_0 : decode cX9_readSaid 0 = .ok (.aload_n 0, 1) := dk_42 (dk_at dksX9_readSaid_0 0 rfl rfl)
theorem dX9_readSaid_1 : decode cX9_readSaid 1 = .ok (.bipush 40, 2) := dk_16 40 (dk_at dksX9_readSaid_0 1 rfl rfl)
theorem dX9_readSaid_3 : decode cX9_readSaid 3 = .ok (.invokevirtual 159, 3) := dk_182 0 159 (dk_at dksX9_readSaid_0 3 rfl rfl)
theorem dX9_readSaid_6 : decode cX9_readSaid 6 = .ok (.istore_n 1, 1) := dk_60 (dk_at dksX9_readSaid_0 6 rfl rfl)
theorem dX9_readSaid_7 : decode cX9_readSaid 7 = .ok (.bipush 18, 2) := dk_16 18 (dk_at dksX9_readSaid_0 7 rfl rfl)
theorem dX9_readSaid_9 : decode cX9_readSaid 9 = .ok (.istore_n 2, 1) := dk_61 (dk_at dksX9_readSaid_0 9 rfl rfl)
theorem dX9_readSaid_10 : decode cX9_readSaid 10 = .ok (.iload_n 2, 1) := dk_28 (dk_at dksX9_readSaid_0 10 rfl rfl)
theorem dX9_readSaid_11 : decode cX9_readSaid 11 = .ok (.bipush 27, 2) := dk_16 27 (dk_at dksX9_readSaid_0 11 rfl rfl)
theorem dX9_readSaid_13 : decode cX9_readSaid 13 = .ok (.if_icmp .gt 17, 3) := dk_163 0 17 (dk_at dksX9_readSaid_0 13 rfl rfl)
theorem dX9_readSaid_16 : decode cX9_readSaid 16 = .ok (.aload_n 0, 1) := dk_42 (dk_at dksX9_readSaid_0 16 rfl rfl)
theorem dX9_readSaid_17 : decode cX9_readSaid 17 = .ok (.iload_n 2, 1) := dk_28 (dk_at dksX9_readSaid_0 17 rfl rfl)
theorem dX9_readSaid_18 : decode cX9_readSaid 18 = .ok (.invokevirtual 191, 3) := dk_182 0 191 (dk_at dksX9_readSaid_0 18 rfl rfl)
theorem dX9_readSaid_21 : decode cX9_readSaid 21 = .ok (.ifCond .ne 9, 3) := dk_154 0 9 (dk_at dksX9_readSaid_0 21 rfl rfl)
theorem dX9_readSaid_24 : decode cX9_readSaid 24 = .ok (.iinc 2 1, 3) := dk_132 2 1 (dk_at dksX9_readSaid_1 0 rfl rfl)
theorem dX9_readSaid_27 : decode cX9_readSaid 27 = .ok (.goto (-17), 3) := dk_167 255 239 (dk_at dksX9_readSaid_1 3 rfl rfl)
theorem dX9_readSaid_30 : decode cX9_readSaid 30 = .ok (.iload_n 1, 1) := dk_27 (dk_at dksX9_readSaid_1 6 rfl rfl)
theorem dX9_readSaid_31 : decode cX9_readSaid 31 = .ok (.ifCond .ne 15, 3) := dk_154 0 15 (dk_at dksX9_readSaid_1 7 rfl rfl)
theorem dX9_readSaid_34 : decode cX9_readSaid 34 = .ok (.iload_n 2, 1) := dk_28 (dk_at dksX9_readSaid_1 10 rfl rfl)
theorem dX9_readSaid_35 : decode cX9_readSaid 35 = .ok (.bipush 27, 2) := dk_16 27 (dk_at dksX9_readSaid_1 11 rfl rfl)
theorem dX9_readSaid_37 : decode cX9_readSaid 37 = .ok (.if_icmp .le 9, 3) := dk_164 0 9 (dk_at dksX9_readSaid_1 13 rfl rfl)
theorem dX9_readSaid_40 : decode cX9_readSaid 40 = .ok (.aload_n 0, 1) := dk_42 (dk_at dksX9_readSaid_1 16 rfl rfl)
theorem dX9_readSaid_41 : decode cX9_readSaid 41 = .ok (.iconst 1, 1) := dk_4 (dk_at dksX9_readSaid_1 17 rfl rfl)
theorem dX9_readSaid_42 : decode cX9_readSaid 42 = .ok (.invokevirtual 146, 3) := dk_182 0 146 (dk_at dksX9_readSaid_1 18 rfl rfl)
theorem dX9_readSaid_45 : decode cX9_readSaid 45 = .ok (.ireturn, 1) := dk_172 (dk_at dksX9_readSaid_1 21 rfl rfl)
theorem dX9_readSaid_46 : decode cX9_readSaid 46 = .ok (.aload_n 0, 1) := dk_42 (dk_at dksX9_readSaid_1 22 rfl rfl)
theorem dX9_readSaid_47 : decode cX9_readSaid 47 = .ok (.getfield 395, 3) := dk_180 1 139 (dk_at dksX9_readSaid_2 0 rfl rfl)
theorem dX9_readSaid_50 : decode cX9_readSaid 50 = .ok (.bipush 20, 2) := dk_16 20 (dk_at dksX9_readSaid_2 3 rfl rfl)
theorem dX9_readSaid_52 : decode cX9_readSaid 52 = .ok (.if_icmp .eq 12, 3) := dk_159 0 12 (dk_at dksX9_readSaid_2 5 rfl rfl)
theorem dX9_readSaid_55 : decode cX9_readSaid 55 = .ok (.aload_n 0, 1) := dk_42 (dk_at dksX9_readSaid_2 8 rfl rfl)
theorem dX9_readSaid_56 : decode cX9_readSaid 56 = .ok (.getfield 398, 3) := dk_180 1 142 (dk_at dksX9_readSaid_2 9 rfl rfl)
theorem dX9_readSaid_59 : decode cX9_readSaid 59 = .ok (.bipush 8, 2) := dk_16 8 (dk_at dksX9_readSaid_2 12 rfl rfl)
theorem dX9_readSaid_61 : decode cX9_readSaid 61 = .ok (.if_icmp .ne 9, 3) := dk_160 0 9 (dk_at dksX9_readSaid_2 14 rfl rfl)
theorem dX9_readSaid_64 : decode cX9_readSaid 64 = .ok (.aload_n 0, 1) := dk_42 (dk_at dksX9_readSaid_2 17 rfl rfl)
theorem dX9_readSaid_65 : decode cX9_readSaid 65 = .ok (.iconst 4, 1) := dk_7 (dk_at dksX9_readSaid_2 18 rfl rfl)
theorem dX9_readSaid_66 : decode cX9_readSaid 66 = .ok (.invokevirtual 146, 3) := dk_182 0 146 (dk_at dksX9_readSaid_2 19 rfl rfl)
theorem dX9_readSaid_69 : decode cX9_readSaid 69 = .ok (.ireturn, 1) := dk_172 (dk_at dksX9_readSaid_2 22 rfl rfl)
theorem dX9_readSaid_70 : decode cX9_readSaid 70 = .ok (.aload_n 0, 1) := dk_42 (dk_at dksX9_readSaid_2 23 rfl rfl)
theorem dX9_readSaid_71 : decode cX9_readSaid 71 = .ok (.dup, 1) := dk_89 (dk_at dksX9_readSaid_3 0 rfl rfl)
theorem dX9_readSaid_72 : decode cX9_readSaid 72 = .ok (.getfield 395, 3) := dk_180 1 139 (dk_at dksX9_readSaid_3 1 rfl rfl)
theorem dX9_readSaid_75 : decode cX9_readSaid 75 = .ok (.iconst 1, 1) := dk_4 (dk_at dksX9_readSaid_3 4 rfl rfl)
theorem dX9_readSaid_76 : decode cX9_readSaid 76 = .ok (.iadd, 1) := dk_96 (dk_at dksX9_readSaid_3 5 rfl rfl)
theorem dX9_readSaid_77 : decode cX9_readSaid 77 = .ok (.putfield 395, 3) := dk_181 1 139 (dk_at dksX9_readSaid_3 6 rfl rfl)
theorem dX9_readSaid_80 : decode cX9_readSaid 80 = .ok (.aload_n 0, 1) := dk_42 (dk_at dksX9_readSaid_3 9 rfl rfl)
theorem dX9_readSaid_81 : decode cX9_readSaid 81 = .ok (.dup, 1) := dk_89 (dk_at dksX9_readSaid_3 10 rfl rfl)
theorem dX9_readSaid_82 : decode cX9_readSaid 82 = .ok (.getfield 398, 3) := dk_180 1 142 (dk_at dksX9_readSaid_3 11 rfl rfl)
theorem dX9_readSaid_85 : decode cX9_readSaid 85 = .ok (.iconst 1, 1) := dk_4 (dk_at dksX9_readSaid_3 14 rfl rfl)
theorem dX9_readSaid_86 : decode cX9_readSaid 86 = .ok (.iadd, 1) := dk_96 (dk_at dksX9_readSaid_3 15 rfl rfl)
theorem dX9_readSaid_87 : decode cX9_readSaid 87 = .ok (.putfield 398, 3) := dk_181 1 142 (dk_at dksX9_readSaid_3 16 rfl rfl)
theorem dX9_readSaid_90 : decode cX9_readSaid 90 = .ok (.aload_n 0, 1) := dk_42 (dk_at dksX9_readSaid_3 19 rfl rfl)
theorem dX9_readSaid_91 : decode cX9_readSaid 91 = .ok (.invokevirtual 156, 3) := dk_182 0 156 (dk_at dksX9_readSaid_3 20 rfl rfl)
theorem dX9_readSaid_94 : decode cX9_readSaid 94 = .ok (.iconst 1, 1) := dk_4 (dk_at dksX9_readSaid_3 23 rfl rfl)
theorem dX9_readSaid_95 : decode cX9_readSaid 95 = .ok (.istore_n 3, 1) := dk_62 (dk_at dksX9_readSaid_4 0 rfl rfl)
theorem dX9_readSaid_96 : decode cX9_readSaid 96 = .ok (.iload_n 1, 1) := dk_27 (dk_at dksX9_readSaid_4 1 rfl rfl)
theorem dX9_readSaid_97 : decode cX9_readSaid 97 = .ok (.ifCond .eq 11, 3) := dk_153 0 11 (dk_at dksX9_readSaid_4 2 rfl rfl)
theorem dX9_readSaid_100 : decode cX9_readSaid 100 = .ok (.aload_n 0, 1) := dk_42 (dk_at dksX9_readSaid_4 5 rfl rfl)
theorem dX9_readSaid_101 : decode cX9_readSaid 101 = .ok (.invokevirtual 401, 3) := dk_182 1 145 (dk_at dksX9_readSaid_4 6 rfl rfl)
theorem dX9_readSaid_104 : decode cX9_readSaid 104 = .ok (.istore_n 3, 1) := dk_62 (dk_at dksX9_readSaid_4 9 rfl rfl)
theorem dX9_readSaid_105 : decode cX9_readSaid 105 = .ok (.goto 61, 3) := dk_167 0 61 (dk_at dksX9_readSaid_4 10 rfl rfl)
theorem dX9_readSaid_108 : decode cX9_readSaid 108 = .ok (.iload_n 2, 1) := dk_28 (dk_at dksX9_readSaid_4 13 rfl rfl)
theorem dX9_readSaid_109 : decode cX9_readSaid 109 = .ok (.bipush 18, 2) := dk_16 18 (dk_at dksX9_readSaid_4 14 rfl rfl)
theorem dX9_readSaid_111 : decode cX9_readSaid 111 = .ok (.if_icmp .ne 11, 3) := dk_160 0 11 (dk_at dksX9_readSaid_4 16 rfl rfl)
theorem dX9_readSaid_114 : decode cX9_readSaid 114 = .ok (.aload_n 0, 1) := dk_42 (dk_at dksX9_readSaid_4 19 rfl rfl)
theorem dX9_readSaid_115 : decode cX9_readSaid 115 = .ok (.invokevirtual 404, 3) := dk_182 1 148 (dk_at dksX9_readSaid_4 20 rfl rfl)
theorem dX9_readSaid_118 : decode cX9_readSaid 118 = .ok (.istore_n 3, 1) := dk_62 (dk_at dksX9_readSaid_4 23 rfl rfl)
theorem dX9_readSaid_119 : decode cX9_readSaid 119 = .ok (.goto 47, 3) := dk_167 0 47 (dk_at dksX9_readSaid_5 0 rfl rfl)
theorem dX9_readSaid_122 : decode cX9_readSaid 122 = .ok (.iload_n 2, 1) := dk_28 (dk_at dksX9_readSaid_5 3 rfl rfl)
theorem dX9_readSaid_123 : decode cX9_readSaid 123 = .ok (.bipush 22, 2) := dk_16 22 (dk_at dksX9_readSaid_5 4 rfl rfl)
theorem dX9_readSaid_125 : decode cX9_readSaid 125 = .ok (.if_icmp .ge 21, 3) := dk_162 0 21 (dk_at dksX9_readSaid_5 6 rfl rfl)
theorem dX9_readSaid_128 : decode cX9_readSaid 128 = .ok (.aload_n 0, 1) := dk_42 (dk_at dksX9_readSaid_5 9 rfl rfl)
theorem dX9_readSaid_129 : decode cX9_readSaid 129 = .ok (.aload_n 0, 1) := dk_42 (dk_at dksX9_readSaid_5 10 rfl rfl)
theorem dX9_readSaid_130 : decode cX9_readSaid 130 = .ok (.bipush 50, 2) := dk_16 50 (dk_at dksX9_readSaid_5 11 rfl rfl)
theorem dX9_readSaid_132 : decode cX9_readSaid 132 = .ok (.iload_n 2, 1) := dk_28 (dk_at dksX9_readSaid_5 13 rfl rfl)
theorem dX9_readSaid_133 : decode cX9_readSaid 133 = .ok (.iadd, 1) := dk_96 (dk_at dksX9_readSaid_5 14 rfl rfl)
theorem dX9_readSaid_134 : decode cX9_readSaid 134 = .ok (.iconst 0, 1) := dk_3 (dk_at dksX9_readSaid_5 15 rfl rfl)
theorem dX9_readSaid_135 : decode cX9_readSaid 135 = .ok (.iconst 0, 1) := dk_3 (dk_at dksX9_readSaid_5 16 rfl rfl)
theorem dX9_readSaid_136 : decode cX9_readSaid 136 = .ok (.iconst 0, 1) := dk_3 (dk_at dksX9_readSaid_5 17 rfl rfl)
theorem dX9_readSaid_137 : decode cX9_readSaid 137 = .ok (.invokevirtual 389, 3) := dk_182 1 133 (dk_at dksX9_readSaid_5 18 rfl rfl)
theorem dX9_readSaid_140 : decode cX9_readSaid 140 = .ok (.putfield 386, 3) := dk_181 1 130 (dk_at dksX9_readSaid_5 21 rfl rfl)
theorem dX9_readSaid_143 : decode cX9_readSaid 143 = .ok (.goto 23, 3) := dk_167 0 23 (dk_at dksX9_readSaid_6 0 rfl rfl)
theorem dX9_readSaid_146 : decode cX9_readSaid 146 = .ok (.iload_n 2, 1) := dk_28 (dk_at dksX9_readSaid_6 3 rfl rfl)
theorem dX9_readSaid_147 : decode cX9_readSaid 147 = .ok (.bipush 24, 2) := dk_16 24 (dk_at dksX9_readSaid_6 4 rfl rfl)
theorem dX9_readSaid_149 : decode cX9_readSaid 149 = .ok (.if_icmp .ge 11, 3) := dk_162 0 11 (dk_at dksX9_readSaid_6 6 rfl rfl)
theorem dX9_readSaid_152 : decode cX9_readSaid 152 = .ok (.aload_n 0, 1) := dk_42 (dk_at dksX9_readSaid_6 9 rfl rfl)
theorem dX9_readSaid_153 : decode cX9_readSaid 153 = .ok (.iload_n 2, 1) := dk_28 (dk_at dksX9_readSaid_6 10 rfl rfl)
theorem dX9_readSaid_154 : decode cX9_readSaid 154 = .ok (.invokevirtual 407, 3) := dk_182 1 151 (dk_at dksX9_readSaid_6 11 rfl rfl)
theorem dX9_readSaid_157 : decode cX9_readSaid 157 = .ok (.goto 8, 3) := dk_167 0 8 (dk_at dksX9_readSaid_6 14 rfl rfl)
theorem dX9_readSaid_160 : decode cX9_readSaid 160 = .ok (.aload_n 0, 1) := dk_42 (dk_at dksX9_readSaid_6 17 rfl rfl)
theorem dX9_readSaid_161 : decode cX9_readSaid 161 = .ok (.iload_n 2, 1) := dk_28 (dk_at dksX9_readSaid_6 18 rfl rfl)
theorem dX9_readSaid_162 : decode cX9_readSaid 162 = .ok (.invokevirtual 410, 3) := dk_182 1 154 (dk_at dksX9_readSaid_6 19 rfl rfl)
theorem dX9_readSaid_165 : decode cX9_readSaid 165 = .ok (.istore_n 3, 1) := dk_62 (dk_at dksX9_readSaid_6 22 rfl rfl)
theorem dX9_readSaid_166 : decode cX9_readSaid 166 = .ok (.aload_n 0, 1) := dk_42 (dk_at dksX9_readSaid_6 23 rfl rfl)
theorem dX9_readSaid_167 : decode cX9_readSaid 167 = .ok (.dup, 1) := dk_89 (dk_at dksX9_readSaid_7 0 rfl rfl)
theorem dX9_readSaid_168 : decode cX9_readSaid 168 = .ok (.getfield 398, 3) := dk_180 1 142 (dk_at dksX9_readSaid_7 1 rfl rfl)
theorem dX9_readSaid_171 : decode cX9_readSaid 171 = .ok (.iconst 1, 1) := dk_4 (dk_at dksX9_readSaid_7 4 rfl rfl)
theorem dX9_readSaid_172 : decode cX9_readSaid 172 = .ok (.isub, 1) := dk_100 (dk_at dksX9_readSaid_7 5 rfl rfl)
theorem dX9_readSaid_173 : decode cX9_readSaid 173 = .ok (.putfield 398, 3) := dk_181 1 142 (dk_at dksX9_readSaid_7 6 rfl rfl)
theorem dX9_readSaid_176 : decode cX9_readSaid 176 = .ok (.iload_n 3, 1) := dk_29 (dk_at dksX9_readSaid_7 9 rfl rfl)
theorem dX9_readSaid_177 : decode cX9_readSaid 177 = .ok (.ireturn, 1) := dk_172 (dk_at dksX9_readSaid_7 10 rfl rfl)
abbrev cX9_readBracket : ByteArray := prog_25_method_113_code
def yX9_readBracket : MethodName := ⟨RX9, "readBracket", "()Z"⟩
def dkwX9_readBracket_1 : List UInt8 := [42, 182, 0, 156, 4, 172]
abbrev dktX9_readBracket_1 : List UInt8 := dkwX9_readBracket_1 ++ []
def dkwX9_readBracket_0 : List UInt8 := [42, 182, 1, 157, 154, 0, 5, 3, 172, 42, 16, 41, 182, 0, 159, 154, 0, 9, 42, 4, 182, 0, 146, 172]
abbrev dktX9_readBracket_0 : List UInt8 := dkwX9_readBracket_0 ++ dktX9_readBracket_1
theorem dksX9_readBracket_0 : cX9_readBracket.data.toList.drop 0 = dktX9_readBracket_0 := by decide +kernel
theorem dksX9_readBracket_1 : cX9_readBracket.data.toList.drop 24 = dktX9_readBracket_1 := dk_seg dksX9_readBracket_0 24 rfl rfl
theorem dX9_readBracket_0 : decode cX9_readBracket 0 = .ok (.aload_n 0, 1) := dk_42 (dk_at dksX9_readBracket_0 0 rfl rfl)
theorem dX9_readBracket_1 : decode cX9_readBracket 1 = .ok (.invokevirtual 413, 3) := dk_182 1 157 (dk_at dksX9_readBracket_0 1 rfl rfl)
theorem dX9_readBracket_4 : decode cX9_readBracket 4 = .ok (.ifCond .ne 5, 3) := dk_154 0 5 (dk_at dksX9_readBracket_0 4 rfl rfl)
theorem dX9_readBracket_7 : decode cX9_readBracket 7 = .ok (.iconst 0, 1) := dk_3 (dk_at dksX9_readBracket_0 7 rfl rfl)
theorem dX9_readBracket_8 : decode cX9_readBracket 8 = .ok (.ireturn, 1) := dk_172 (dk_at dksX9_readBracket_0 8 rfl rfl)
theorem dX9_readBracket_9 : decode cX9_readBracket 9 = .ok (.aload_n 0, 1) := dk_42 (dk_at dksX9_readBracket_0 9 rfl rfl)
theorem dX9_readBracket_10 : decode cX9_readBracket 10 = .ok (.bipush 41, 2) := dk_16 41 (dk_at dksX9_readBracket_0 10 rfl rfl)
theorem dX9_readBracket_12 : decode cX9_readBracket 12 = .ok (.invokevirtual 159, 3) := dk_182 0 159 (dk_at dksX9_readBracket_0 12 rfl rfl)
theorem dX9_readBracket_15 : decode cX9_readBracket 15 = .ok (.ifCond .ne 9, 3) := dk_154 0 9 (dk_at dksX9_readBracket_0 15 rfl rfl)
theorem dX9_readBracket_18 : decode cX9_readBracket 18 = .ok (.aload_n 0, 1) := dk_42 (dk_at dksX9_readBracket_0 18 rfl rfl)
theorem dX9_readBracket_19 : decode cX9_readBracket 19 = .ok (.iconst 1, 1) := dk_4 (dk_at dksX9_readBracket_0 19 rfl rfl)
theorem dX9_readBracket_20 : decode cX9_readBracket 20 = .ok (.invokevirtual 146, 3) := dk_182 0 146 (dk_at dksX9_readBracket_0 20 rfl rfl)
theorem dX9_readBracket_23 : decode cX9_readBracket 23 = .ok (.ireturn, 1) := dk_172 (dk_at dksX9_readBracket_0 23 rfl rfl)
theorem dX9_readBracket_24 : decode cX9_readBracket 24 = .ok (.aload_n 0, 1) := dk_42 (dk_at dksX9_readBracket_1 0 rfl rfl)
theorem dX9_readBracket_25 : decode cX9_readBracket 25 = .ok (.invokevirtual 156, 3) := dk_182 0 156 (dk_at dksX9_readBracket_1 1 rfl rfl)
theorem dX9_readBracket_28 : decode cX9_readBracket 28 = .ok (.iconst 1, 1) := dk_4 (dk_at dksX9_readBracket_1 4 rfl rfl)
theorem dX9_readBracket_29 : decode cX9_readBracket 29 = .ok (.ireturn, 1) := dk_172 (dk_at dksX9_readBracket_1 5 rfl rfl)
abbrev cX9_readNot : ByteArray := prog_25_method_112_code
def yX9_readNot : MethodName := ⟨RX9, "readNot", "()Z"⟩
def dkwX9_readNot_1 : List UInt8 := [4, 172]
abbrev dktX9_readNot_1 : List UInt8 := dkwX9_readNot_1 ++ []
def dkwX9_readNot_0 : List UInt8 := [42, 182, 1, 136, 154, 0, 5, 3, 172, 42, 42, 4, 42, 180, 1, 130, 3, 3, 182, 1, 133, 181, 1, 130]
abbrev dktX9_readNot_0 : List UInt8 := dkwX9_readNot_0 ++ dktX9_readNot_1
theorem dksX9_readNot_0 : cX9_readNot.data.toList.drop 0 = dktX9_readNot_0 := by decide +kernel
theorem dksX9_readNot_1 : cX9_readNot.data.toList.drop 24 = dktX9_readNot_1 := dk_seg dksX9_readNot_0 24 rfl rfl
theorem dX9_readNot_0 : decode cX9_readNot 0 = .ok (.aload_n 0, 1) := dk_42 (dk_at dksX9_readNot_0 0 rfl rfl)
theorem dX9_readNot_1 : decode cX9_readNot 1 = .ok (.invokevirtual 392, 3) := dk_182 1 136 (dk_at dksX9_readNot_0 1 rfl rfl)
theorem dX9_readNot_4 : decode cX9_readNot 4 = .ok (.ifCond .ne 5, 3) := dk_154 0 5 (dk_at dksX9_readNot_0 4 rfl rfl)
theorem dX9_readNot_7 : decode cX9_readNot 7 = .ok (.iconst 0, 1) := dk_3 (dk_at dksX9_readNot_0 7 rfl rfl)
theorem dX9_readNot_8 : decode cX9_readNot 8 = .ok (.ireturn, 1) := dk_172 (dk_at dksX9_readNot_0 8 rfl rfl)
theorem dX9_readNot_9 : decode cX9_readNot 9 = .ok (.aload_n 0, 1) := dk_42 (dk_at dksX9_readNot_0 9 rfl rfl)
theorem dX9_readNot_10 : decode cX9_readNot 10 = .ok (.aload_n 0, 1) := dk_42 (dk_at dksX9_readNot_0 10 rfl rfl)
theorem dX9_readNot_11 : decode cX9_readNot 11 = .ok (.iconst 1, 1) := dk_4 (dk_at dksX9_readNot_0 11 rfl rfl)
theorem dX9_readNot_12 : decode cX9_readNot 12 = .ok (.aload_n 0, 1) := dk_42 (dk_at dksX9_readNot_0 12 rfl rfl)
theorem dX9_readNot_13 : decode cX9_readNot 13 = .ok (.getfield 386, 3) := dk_180 1 130 (dk_at dksX9_readNot_0 13 rfl rfl)
theorem dX9_readNot_16 : decode cX9_readNot 16 = .ok (.iconst 0, 1) := dk_3 (dk_at dksX9_readNot_0 16 rfl rfl)
theorem dX9_readNot_17 : decode cX9_readNot 17 = .ok (.iconst 0, 1) := dk_3 (dk_at dksX9_readNot_0 17 rfl rfl)
theorem dX9_readNot_18 : decode cX9_readNot 18 = .ok (.invokevirtual 389, 3) := dk_182 1 133 (dk_at dksX9_readNot_0 18 rfl rfl)
theorem dX9_readNot_21 : decode cX9_readNot 21 = .ok (.putfield 386, 3) := dk_181 1 130 (dk_at dksX9_readNot_0 21 rfl rfl)
theorem dX9_readNot_24 : decode cX9_readNot 24 = .ok (.iconst 1, 1) := dk_4 (dk_at dksX9_readNot_1 0 rfl rfl)
theorem dX9_readNot_25 : decode cX9_readNot 25 = .ok (.ireturn, 1) := dk_172 (dk_at dksX9_readNot_1 1 rfl rfl)
abbrev cX9_saysOne : ByteArray := prog_25_method_108_code
def yX9_saysOne : MethodName := ⟨RX9, "saysOne", "(IIII)I"⟩
def dkwX9_saysOne_2 : List UInt8 := [89, 180, 1, 124, 4, 96, 181, 1, 124, 42, 180, 1, 124, 4, 100, 172]
abbrev dktX9_saysOne_2 : List UInt8 := dkwX9_saysOne_2 ++ []
def dkwX9_saysOne_1 : List UInt8 := [28, 79, 42, 180, 0, 79, 21, 5, 5, 96, 29, 79, 42, 180, 0, 79, 21, 5, 6, 96, 21, 4, 79, 42]
abbrev dktX9_saysOne_1 : List UInt8 := dkwX9_saysOne_1 ++ dktX9_saysOne_2
def dkwX9_saysOne_0 : List UInt8 := [7, 42, 180, 1, 124, 104, 54, 5, 42, 180, 0, 79, 21, 5, 27, 79, 42, 180, 0, 79, 21, 5, 4, 96]
abbrev dktX9_saysOne_0 : List UInt8 := dkwX9_saysOne_0 ++ dktX9_saysOne_1
theorem dksX9_saysOne_0 : cX9_saysOne.data.toList.drop 0 = dktX9_saysOne_0 := by decide +kernel
theorem dksX9_saysOne_1 : cX9_saysOne.data.toList.drop 24 = dktX9_saysOne_1 := dk_seg dksX9_saysOne_0 24 rfl rfl
theorem dksX9_saysOne_2 : cX9_saysOne.data.toList.drop 48 = dktX9_saysOne_2 := dk_seg dksX9_saysOne_1 24 rfl rfl
theorem dX9_saysOne_0 : decode cX9_saysOne 0 = .ok (.iconst 4, 1) := dk_7 (dk_at dksX9_saysOne_0 0 rfl rfl)
theorem dX9_saysOne_1 : decode cX9_saysOne 1 = .ok (.aload_n 0, 1) := dk_42 (dk_at dksX9_saysOne_0 1 rfl rfl)
theorem dX9_saysOne_2 : decode cX9_saysOne 2 = .ok (.getfield 380, 3) := dk_180 1 124 (dk_at dksX9_saysOne_0 2 rfl rfl)
theorem dX9_saysOne_5 : decode cX9_saysOne 5 = .ok (.imul, 1) := dk_104 (dk_at dksX9_saysOne_0 5 rfl rfl)
theorem dX9_saysOne_6 : decode cX9_saysOne 6 = .ok (.istore 5, 2) := dk_54 5 (dk_at dksX9_saysOne_0 6 rfl rfl)
theorem dX9_saysOne_8 : decode cX9_saysOne 8 = .ok (.aload_n 0, 1) := dk_42 (dk_at dksX9_saysOne_0 8 rfl rfl)
theorem dX9_saysOne_9 : decode cX9_saysOne 9 = .ok (.getfield 79, 3) := dk_180 0 79 (dk_at dksX9_saysOne_0 9 rfl rfl)
theorem dX9_saysOne_12 : decode cX9_saysOne 12 = .ok (.iload 5, 2) := dk_21 5 (dk_at dksX9_saysOne_0 12 rfl rfl)
theorem dX9_saysOne_14 : decode cX9_saysOne 14 = .ok (.iload_n 1, 1) := dk_27 (dk_at dksX9_saysOne_0 14 rfl rfl)
theorem dX9_saysOne_15 : decode cX9_saysOne 15 = .ok (.iastore, 1) := dk_79 (dk_at dksX9_saysOne_0 15 rfl rfl)
theorem dX9_saysOne_16 : decode cX9_saysOne 16 = .ok (.aload_n 0, 1) := dk_42 (dk_at dksX9_saysOne_0 16 rfl rfl)
theorem dX9_saysOne_17 : decode cX9_saysOne 17 = .ok (.getfield 79, 3) := dk_180 0 79 (dk_at dksX9_saysOne_0 17 rfl rfl)
theorem dX9_saysOne_20 : decode cX9_saysOne 20 = .ok (.iload 5, 2) := dk_21 5 (dk_at dksX9_saysOne_0 20 rfl rfl)
theorem dX9_saysOne_22 : decode cX9_saysOne 22 = .ok (.iconst 1, 1) := dk_4 (dk_at dksX9_saysOne_0 22 rfl rfl)
theorem dX9_saysOne_23 : decode cX9_saysOne 23 = .ok (.iadd, 1) := dk_96 (dk_at dksX9_saysOne_0 23 rfl rfl)
theorem dX9_saysOne_24 : decode cX9_saysOne 24 = .ok (.iload_n 2, 1) := dk_28 (dk_at dksX9_saysOne_1 0 rfl rfl)
theorem dX9_saysOne_25 : decode cX9_saysOne 25 = .ok (.iastore, 1) := dk_79 (dk_at dksX9_saysOne_1 1 rfl rfl)
theorem dX9_saysOne_26 : decode cX9_saysOne 26 = .ok (.aload_n 0, 1) := dk_42 (dk_at dksX9_saysOne_1 2 rfl rfl)
theorem dX9_saysOne_27 : decode cX9_saysOne 27 = .ok (.getfield 79, 3) := dk_180 0 79 (dk_at dksX9_saysOne_1 3 rfl rfl)
theorem dX9_saysOne_30 : decode cX9_saysOne 30 = .ok (.iload 5, 2) := dk_21 5 (dk_at dksX9_saysOne_1 6 rfl rfl)
theorem dX9_saysOne_32 : decode cX9_saysOne 32 = .ok (.iconst 2, 1) := dk_5 (dk_at dksX9_saysOne_1 8 rfl rfl)
theorem dX9_saysOne_33 : decode cX9_saysOne 33 = .ok (.iadd, 1) := dk_96 (dk_at dksX9_saysOne_1 9 rfl rfl)
theorem dX9_saysOne_34 : decode cX9_saysOne 34 = .ok (.iload_n 3, 1) := dk_29 (dk_at dksX9_saysOne_1 10 rfl rfl)
theorem dX9_saysOne_35 : decode cX9_saysOne 35 = .ok (.iastore, 1) := dk_79 (dk_at dksX9_saysOne_1 11 rfl rfl)
theorem dX9_saysOne_36 : decode cX9_saysOne 36 = .ok (.aload_n 0, 1) := dk_42 (dk_at dksX9_saysOne_1 12 rfl rfl)
theorem dX9_saysOne_37 : decode cX9_saysOne 37 = .ok (.getfield 79, 3) := dk_180 0 79 (dk_at dksX9_saysOne_1 13 rfl rfl)
theorem dX9_saysOne_40 : decode cX9_saysOne 40 = .ok (.iload 5, 2) := dk_21 5 (dk_at dksX9_saysOne_1 16 rfl rfl)
theorem dX9_saysOne_42 : decode cX9_saysOne 42 = .ok (.iconst 3, 1) := dk_6 (dk_at dksX9_saysOne_1 18 rfl rfl)
theorem dX9_saysOne_43 : decode cX9_saysOne 43 = .ok (.iadd, 1) := dk_96 (dk_at dksX9_saysOne_1 19 rfl rfl)
theorem dX9_saysOne_44 : decode cX9_saysOne 44 = .ok (.iload 4, 2) := dk_21 4 (dk_at dksX9_saysOne_1 20 rfl rfl)
theorem dX9_saysOne_46 : decode cX9_saysOne 46 = .ok (.iastore, 1) := dk_79 (dk_at dksX9_saysOne_1 22 rfl rfl)
theorem dX9_saysOne_47 : decode cX9_saysOne 47 = .ok (.aload_n 0, 1) := dk_42 (dk_at dksX9_saysOne_1 23 rfl rfl)
theorem dX9_saysOne_48 : decode cX9_saysOne 48 = .ok (.dup, 1) := dk_89 (dk_at dksX9_saysOne_2 0 rfl rfl)
theorem dX9_saysOne_49 : decode cX9_saysOne 49 = .ok (.getfield 380, 3) := dk_180 1 124 (dk_at dksX9_saysOne_2 1 rfl rfl)
theorem dX9_saysOne_52 : decode cX9_saysOne 52 = .ok (.iconst 1, 1) := dk_4 (dk_at dksX9_saysOne_2 4 rfl rfl)
theorem dX9_saysOne_53 : decode cX9_saysOne 53 = .ok (.iadd, 1) := dk_96 (dk_at dksX9_saysOne_2 5 rfl rfl)
theorem dX9_saysOne_54 : decode cX9_saysOne 54 = .ok (.putfield 380, 3) := dk_181 1 124 (dk_at dksX9_saysOne_2 6 rfl rfl)
theorem dX9_saysOne_57 : decode cX9_saysOne 57 = .ok (.aload_n 0, 1) := dk_42 (dk_at dksX9_saysOne_2 9 rfl rfl)
theorem dX9_saysOne_58 : decode cX9_saysOne 58 = .ok (.getfield 380, 3) := dk_180 1 124 (dk_at dksX9_saysOne_2 10 rfl rfl)
theorem dX9_saysOne_61 : decode cX9_saysOne 61 = .ok (.iconst 1, 1) := dk_4 (dk_at dksX9_saysOne_2 13 rfl rfl)
theorem dX9_saysOne_62 : decode cX9_saysOne 62 = .ok (.isub, 1) := dk_100 (dk_at dksX9_saysOne_2 14 rfl rfl)
theorem dX9_saysOne_63 : decode cX9_saysOne 63 = .ok (.ireturn, 1) := dk_172 (dk_at dksX9_saysOne_2 15 rfl rfl)
abbrev cX9_readOf : ByteArray := prog_25_method_114_code
def yX9_readOf : MethodName := ⟨RX9, "readOf", "(I)Z"⟩
def dkwX9_readOf_2 : List UInt8 := [3, 182, 1, 133, 181, 1, 130, 4, 172]
abbrev dktX9_readOf_2 : List UInt8 := dkwX9_readOf_2 ++ []
def dkwX9_readOf_1 : List UInt8 := [167, 0, 4, 4, 46, 182, 1, 160, 154, 0, 5, 3, 172, 42, 42, 16, 50, 27, 96, 42, 180, 0, 153, 3]
abbrev dktX9_readOf_1 : List UInt8 := dkwX9_readOf_1 ++ dktX9_readOf_2
def dkwX9_readOf_0 : List UInt8 := [42, 27, 16, 22, 160, 0, 7, 3, 167, 0, 5, 16, 7, 42, 180, 0, 13, 27, 16, 22, 160, 0, 7, 3]
abbrev dktX9_readOf_0 : List UInt8 := dkwX9_readOf_0 ++ dktX9_readOf_1
theorem dksX9_readOf_0 : cX9_readOf.data.toList.drop 0 = dktX9_readOf_0 := by decide +kernel
theorem dksX9_readOf_1 : cX9_readOf.data.toList.drop 24 = dktX9_readOf_1 := dk_seg dksX9_readOf_0 24 rfl rfl
theorem dksX9_readOf_2 : cX9_readOf.data.toList.drop 48 = dktX9_readOf_2 := dk_seg dksX9_readOf_1 24 rfl rfl
theorem dX9_readOf_0 : decode cX9_readOf 0 = .ok (.aload_n 0, 1) := dk_42 (dk_at dksX9_readOf_0 0 rfl rfl)
theorem dX9_readOf_1 : decode cX9_readOf 1 = .ok (.iload_n 1, 1) := dk_27 (dk_at dksX9_readOf_0 1 rfl rfl)
theorem dX9_readOf_2 : decode cX9_readOf 2 = .ok (.bipush 22, 2) := dk_16 22 (dk_at dksX9_readOf_0 2 rfl rfl)
theorem dX9_readOf_4 : decode cX9_readOf 4 = .ok (.if_icmp .ne 7, 3) := dk_160 0 7 (dk_at dksX9_readOf_0 4 rfl rfl)
theorem dX9_readOf_7 : decode cX9_readOf 7 = .ok (.iconst 0, 1) := dk_3 (dk_at dksX9_readOf_0 7 rfl rfl)
theorem dX9_readOf_8 : decode cX9_readOf 8 = .ok (.goto 5, 3) := dk_167 0 5 (dk_at dksX9_readOf_0 8 rfl rfl)
theorem dX9_readOf_11 : decode cX9_readOf 11 = .ok (.bipush 7, 2) := dk_16 7 (dk_at dksX9_readOf_0 11 rfl rfl)
theorem dX9_readOf_13 : decode cX9_readOf 13 = .ok (.aload_n 0, 1) := dk_42 (dk_at dksX9_readOf_0 13 rfl rfl)
theorem dX9_readOf_14 : decode cX9_readOf 14 = .ok (.getfield 13, 3) := dk_180 0 13 (dk_at dksX9_readOf_0 14 rfl rfl)
theorem dX9_readOf_17 : decode cX9_readOf 17 = .ok (.iload_n 1, 1) := dk_27 (dk_at dksX9_readOf_0 17 rfl rfl)
theorem dX9_readOf_18 : decode cX9_readOf 18 = .ok (.bipush 22, 2) := dk_16 22 (dk_at dksX9_readOf_0 18 rfl rfl)
theorem dX9_readOf_20 : decode cX9_readOf 20 = .ok (.if_icmp .ne 7, 3) := dk_160 0 7 (dk_at dksX9_readOf_0 20 rfl rfl)
theorem dX9_readOf_23 : decode cX9_readOf 23 = .ok (.iconst 0, 1) := dk_3 (dk_at dksX9_readOf_0 23 rfl rfl)
theorem dX9_readOf_24 : decode cX9_readOf 24 = .ok (.goto 4, 3) := dk_167 0 4 (dk_at dksX9_readOf_1 0 rfl rfl)
theorem dX9_readOf_27 : decode cX9_readOf 27 = .ok (.iconst 1, 1) := dk_4 (dk_at dksX9_readOf_1 3 rfl rfl)
theorem dX9_readOf_28 : decode cX9_readOf 28 = .ok (.iaload, 1) := dk_46 (dk_at dksX9_readOf_1 4 rfl rfl)
theorem dX9_readOf_29 : decode cX9_readOf 29 = .ok (.invokevirtual 416, 3) := dk_182 1 160 (dk_at dksX9_readOf_1 5 rfl rfl)
theorem dX9_readOf_32 : decode cX9_readOf 32 = .ok (.ifCond .ne 5, 3) := dk_154 0 5 (dk_at dksX9_readOf_1 8 rfl rfl)
theorem dX9_readOf_35 : decode cX9_readOf 35 = .ok (.iconst 0, 1) := dk_3 (dk_at dksX9_readOf_1 11 rfl rfl)
theorem dX9_readOf_36 : decode cX9_readOf 36 = .ok (.ireturn, 1) := dk_172 (dk_at dksX9_readOf_1 12 rfl rfl)
theorem dX9_readOf_37 : decode cX9_readOf 37 = .ok (.aload_n 0, 1) := dk_42 (dk_at dksX9_readOf_1 13 rfl rfl)
theorem dX9_readOf_38 : decode cX9_readOf 38 = .ok (.aload_n 0, 1) := dk_42 (dk_at dksX9_readOf_1 14 rfl rfl)
theorem dX9_readOf_39 : decode cX9_readOf 39 = .ok (.bipush 50, 2) := dk_16 50 (dk_at dksX9_readOf_1 15 rfl rfl)
theorem dX9_readOf_41 : decode cX9_readOf 41 = .ok (.iload_n 1, 1) := dk_27 (dk_at dksX9_readOf_1 17 rfl rfl)
theorem dX9_readOf_42 : decode cX9_readOf 42 = .ok (.iadd, 1) := dk_96 (dk_at dksX9_readOf_1 18 rfl rfl)
theorem dX9_readOf_43 : decode cX9_readOf 43 = .ok (.aload_n 0, 1) := dk_42 (dk_at dksX9_readOf_1 19 rfl rfl)
theorem dX9_readOf_44 : decode cX9_readOf 44 = .ok (.getfield 153, 3) := dk_180 0 153 (dk_at dksX9_readOf_1 20 rfl rfl)
theorem dX9_readOf_47 : decode cX9_readOf 47 = .ok (.iconst 0, 1) := dk_3 (dk_at dksX9_readOf_1 23 rfl rfl)
theorem dX9_readOf_48 : decode cX9_readOf 48 = .ok (.iconst 0, 1) := dk_3 (dk_at dksX9_readOf_2 0 rfl rfl)
theorem dX9_readOf_49 : decode cX9_readOf 49 = .ok (.invokevirtual 389, 3) := dk_182 1 133 (dk_at dksX9_readOf_2 1 rfl rfl)
theorem dX9_readOf_52 : decode cX9_readOf 52 = .ok (.putfield 386, 3) := dk_181 1 130 (dk_at dksX9_readOf_2 4 rfl rfl)
theorem dX9_readOf_55 : decode cX9_readOf 55 = .ok (.iconst 1, 1) := dk_4 (dk_at dksX9_readOf_2 7 rfl rfl)
theorem dX9_readOf_56 : decode cX9_readOf 56 = .ok (.ireturn, 1) := dk_172 (dk_at dksX9_readOf_2 8 rfl rfl)
abbrev cX9_readNamed : ByteArray := prog_25_method_107_code
def yX9_readNamed : MethodName := ⟨RX9, "readNamed", "(II)Z"⟩
def dkwX9_readNamed_2 : List UInt8 := [4, 172]
abbrev dktX9_readNamed_2 : List UInt8 := dkwX9_readNamed_2 ++ []
def dkwX9_readNamed_1 : List UInt8 := [184, 0, 170, 181, 0, 153, 42, 180, 0, 153, 2, 160, 0, 9, 42, 6, 182, 0, 146, 172, 42, 182, 0, 156]
abbrev dktX9_readNamed_1 : List UInt8 := dkwX9_readNamed_1 ++ dktX9_readNamed_2
def dkwX9_readNamed_0 : List UInt8 := [42, 182, 0, 166, 154, 0, 9, 42, 4, 182, 0, 146, 172, 42, 42, 180, 0, 28, 27, 28, 42, 180, 0, 117]
abbrev dktX9_readNamed_0 : List UInt8 := dkwX9_readNamed_0 ++ dktX9_readNamed_1
theorem dksX9_readNamed_0 : cX9_readNamed.data.toList.drop 0 = dktX9_readNamed_0 := by decide +kernel
theorem dksX9_readNamed_1 : cX9_readNamed.data.toList.drop 24 = dktX9_readNamed_1 := dk_seg dksX9_readNamed_0 24 rfl rfl
theorem dksX9_readNamed_2 : cX9_readNamed.data.toList.drop 48 = dktX9_readNamed_2 := dk_seg dksX9_readNamed_1 24 rfl rfl
theorem dX9_readNamed_0 : decode cX9_readNamed 0 = .ok (.aload_n 0, 1) := dk_42 (dk_at dksX9_readNamed_0 0 rfl rfl)
theorem dX9_readNamed_1 : decode cX9_readNamed 1 = .ok (.invokevirtual 166, 3) := dk_182 0 166 (dk_at dksX9_readNamed_0 1 rfl rfl)
theorem dX9_readNamed_4 : decode cX9_readNamed 4 = .ok (.ifCond .ne 9, 3) := dk_154 0 9 (dk_at dksX9_readNamed_0 4 rfl rfl)
theorem dX9_readNamed_7 : decode cX9_readNamed 7 = .ok (.aload_n 0, 1) := dk_42 (dk_at dksX9_readNamed_0 7 rfl rfl)
theorem dX9_readNamed_8 : decode cX9_readNamed 8 = .ok (.iconst 1, 1) := dk_4 (dk_at dksX9_readNamed_0 8 rfl rfl)
theorem dX9_readNamed_9 : decode cX9_readNamed 9 = .ok (.invokevirtual 146, 3) := dk_182 0 146 (dk_at dksX9_readNamed_0 9 rfl rfl)
theorem dX9_readNamed_12 : decode cX9_readNamed 12 = .ok (.ireturn, 1) := dk_172 (dk_at dksX9_readNamed_0 12 rfl rfl)
theorem dX9_readNamed_13 : decode cX9_readNamed 13 = .ok (.aload_n 0, 1) := dk_42 (dk_at dksX9_readNamed_0 13 rfl rfl)
theorem dX9_readNamed_14 : decode cX9_readNamed 14 = .ok (.aload_n 0, 1) := dk_42 (dk_at dksX9_readNamed_0 14 rfl rfl)
theorem dX9_readNamed_15 : decode cX9_readNamed 15 = .ok (.getfield 28, 3) := dk_180 0 28 (dk_at dksX9_readNamed_0 15 rfl rfl)
theorem dX9_readNamed_18 : decode cX9_readNamed 18 = .ok (.iload_n 1, 1) := dk_27 (dk_at dksX9_readNamed_0 18 rfl rfl)
theorem dX9_readNamed_19 : decode cX9_readNamed 19 = .ok (.iload_n 2, 1) := dk_28 (dk_at dksX9_readNamed_0 19 rfl rfl)
theorem dX9_readNamed_20 : decode cX9_readNamed 20 = .ok (.aload_n 0, 1) := dk_42 (dk_at dksX9_readNamed_0 20 rfl rfl)
theorem dX9_readNamed_21 : decode cX9_readNamed 21 = .ok (.getfield 117, 3) := dk_180 0 117 (dk_at dksX9_readNamed_0 21 rfl rfl)
theorem dX9_readNamed_24 : decode cX9_readNamed 24 = .ok (.invokestatic 170, 3) := dk_184 0 170 (dk_at dksX9_readNamed_1 0 rfl rfl)
theorem dX9_readNamed_27 : decode cX9_readNamed 27 = .ok (.putfield 153, 3) := dk_181 0 153 (dk_at dksX9_readNamed_1 3 rfl rfl)
theorem dX9_readNamed_30 : decode cX9_readNamed 30 = .ok (.aload_n 0, 1) := dk_42 (dk_at dksX9_readNamed_1 6 rfl rfl)
theorem dX9_readNamed_31 : decode cX9_readNamed 31 = .ok (.getfield 153, 3) := dk_180 0 153 (dk_at dksX9_readNamed_1 7 rfl rfl)
theorem dX9_readNamed_34 : decode cX9_readNamed 34 = .ok (.iconst (-1), 1) := dk_2 (dk_at dksX9_readNamed_1 10 rfl rfl)
theorem dX9_readNamed_35 : decode cX9_readNamed 35 = .ok (.if_icmp .ne 9, 3) := dk_160 0 9 (dk_at dksX9_readNamed_1 11 rfl rfl)
theorem dX9_readNamed_38 : decode cX9_readNamed 38 = .ok (.aload_n 0, 1) := dk_42 (dk_at dksX9_readNamed_1 14 rfl rfl)
theorem dX9_readNamed_39 : decode cX9_readNamed 39 = .ok (.iconst 3, 1) := dk_6 (dk_at dksX9_readNamed_1 15 rfl rfl)
theorem dX9_readNamed_40 : decode cX9_readNamed 40 = .ok (.invokevirtual 146, 3) := dk_182 0 146 (dk_at dksX9_readNamed_1 16 rfl rfl)
theorem dX9_readNamed_43 : decode cX9_readNamed 43 = .ok (.ireturn, 1) := dk_172 (dk_at dksX9_readNamed_1 19 rfl rfl)
theorem dX9_readNamed_44 : decode cX9_readNamed 44 = .ok (.aload_n 0, 1) := dk_42 (dk_at dksX9_readNamed_1 20 rfl rfl)
theorem dX9_readNamed_45 : decode cX9_readNamed 45 = .ok (.invokevirtual 156, 3) := dk_182 0 156 (dk_at dksX9_readNamed_1 21 rfl rfl)
theorem dX9_readNamed_48 : decode cX9_readNamed 48 = .ok (.iconst 1, 1) := dk_4 (dk_at dksX9_readNamed_2 0 rfl rfl)
theorem dX9_readNamed_49 : decode cX9_readNamed 49 = .ok (.ireturn, 1) := dk_172 (dk_at dksX9_readNamed_2 1 rfl rfl)
abbrev cX9_readCompare : ByteArray := prog_25_method_115_code
def yX9_readCompare : MethodName := ⟨RX9, "readCompare", "(I)Z"⟩
def dkwX9_readCompare_3 : List UInt8 := [181, 1, 130, 4, 172]
abbrev dktX9_readCompare_3 : List UInt8 := dkwX9_readCompare_3 ++ []
def dkwX9_readCompare_2 : List UInt8 := [182, 0, 184, 154, 0, 5, 3, 172, 42, 42, 16, 50, 27, 96, 3, 42, 180, 0, 153, 28, 182, 1, 133]
abbrev dktX9_readCompare_2 : List UInt8 := dkwX9_readCompare_2 ++ dktX9_readCompare_3
def dkwX9_readCompare_1 : List UInt8 := [154, 0, 9, 42, 4, 182, 0, 146, 172, 42, 180, 0, 114, 61, 42, 182, 0, 156, 42, 3, 17, 3, 231]
abbrev dktX9_readCompare_1 : List UInt8 := dkwX9_readCompare_1 ++ dktX9_readCompare_2
def dkwX9_readCompare_0 : List UInt8 := [42, 16, 60, 182, 0, 159, 154, 0, 27, 42, 16, 61, 182, 0, 159, 154, 0, 18, 42, 16, 62, 182, 0, 159]
abbrev dktX9_readCompare_0 : List UInt8 := dkwX9_readCompare_0 ++ dktX9_readCompare_1
theorem dksX9_readCompare_0 : cX9_readCompare.data.toList.drop 0 = dktX9_readCompare_0 := by decide +kernel
theorem dksX9_readCompare_1 : cX9_readCompare.data.toList.drop 24 = dktX9_readCompare_1 := dk_seg dksX9_readCompare_0 24 rfl rfl
theorem dksX9_readCompare_2 : cX9_readCompare.data.toList.drop 47 = dktX9_readCompare_2 := dk_seg dksX9_readCompare_1 23 rfl rfl
theorem dksX9_readCompare_3 : cX9_readCompare.data.toList.drop 70 = dktX9_readCompare_3 := dk_seg dksX9_readCompare_2 23 rfl rfl
theorem dX9_readCompare_0 : decode cX9_readCompare 0 = .ok (.aload_n 0, 1) := dk_42 (dk_at dksX9_readCompare_0 0 rfl rfl)
theorem dX9_readCompare_1 : decode cX9_readCompare 1 = .ok (.bipush 60, 2) := dk_16 60 (dk_at dksX9_readCompare_0 1 rfl rfl)
theorem dX9_readCompare_3 : decode cX9_readCompare 3 = .ok (.invokevirtual 159, 3) := dk_182 0 159 (dk_at dksX9_readCompare_0 3 rfl rfl)
theorem dX9_readCompare_6 : decode cX9_readCompare 6 = .ok (.ifCond .ne 27, 3) := dk_154 0 27 (dk_at dksX9_readCompare_0 6 rfl rfl)
theorem dX9_readCompare_9 : decode cX9_readCompare 9 = .ok (.aload_n 0, 1) := dk_42 (dk_at dksX9_readCompare_0 9 rfl rfl)
theorem dX9_readCompare_10 : decode cX9_readCompare 10 = .ok (.bipush 61, 2) := dk_16 61 (dk_at dksX9_readCompare_0 10 rfl rfl)
theorem dX9_readCompare_12 : decode cX9_readCompare 12 = .ok (.invokevirtual 159, 3) := dk_182 0 159 (dk_at dksX9_readCompare_0 12 rfl rfl)
theorem dX9_readCompare_15 : decode cX9_readCompare 15 = .ok (.ifCond .ne 18, 3) := dk_154 0 18 (dk_at dksX9_readCompare_0 15 rfl rfl)
theorem dX9_readCompare_18 : decode cX9_readCompare 18 = .ok (.aload_n 0, 1) := dk_42 (dk_at dksX9_readCompare_0 18 rfl rfl)
theorem dX9_readCompare_19 : decode cX9_readCompare 19 = .ok (.bipush 62, 2) := dk_16 62 (dk_at dksX9_readCompare_0 19 rfl rfl)
theorem dX9_readCompare_21 : decode cX9_readCompare 21 = .ok (.invokevirtual 159, 3) := dk_182 0 159 (dk_at dksX9_readCompare_0 21 rfl rfl)
theorem dX9_readCompare_24 : decode cX9_readCompare 24 = .ok (.ifCond .ne 9, 3) := dk_154 0 9 (dk_at dksX9_readCompare_1 0 rfl rfl)
theorem dX9_readCompare_27 : decode cX9_readCompare 27 = .ok (.aload_n 0, 1) := dk_42 (dk_at dksX9_readCompare_1 3 rfl rfl)
theorem dX9_readCompare_28 : decode cX9_readCompare 28 = .ok (.iconst 1, 1) := dk_4 (dk_at dksX9_readCompare_1 4 rfl rfl)
theorem dX9_readCompare_29 : decode cX9_readCompare 29 = .ok (.invokevirtual 146, 3) := dk_182 0 146 (dk_at dksX9_readCompare_1 5 rfl rfl)
theorem dX9_readCompare_32 : decode cX9_readCompare 32 = .ok (.ireturn, 1) := dk_172 (dk_at dksX9_readCompare_1 8 rfl rfl)
theorem dX9_readCompare_33 : decode cX9_readCompare 33 = .ok (.aload_n 0, 1) := dk_42 (dk_at dksX9_readCompare_1 9 rfl rfl)
theorem dX9_readCompare_34 : decode cX9_readCompare 34 = .ok (.getfield 114, 3) := dk_180 0 114 (dk_at dksX9_readCompare_1 10 rfl rfl)
theorem dX9_readCompare_37 : decode cX9_readCompare 37 = .ok (.istore_n 2, 1) := dk_61 (dk_at dksX9_readCompare_1 13 rfl rfl)
theorem dX9_readCompare_38 : decode cX9_readCompare 38 = .ok (.aload_n 0, 1) := dk_42 (dk_at dksX9_readCompare_1 14 rfl rfl)
theorem dX9_readCompare_39 : decode cX9_readCompare 39 = .ok (.invokevirtual 156, 3) := dk_182 0 156 (dk_at dksX9_readCompare_1 15 rfl rfl)
theorem dX9_readCompare_42 : decode cX9_readCompare 42 = .ok (.aload_n 0, 1) := dk_42 (dk_at dksX9_readCompare_1 18 rfl rfl)
theorem dX9_readCompare_43 : decode cX9_readCompare 43 = .ok (.iconst 0, 1) := dk_3 (dk_at dksX9_readCompare_1 19 rfl rfl)
theorem dX9_readCompare_44 : decode cX9_readCompare 44 = .ok (.sipush 999, 3) := dk_17 3 231 (dk_at dksX9_readCompare_1 20 rfl rfl)
theorem dX9_readCompare_47 : decode cX9_readCompare 47 = .ok (.invokevirtual 184, 3) := dk_182 0 184 (dk_at dksX9_readCompare_2 0 rfl rfl)
theorem dX9_readCompare_50 : decode cX9_readCompare 50 = .ok (.ifCond .ne 5, 3) := dk_154 0 5 (dk_at dksX9_readCompare_2 3 rfl rfl)
theorem dX9_readCompare_53 : decode cX9_readCompare 53 = .ok (.iconst 0, 1) := dk_3 (dk_at dksX9_readCompare_2 6 rfl rfl)
theorem dX9_readCompare_54 : decode cX9_readCompare 54 = .ok (.ireturn, 1) := dk_172 (dk_at dksX9_readCompare_2 7 rfl rfl)
theorem dX9_readCompare_55 : decode cX9_readCompare 55 = .ok (.aload_n 0, 1) := dk_42 (dk_at dksX9_readCompare_2 8 rfl rfl)
theorem dX9_readCompare_56 : decode cX9_readCompare 56 = .ok (.aload_n 0, 1) := dk_42 (dk_at dksX9_readCompare_2 9 rfl rfl)
theorem dX9_readCompare_57 : decode cX9_readCompare 57 = .ok (.bipush 50, 2) := dk_16 50 (dk_at dksX9_readCompare_2 10 rfl rfl)
theorem dX9_readCompare_59 : decode cX9_readCompare 59 = .ok (.iload_n 1, 1) := dk_27 (dk_at dksX9_readCompare_2 12 rfl rfl)
theorem dX9_readCompare_60 : decode cX9_readCompare 60 = .ok (.iadd, 1) := dk_96 (dk_at dksX9_readCompare_2 13 rfl rfl)
theorem dX9_readCompare_61 : decode cX9_readCompare 61 = .ok (.iconst 0, 1) := dk_3 (dk_at dksX9_readCompare_2 14 rfl rfl)
theorem dX9_readCompare_62 : decode cX9_readCompare 62 = .ok (.aload_n 0, 1) := dk_42 (dk_at dksX9_readCompare_2 15 rfl rfl)
theorem dX9_readCompare_63 : decode cX9_readCompare 63 = .ok (.getfield 153, 3) := dk_180 0 153 (dk_at dksX9_readCompare_2 16 rfl rfl)
theorem dX9_readCompare_66 : decode cX9_readCompare 66 = .ok (.iload_n 2, 1) := dk_28 (dk_at dksX9_readCompare_2 19 rfl rfl)
theorem dX9_readCompare_67 : decode cX9_readCompare 67 = .ok (.invokevirtual 389, 3) := dk_182 1 133 (dk_at dksX9_readCompare_2 20 rfl rfl)
theorem dX9_readCompare_70 : decode cX9_readCompare 70 = .ok (.putfield 386, 3) := dk_181 1 130 (dk_at dksX9_readCompare_3 0 rfl rfl)
theorem dX9_readCompare_73 : decode cX9_readCompare 73 = .ok (.iconst 1, 1) := dk_4 (dk_at dksX9_readCompare_3 3 rfl rfl)
theorem dX9_readCompare_74 : decode cX9_readCompare 74 = .ok (.ireturn, 1) := dk_172 (dk_at dksX9_readCompare_3 4 rfl rfl)
abbrev cX9_said : ByteArray := prog_25_method_118_code
def yX9_said : MethodName := ⟨RX9, "said", "(I)I"⟩
def dkwX9_said_3 : List UInt8 := [28, 167, 0, 4, 2, 172]
abbrev dktX9_said_3 : List UInt8 := dkwX9_said_3 ++ []
def dkwX9_said_2 : List UInt8 := [167, 0, 13, 28, 27, 160, 0, 5, 29, 172, 132, 2, 1, 132, 3, 1, 167, 255, 214, 27, 2, 160, 0, 7]
abbrev dktX9_said_2 : List UInt8 := dkwX9_said_2 ++ dktX9_said_3
def dkwX9_said_1 : List UInt8 := [180, 0, 13, 3, 46, 162, 0, 38, 42, 42, 180, 0, 13, 17, 0, 148, 46, 29, 182, 1, 163, 154, 0, 6]
abbrev dktX9_said_1 : List UInt8 := dkwX9_said_1 ++ dktX9_said_2
def dkwX9_said_0 : List UInt8 := [42, 3, 181, 0, 82, 42, 180, 0, 13, 17, 0, 147, 46, 154, 0, 5, 2, 172, 3, 61, 3, 62, 29, 42]
abbrev dktX9_said_0 : List UInt8 := dkwX9_said_0 ++ dktX9_said_1
theorem dksX9_said_0 : cX9_said.data.toList.drop 0 = dktX9_said_0 := by decide +kernel
theorem dksX9_said_1 : cX9_said.data.toList.drop 24 = dktX9_said_1 := dk_seg dksX9_said_0 24 rfl rfl
theorem dksX9_said_2 : cX9_said.data.toList.drop 48 = dktX9_said_2 := dk_seg dksX9_said_1 24 rfl rfl
theorem dksX9_said_3 : cX9_said.data.toList.drop 72 = dktX9_said_3 := dk_seg dksX9_said_2 24 rfl rfl
theorem dX9_said_0 : decode cX9_said 0 = .ok (.aload_n 0, 1) := dk_42 (dk_at dksX9_said_0 0 rfl rfl)
theorem dX9_said_1 : decode cX9_said 1 = .ok (.iconst 0, 1) := dk_3 (dk_at dksX9_said_0 1 rfl rfl)
theorem dX9_said_2 : decode cX9_said 2 = .ok (.putfield 82, 3) := dk_181 0 82 (dk_at dksX9_said_0 2 rfl rfl)
theorem dX9_said_5 : decode cX9_said 5 = .ok (.aload_n 0, 1) := dk_42 (dk_at dksX9_said_0 5 rfl rfl)
theorem dX9_said_6 : decode cX9_said 6 = .ok (.getfield 13, 3) := dk_180 0 13 (dk_at dksX9_said_0 6 rfl rfl)
theorem dX9_said_9 : decode cX9_said 9 = .ok (.sipush 147, 3) := dk_17 0 147 (dk_at dksX9_said_0 9 rfl rfl)
theorem dX9_said_12 : decode cX9_said 12 = .ok (.iaload, 1) := dk_46 (dk_at dksX9_said_0 12 rfl rfl)
theorem dX9_said_13 : decode cX9_said 13 = .ok (.ifCond .ne 5, 3) := dk_154 0 5 (dk_at dksX9_said_0 13 rfl rfl)
theorem dX9_said_16 : decode cX9_said 16 = .ok (.iconst (-1), 1) := dk_2 (dk_at dksX9_said_0 16 rfl rfl)
theorem dX9_said_17 : decode cX9_said 17 = .ok (.ireturn, 1) := dk_172 (dk_at dksX9_said_0 17 rfl rfl)
theorem dX9_said_18 : decode cX9_said 18 = .ok (.iconst 0, 1) := dk_3 (dk_at dksX9_said_0 18 rfl rfl)
theorem dX9_said_19 : decode cX9_said 19 = .ok (.istore_n 2, 1) := dk_61 (dk_at dksX9_said_0 19 rfl rfl)
theorem dX9_said_20 : decode cX9_said 20 = .ok (.iconst 0, 1) := dk_3 (dk_at dksX9_said_0 20 rfl rfl)
theorem dX9_said_21 : decode cX9_said 21 = .ok (.istore_n 3, 1) := dk_62 (dk_at dksX9_said_0 21 rfl rfl)
theorem dX9_said_22 : decode cX9_said 22 = .ok (.iload_n 3, 1) := dk_29 (dk_at dksX9_said_0 22 rfl rfl)
theorem dX9_said_23 : decode cX9_said 23 = .ok (.aload_n 0, 1) := dk_42 (dk_at dksX9_said_0 23 rfl rfl)
theorem dX9_said_24 : decode cX9_said 24 = .ok (.getfield 13, 3) := dk_180 0 13 (dk_at dksX9_said_1 0 rfl rfl)
theorem dX9_said_27 : decode cX9_said 27 = .ok (.iconst 0, 1) := dk_3 (dk_at dksX9_said_1 3 rfl rfl)
theorem dX9_said_28 : decode cX9_said 28 = .ok (.iaload, 1) := dk_46 (dk_at dksX9_said_1 4 rfl rfl)
theorem dX9_said_29 : decode cX9_said 29 = .ok (.if_icmp .ge 38, 3) := dk_162 0 38 (dk_at dksX9_said_1 5 rfl rfl)
theorem dX9_said_32 : decode cX9_said 32 = .ok (.aload_n 0, 1) := dk_42 (dk_at dksX9_said_1 8 rfl rfl)
theorem dX9_said_33 : decode cX9_said 33 = .ok (.aload_n 0, 1) := dk_42 (dk_at dksX9_said_1 9 rfl rfl)
theorem dX9_said_34 : decode cX9_said 34 = .ok (.getfield 13, 3) := dk_180 0 13 (dk_at dksX9_said_1 10 rfl rfl)
theorem dX9_said_37 : decode cX9_said 37 = .ok (.sipush 148, 3) := dk_17 0 148 (dk_at dksX9_said_1 13 rfl rfl)
theorem dX9_said_40 : decode cX9_said 40 = .ok (.iaload, 1) := dk_46 (dk_at dksX9_said_1 16 rfl rfl)
theorem dX9_said_41 : decode cX9_said 41 = .ok (.iload_n 3, 1) := dk_29 (dk_at dksX9_said_1 17 rfl rfl)
theorem dX9_said_42 : decode cX9_said 42 = .ok (.invokevirtual 419, 3) := dk_182 1 163 (dk_at dksX9_said_1 18 rfl rfl)
theorem dX9_said_45 : decode cX9_said 45 = .ok (.ifCond .ne 6, 3) := dk_154 0 6 (dk_at dksX9_said_1 21 rfl rfl)
theorem dX9_said_48 : decode cX9_said 48 = .ok (.goto 13, 3) := dk_167 0 13 (dk_at dksX9_said_2 0 rfl rfl)
theorem dX9_said_51 : decode cX9_said 51 = .ok (.iload_n 2, 1) := dk_28 (dk_at dksX9_said_2 3 rfl rfl)
theorem dX9_said_52 : decode cX9_said 52 = .ok (.iload_n 1, 1) := dk_27 (dk_at dksX9_said_2 4 rfl rfl)
theorem dX9_said_53 : decode cX9_said 53 = .ok (.if_icmp .ne 5, 3) := dk_160 0 5 (dk_at dksX9_said_2 5 rfl rfl)
theorem dX9_said_56 : decode cX9_said 56 = .ok (.iload_n 3, 1) := dk_29 (dk_at dksX9_said_2 8 rfl rfl)
theorem dX9_said_57 : decode cX9_said 57 = .ok (.ireturn, 1) := dk_172 (dk_at dksX9_said_2 9 rfl rfl)
theorem dX9_said_58 : decode cX9_said 58 = .ok (.iinc 2 1, 3) := dk_132 2 1 (dk_at dksX9_said_2 10 rfl rfl)
theorem dX9_said_61 : decode cX9_said 61 = .ok (.iinc 3 1, 3) := dk_132 3 1 (dk_at dksX9_said_2 13 rfl rfl)
theorem dX9_said_64 : decode cX9_said 64 = .ok (.goto (-42), 3) := dk_167 255 214 (dk_at dksX9_said_2 16 rfl rfl)
theorem dX9_said_67 : decode cX9_said 67 = .ok (.iload_n 1, 1) := dk_27 (dk_at dksX9_said_2 19 rfl rfl)
theorem dX9_said_68 : decode cX9_said 68 = .ok (.iconst (-1), 1) := dk_2 (dk_at dksX9_said_2 20 rfl rfl)
theorem dX9_said_69 : decode cX9_said 69 = .ok (.if_icmp .ne 7, 3) := dk_160 0 7 (dk_at dksX9_said_2 21 rfl rfl)
theorem dX9_said_72 : decode cX9_said 72 = .ok (.iload_n 2, 1) := dk_28 (dk_at dksX9_said_3 0 rfl rfl)
theorem dX9_said_73 : decode cX9_said 73 = .ok (.goto 4, 3) := dk_167 0 4 (dk_at dksX9_said_3 1 rfl rfl)
theorem dX9_said_76 : decode cX9_said 76 = .ok (.iconst (-1), 1) := dk_2 (dk_at dksX9_said_3 4 rfl rfl)
theorem dX9_said_77 : decode cX9_said 77 = .ok (.ireturn, 1) := dk_172 (dk_at dksX9_said_3 5 rfl rfl)
abbrev cX9_holds : ByteArray := prog_25_method_117_code
def yX9_holds : MethodName := ⟨RX9, "holds", "(II)Z"⟩
def dkwX9_holds_14 : List UInt8 := [167, 0, 15, 21, 7, 21, 5, 164, 0, 7, 4, 167, 0, 4, 3, 172]
abbrev dktX9_holds_14 : List UInt8 := dkwX9_holds_14 ++ []
def dkwX9_holds_13 : List UInt8 := [180, 0, 13, 29, 6, 96, 46, 16, 61, 160, 0, 18, 21, 7, 21, 5, 160, 0, 7, 4, 167, 0, 19, 3]
abbrev dktX9_holds_13 : List UInt8 := dkwX9_holds_13 ++ dktX9_holds_14
def dkwX9_holds_12 : List UInt8 := [96, 46, 16, 60, 160, 0, 18, 21, 7, 21, 5, 162, 0, 7, 4, 167, 0, 47, 3, 167, 0, 43, 42]
abbrev dktX9_holds_12 : List UInt8 := dkwX9_holds_12 ++ dktX9_holds_13
def dkwX9_holds_11 : List UInt8 := [160, 0, 15, 42, 180, 0, 13, 16, 98, 28, 96, 46, 167, 0, 4, 28, 54, 7, 42, 180, 0, 13, 29, 6]
abbrev dktX9_holds_11 : List UInt8 := dkwX9_holds_11 ++ dktX9_holds_12
def dkwX9_holds_10 : List UInt8 := [21, 6, 16, 25, 160, 0, 15, 42, 180, 0, 13, 16, 84, 28, 96, 46, 167, 0, 23, 21, 6, 16, 26]
abbrev dktX9_holds_10 : List UInt8 := dkwX9_holds_10 ++ dktX9_holds_11
def dkwX9_holds_9 : List UInt8 := [16, 50, 100, 54, 6, 21, 6, 16, 24, 160, 0, 14, 42, 180, 0, 13, 7, 28, 96, 46, 167, 0, 42]
abbrev dktX9_holds_9 : List UInt8 := dkwX9_holds_9 ++ dktX9_holds_10
def dkwX9_holds_8 : List UInt8 := [3, 172, 42, 28, 21, 4, 182, 0, 234, 158, 0, 7, 4, 167, 0, 4, 3, 172, 42, 180, 0, 13, 29, 46]
abbrev dktX9_holds_8 : List UInt8 := dkwX9_holds_8 ++ dktX9_holds_9
def dkwX9_holds_7 : List UInt8 := [4, 167, 0, 4, 3, 172, 42, 180, 0, 13, 16, 11, 28, 96, 46, 21, 4, 160, 0, 7, 4, 167, 0, 4]
abbrev dktX9_holds_7 : List UInt8 := dkwX9_holds_7 ++ dktX9_holds_8
def dkwX9_holds_6 : List UInt8 := [182, 0, 244, 172, 42, 180, 0, 13, 16, 74, 46, 28, 184, 0, 231, 172, 42, 28, 182, 0, 247, 154, 0, 7]
abbrev dktX9_holds_6 : List UInt8 := dkwX9_holds_6 ++ dktX9_holds_7
def dkwX9_holds_5 : List UInt8 := [182, 1, 163, 154, 0, 13, 42, 21, 5, 28, 182, 1, 163, 153, 0, 7, 4, 167, 0, 4, 3, 172, 42, 28]
abbrev dktX9_holds_5 : List UInt8 := dkwX9_holds_5 ++ dktX9_holds_6
def dkwX9_holds_4 : List UInt8 := [153, 0, 17, 42, 21, 5, 28, 182, 1, 163, 153, 0, 7, 4, 167, 0, 4, 3, 172, 42, 21, 4, 28]
abbrev dktX9_holds_4 : List UInt8 := dkwX9_holds_4 ++ dktX9_holds_5
def dkwX9_holds_3 : List UInt8 := [42, 21, 4, 28, 182, 1, 163, 154, 0, 7, 4, 167, 0, 4, 3, 172, 42, 21, 4, 28, 182, 1, 163]
abbrev dktX9_holds_3 : List UInt8 := dkwX9_holds_3 ++ dktX9_holds_4
def dkwX9_holds_2 : List UInt8 := [171, 0, 0, 0, 0, 210, 0, 0, 0, 8, 0, 0, 0, 1, 0, 0, 0, 74, 0, 0, 0, 2, 0, 0, 0, 90, 0, 0, 0, 3, 0, 0, 0, 116, 0, 0, 0, 69, 0, 0, 0, 142, 0, 0, 0, 70, 0, 0, 0, 148, 0, 0, 0, 71, 0, 0, 0, 160, 0, 0, 0, 72, 0, 0, 0, 174, 0, 0, 0, 73, 0, 0, 0, 194]
abbrev dktX9_holds_2 : List UInt8 := dkwX9_holds_2 ++ dktX9_holds_3
def dkwX9_holds_1 : List UInt8 := [96, 46, 54, 5, 42, 180, 0, 13, 29, 46]
abbrev dktX9_holds_1 : List UInt8 := dkwX9_holds_1 ++ dktX9_holds_2
def dkwX9_holds_0 : List UInt8 := [17, 0, 149, 7, 27, 104, 96, 62, 42, 180, 0, 13, 29, 4, 96, 46, 54, 4, 42, 180, 0, 13, 29, 5]
abbrev dktX9_holds_0 : List UInt8 := dkwX9_holds_0 ++ dktX9_holds_1
theorem dksX9_holds_0 : cX9_holds.data.toList.drop 0 = dktX9_holds_0 := by decide +kernel
theorem dksX9_holds_1 : cX9_holds.data.toList.drop 24 = dktX9_holds_1 := dk_seg dksX9_holds_0 24 rfl rfl
theorem dksX9_holds_2 : cX9_holds.data.toList.drop 34 = dktX9_holds_2 := dk_seg dksX9_holds_1 10 rfl rfl
theorem dksX9_holds_3 : cX9_holds.data.toList.drop 108 = dktX9_holds_3 := dk_seg dksX9_holds_2 74 rfl rfl
theorem dksX9_holds_4 : cX9_holds.data.toList.drop 131 = dktX9_holds_4 := dk_seg dksX9_holds_3 23 rfl rfl
theorem dksX9_holds_5 : cX9_holds.data.toList.drop 154 = dktX9_holds_5 := dk_seg dksX9_holds_4 23 rfl rfl
theorem dksX9_holds_6 : cX9_holds.data.toList.drop 178 = dktX9_holds_6 := dk_seg dksX9_holds_5 24 rfl rfl
theorem dksX9_holds_7 : cX9_holds.data.toList.drop 202 = dktX9_holds_7 := dk_seg dksX9_holds_6 24 rfl rfl
theorem dksX9_holds_8 : cX9_holds.data.toList.drop 226 = dktX9_holds_8 := dk_seg dksX9_holds_7 24 rfl rfl
theorem dksX9_holds_9 : cX9_holds.data.toList.drop 250 = dktX9_holds_9 := dk_seg dksX9_holds_8 24 rfl rfl
theorem dksX9_holds_10 : cX9_holds.data.toList.drop 273 = dktX9_holds_10 := dk_seg dksX9_holds_9 23 rfl rfl
theorem dksX9_holds_11 : cX9_holds.data.toList.drop 296 = dktX9_holds_11 := dk_seg dksX9_holds_10 23 rfl rfl
theorem dksX9_holds_12 : cX9_holds.data.toList.drop 320 = dktX9_holds_12 := dk_seg dksX9_holds_11 24 rfl rfl
theorem dksX9_holds_13 : cX9_holds.data.toList.drop 343 = dktX9_holds_13 := dk_seg dksX9_holds_12 23 rfl rfl
theorem dksX9_holds_14 : cX9_holds.data.toList.drop 367 = dktX9_holds_14 := dk_seg dksX9_holds_13 24 rfl rfl
theorem dX9_holds_0 : decode cX9_holds 0 = .ok (.sipush 149, 3) := dk_17 0 149 (dk_at dksX9_holds_0 0 rfl rfl)
theorem dX9_holds_3 : decode cX9_holds 3 = .ok (.iconst 4, 1) := dk_7 (dk_at dksX9_holds_0 3 rfl rfl)
theorem dX9_holds_4 : decode cX9_holds 4 = .ok (.iload_n 1, 1) := dk_27 (dk_at dksX9_holds_0 4 rfl rfl)
theorem dX9_holds_5 : decode cX9_holds 5 = .ok (.imul, 1) := dk_104 (dk_at dksX9_holds_0 5 rfl rfl)
theorem dX9_holds_6 : decode cX9_holds 6 = .ok (.iadd, 1) := dk_96 (dk_at dksX9_holds_0 6 rfl rfl)
theorem dX9_holds_7 : decode cX9_holds 7 = .ok (.istore_n 3, 1) := dk_62 (dk_at dksX9_holds_0 7 rfl rfl)
theorem dX9_holds_8 : decode cX9_holds 8 = .ok (.aload_n 0, 1) := dk_42 (dk_at dksX9_holds_0 8 rfl rfl)
theorem dX9_holds_9 : decode cX9_holds 9 = .ok (.getfield 13, 3) := dk_180 0 13 (dk_at dksX9_holds_0 9 rfl rfl)
theorem dX9_holds_12 : decode cX9_holds 12 = .ok (.iload_n 3, 1) := dk_29 (dk_at dksX9_holds_0 12 rfl rfl)
theorem dX9_holds_13 : decode cX9_holds 13 = .ok (.iconst 1, 1) := dk_4 (dk_at dksX9_holds_0 13 rfl rfl)
theorem dX9_holds_14 : decode cX9_holds 14 = .ok (.iadd, 1) := dk_96 (dk_at dksX9_holds_0 14 rfl rfl)
theorem dX9_holds_15 : decode cX9_holds 15 = .ok (.iaload, 1) := dk_46 (dk_at dksX9_holds_0 15 rfl rfl)
theorem dX9_holds_16 : decode cX9_holds 16 = .ok (.istore 4, 2) := dk_54 4 (dk_at dksX9_holds_0 16 rfl rfl)
theorem dX9_holds_18 : decode cX9_holds 18 = .ok (.aload_n 0, 1) := dk_42 (dk_at dksX9_holds_0 18 rfl rfl)
theorem dX9_holds_19 : decode cX9_holds 19 = .ok (.getfield 13, 3) := dk_180 0 13 (dk_at dksX9_holds_0 19 rfl rfl)
theorem dX9_holds_22 : decode cX9_holds 22 = .ok (.iload_n 3, 1) := dk_29 (dk_at dksX9_holds_0 22 rfl rfl)
theorem dX9_holds_23 : decode cX9_holds 23 = .ok (.iconst 2, 1) := dk_5 (dk_at dksX9_holds_0 23 rfl rfl)
theorem dX9_holds_24 : decode cX9_holds 24 = .ok (.iadd, 1) := dk_96 (dk_at dksX9_holds_1 0 rfl rfl)
theorem dX9_holds_25 : decode cX9_holds 25 = .ok (.iaload, 1) := dk_46 (dk_at dksX9_holds_1 1 rfl rfl)
theorem dX9_holds_26 : decode cX9_holds 26 = .ok (.istore 5, 2) := dk_54 5 (dk_at dksX9_holds_1 2 rfl rfl)
theorem dX9_holds_28 : decode cX9_holds 28 = .ok (.aload_n 0, 1) := dk_42 (dk_at dksX9_holds_1 4 rfl rfl)
theorem dX9_holds_29 : decode cX9_holds 29 = .ok (.getfield 13, 3) := dk_180 0 13 (dk_at dksX9_holds_1 5 rfl rfl)
theorem dX9_holds_32 : decode cX9_holds 32 = .ok (.iload_n 3, 1) := dk_29 (dk_at dksX9_holds_1 8 rfl rfl)
theorem dX9_holds_33 : decode cX9_holds 33 = .ok (.iaload, 1) := dk_46 (dk_at dksX9_holds_1 9 rfl rfl)
theorem dX9_holds_34 : decode cX9_holds 34 = .ok (.lookupswitch 210 #[(1, 74), (2, 90), (3, 116), (69, 142), (70, 148), (71, 160), (72, 174), (73, 194)], 74) := by decide +kernel
theorem dX9_holds_108 : decode cX9_holds 108 = .ok (.aload_n 0, 1) := dk_42 (dk_at dksX9_holds_3 0 rfl rfl)
theorem dX9_holds_109 : decode cX9_holds 109 = .ok (.iload 4, 2) := dk_21 4 (dk_at dksX9_holds_3 1 rfl rfl)
theorem dX9_holds_111 : decode cX9_holds 111 = .ok (.iload_n 2, 1) := dk_28 (dk_at dksX9_holds_3 3 rfl rfl)
theorem dX9_holds_112 : decode cX9_holds 112 = .ok (.invokevirtual 419, 3) := dk_182 1 163 (dk_at dksX9_holds_3 4 rfl rfl)
theorem dX9_holds_115 : decode cX9_holds 115 = .ok (.ifCond .ne 7, 3) := dk_154 0 7 (dk_at dksX9_holds_3 7 rfl rfl)
theorem dX9_holds_118 : decode cX9_holds 118 = .ok (.iconst 1, 1) := dk_4 (dk_at dksX9_holds_3 10 rfl rfl)
theorem dX9_holds_119 : decode cX9_holds 119 = .ok (.goto 4, 3) := dk_167 0 4 (dk_at dksX9_holds_3 11 rfl rfl)
theorem dX9_holds_122 : decode cX9_holds 122 = .ok (.iconst 0, 1) := dk_3 (dk_at dksX9_holds_3 14 rfl rfl)
theorem dX9_holds_123 : decode cX9_holds 123 = .ok (.ireturn, 1) := dk_172 (dk_at dksX9_holds_3 15 rfl rfl)
theorem dX9_holds_124 : decode cX9_holds 124 = .ok (.aload_n 0, 1) := dk_42 (dk_at dksX9_holds_3 16 rfl rfl)
theorem dX9_holds_125 : decode cX9_holds 125 = .ok (.iload 4, 2) := dk_21 4 (dk_at dksX9_holds_3 17 rfl rfl)
theorem dX9_holds_127 : decode cX9_holds 127 = .ok (.iload_n 2, 1) := dk_28 (dk_at dksX9_holds_3 19 rfl rfl)
theorem dX9_holds_128 : decode cX9_holds 128 = .ok (.invokevirtual 419, 3) := dk_182 1 163 (dk_at dksX9_holds_3 20 rfl rfl)
theorem dX9_holds_131 : decode cX9_holds 131 = .ok (.ifCond .eq 17, 3) := dk_153 0 17 (dk_at dksX9_holds_4 0 rfl rfl)
theorem dX9_holds_134 : decode cX9_holds 134 = .ok (.aload_n 0, 1) := dk_42 (dk_at dksX9_holds_4 3 rfl rfl)
theorem dX9_holds_135 : decode cX9_holds 135 = .ok (.iload 5, 2) := dk_21 5 (dk_at dksX9_holds_4 4 rfl rfl)
theorem dX9_holds_137 : decode cX9_holds 137 = .ok (.iload_n 2, 1) := dk_28 (dk_at dksX9_holds_4 6 rfl rfl)
theorem dX9_holds_138 : decode cX9_holds 138 = .ok (.invokevirtual 419, 3) := dk_182 1 163 (dk_at dksX9_holds_4 7 rfl rfl)
theorem dX9_holds_141 : decode cX9_holds 141 = .ok (.ifCond .eq 7, 3) := dk_153 0 7 (dk_at dksX9_holds_4 10 rfl rfl)
theorem dX9_holds_144 : decode cX9_holds 144 = .ok (.iconst 1, 1) := dk_4 (dk_at dksX9_holds_4 13 rfl rfl)
theorem dX9_holds_145 : decode cX9_holds 145 = .ok (.goto 4, 3) := dk_167 0 4 (dk_at dksX9_holds_4 14 rfl rfl)
theorem dX9_holds_148 : decode cX9_holds 148 = .ok (.iconst 0, 1) := dk_3 (dk_at dksX9_holds_4 17 rfl rfl)
theorem dX9_holds_149 : decode cX9_holds 149 = .ok (.ireturn, 1) := dk_172 (dk_at dksX9_holds_4 18 rfl rfl)
theorem dX9_holds_150 : decode cX9_holds 150 = .ok (.aload_n 0, 1) := dk_42 (dk_at dksX9_holds_4 19 rfl rfl)
theorem dX9_holds_151 : decode cX9_holds 151 = .ok (.iload 4, 2) := dk_21 4 (dk_at dksX9_holds_4 20 rfl rfl)
theorem dX9_holds_153 : decode cX9_holds 153 = .ok (.iload_n 2, 1) := dk_28 (dk_at dksX9_holds_4 22 rfl rfl)
theorem dX9_holds_154 : decode cX9_holds 154 = .ok (.invokevirtual 419, 3) := dk_182 1 163 (dk_at dksX9_holds_5 0 rfl rfl)
theorem dX9_holds_157 : decode cX9_holds 157 = .ok (.ifCond .ne 13, 3) := dk_154 0 13 (dk_at dksX9_holds_5 3 rfl rfl)
theorem dX9_holds_160 : decode cX9_holds 160 = .ok (.aload_n 0, 1) := dk_42 (dk_at dksX9_holds_5 6 rfl rfl)
theorem dX9_holds_161 : decode cX9_holds 161 = .ok (.iload 5, 2) := dk_21 5 (dk_at dksX9_holds_5 7 rfl rfl)
theorem dX9_holds_163 : decode cX9_holds 163 = .ok (.iload_n 2, 1) := dk_28 (dk_at dksX9_holds_5 9 rfl rfl)
theorem dX9_holds_164 : decode cX9_holds 164 = .ok (.invokevirtual 419, 3) := dk_182 1 163 (dk_at dksX9_holds_5 10 rfl rfl)
theorem dX9_holds_167 : decode cX9_holds 167 = .ok (.ifCond .eq 7, 3) := dk_153 0 7 (dk_at dksX9_holds_5 13 rfl rfl)
theorem dX9_holds_170 : decode cX9_holds 170 = .ok (.iconst 1, 1) := dk_4 (dk_at dksX9_holds_5 16 rfl rfl)
theorem dX9_holds_171 : decode cX9_holds 171 = .ok (.goto 4, 3) := dk_167 0 4 (dk_at dksX9_holds_5 17 rfl rfl)
theorem dX9_holds_174 : decode cX9_holds 174 = .ok (.iconst 0, 1) := dk_3 (dk_at dksX9_holds_5 20 rfl rfl)
theorem dX9_holds_175 : decode cX9_holds 175 = .ok (.ireturn, 1) := dk_172 (dk_at dksX9_holds_5 21 rfl rfl)
theorem dX9_holds_176 : decode cX9_holds 176 = .ok (.aload_n 0, 1) := dk_42 (dk_at dksX9_holds_5 22 rfl rfl)
theorem dX9_holds_177 : decode cX9_holds 177 = .ok (.iload_n 2, 1) := dk_28 (dk_at dksX9_holds_5 23 rfl rfl)
theorem dX9_holds_178 : decode cX9_holds 178 = .ok (.invokevirtual 244, 3) := dk_182 0 244 (dk_at dksX9_holds_6 0 rfl rfl)
theorem dX9_holds_181 : decode cX9_holds 181 = .ok (.ireturn, 1) := dk_172 (dk_at dksX9_holds_6 3 rfl rfl)
theorem dX9_holds_182 : decode cX9_holds 182 = .ok (.aload_n 0, 1) := dk_42 (dk_at dksX9_holds_6 4 rfl rfl)
theorem dX9_holds_183 : decode cX9_holds 183 = .ok (.getfield 13, 3) := dk_180 0 13 (dk_at dksX9_holds_6 5 rfl rfl)
theorem dX9_holds_186 : decode cX9_holds 186 = .ok (.bipush 74, 2) := dk_16 74 (dk_at dksX9_holds_6 8 rfl rfl)
theorem dX9_holds_188 : decode cX9_holds 188 = .ok (.iaload, 1) := dk_46 (dk_at dksX9_holds_6 10 rfl rfl)
theorem dX9_holds_189 : decode cX9_holds 189 = .ok (.iload_n 2, 1) := dk_28 (dk_at dksX9_holds_6 11 rfl rfl)
theorem dX9_holds_190 : decode cX9_holds 190 = .ok (.invokestatic 231, 3) := dk_184 0 231 (dk_at dksX9_holds_6 12 rfl rfl)
theorem dX9_holds_193 : decode cX9_holds 193 = .ok (.ireturn, 1) := dk_172 (dk_at dksX9_holds_6 15 rfl rfl)
theorem dX9_holds_194 : decode cX9_holds 194 = .ok (.aload_n 0, 1) := dk_42 (dk_at dksX9_holds_6 16 rfl rfl)
theorem dX9_holds_195 : decode cX9_holds 195 = .ok (.iload_n 2, 1) := dk_28 (dk_at dksX9_holds_6 17 rfl rfl)
theorem dX9_holds_196 : decode cX9_holds 196 = .ok (.invokevirtual 247, 3) := dk_182 0 247 (dk_at dksX9_holds_6 18 rfl rfl)
theorem dX9_holds_199 : decode cX9_holds 199 = .ok (.ifCond .ne 7, 3) := dk_154 0 7 (dk_at dksX9_holds_6 21 rfl rfl)
theorem dX9_holds_202 : decode cX9_holds 202 = .ok (.iconst 1, 1) := dk_4 (dk_at dksX9_holds_7 0 rfl rfl)
theorem dX9_holds_203 : decode cX9_holds 203 = .ok (.goto 4, 3) := dk_167 0 4 (dk_at dksX9_holds_7 1 rfl rfl)
theorem dX9_holds_206 : decode cX9_holds 206 = .ok (.iconst 0, 1) := dk_3 (dk_at dksX9_holds_7 4 rfl rfl)
theorem dX9_holds_207 : decode cX9_holds 207 = .ok (.ireturn, 1) := dk_172 (dk_at dksX9_holds_7 5 rfl rfl)
theorem dX9_holds_208 : decode cX9_holds 208 = .ok (.aload_n 0, 1) := dk_42 (dk_at dksX9_holds_7 6 rfl rfl)
theorem dX9_holds_209 : decode cX9_holds 209 = .ok (.getfield 13, 3) := dk_180 0 13 (dk_at dksX9_holds_7 7 rfl rfl)
theorem dX9_holds_212 : decode cX9_holds 212 = .ok (.bipush 11, 2) := dk_16 11 (dk_at dksX9_holds_7 10 rfl rfl)
theorem dX9_holds_214 : decode cX9_holds 214 = .ok (.iload_n 2, 1) := dk_28 (dk_at dksX9_holds_7 12 rfl rfl)
theorem dX9_holds_215 : decode cX9_holds 215 = .ok (.iadd, 1) := dk_96 (dk_at dksX9_holds_7 13 rfl rfl)
theorem dX9_holds_216 : decode cX9_holds 216 = .ok (.iaload, 1) := dk_46 (dk_at dksX9_holds_7 14 rfl rfl)
theorem dX9_holds_217 : decode cX9_holds 217 = .ok (.iload 4, 2) := dk_21 4 (dk_at dksX9_holds_7 15 rfl rfl)
theorem dX9_holds_219 : decode cX9_holds 219 = .ok (.if_icmp .ne 7, 3) := dk_160 0 7 (dk_at dksX9_holds_7 17 rfl rfl)
theorem dX9_holds_222 : decode cX9_holds 222 = .ok (.iconst 1, 1) := dk_4 (dk_at dksX9_holds_7 20 rfl rfl)
theorem dX9_holds_223 : decode cX9_holds 223 = .ok (.goto 4, 3) := dk_167 0 4 (dk_at dksX9_holds_7 21 rfl rfl)
theorem dX9_holds_226 : decode cX9_holds 226 = .ok (.iconst 0, 1) := dk_3 (dk_at dksX9_holds_8 0 rfl rfl)
theorem dX9_holds_227 : decode cX9_holds 227 = .ok (.ireturn, 1) := dk_172 (dk_at dksX9_holds_8 1 rfl rfl)
theorem dX9_holds_228 : decode cX9_holds 228 = .ok (.aload_n 0, 1) := dk_42 (dk_at dksX9_holds_8 2 rfl rfl)
theorem dX9_holds_229 : decode cX9_holds 229 = .ok (.iload_n 2, 1) := dk_28 (dk_at dksX9_holds_8 3 rfl rfl)
theorem dX9_holds_230 : decode cX9_holds 230 = .ok (.iload 4, 2) := dk_21 4 (dk_at dksX9_holds_8 4 rfl rfl)
theorem dX9_holds_232 : decode cX9_holds 232 = .ok (.invokevirtual 234, 3) := dk_182 0 234 (dk_at dksX9_holds_8 6 rfl rfl)
theorem dX9_holds_235 : decode cX9_holds 235 = .ok (.ifCond .le 7, 3) := dk_158 0 7 (dk_at dksX9_holds_8 9 rfl rfl)
theorem dX9_holds_238 : decode cX9_holds 238 = .ok (.iconst 1, 1) := dk_4 (dk_at dksX9_holds_8 12 rfl rfl)
theorem dX9_holds_239 : decode cX9_holds 239 = .ok (.goto 4, 3) := dk_167 0 4 (dk_at dksX9_holds_8 13 rfl rfl)
theorem dX9_holds_242 : decode cX9_holds 242 = .ok (.iconst 0, 1) := dk_3 (dk_at dksX9_holds_8 16 rfl rfl)
theorem dX9_holds_243 : decode cX9_holds 243 = .ok (.ireturn, 1) := dk_172 (dk_at dksX9_holds_8 17 rfl rfl)
theorem dX9_holds_244 : decode cX9_holds 244 = .ok (.aload_n 0, 1) := dk_42 (dk_at dksX9_holds_8 18 rfl rfl)
theorem dX9_holds_245 : decode cX9_holds 245 = .ok (.getfield 13, 3) := dk_180 0 13 (dk_at dksX9_holds_8 19 rfl rfl)
theorem dX9_holds_248 : decode cX9_holds 248 = .ok (.iload_n 3, 1) := dk_29 (dk_at dksX9_holds_8 22 rfl rfl)
theorem dX9_holds_249 : decode cX9_holds 249 = .ok (.iaload, 1) := dk_46 (dk_at dksX9_holds_8 23 rfl rfl)
theorem dX9_holds_250 : decode cX9_holds 250 = .ok (.bipush 50, 2) := dk_16 50 (dk_at dksX9_holds_9 0 rfl rfl)
theorem dX9_holds_252 : decode cX9_holds 252 = .ok (.isub, 1) := dk_100 (dk_at dksX9_holds_9 2 rfl rfl)
theorem dX9_holds_253 : decode cX9_holds 253 = .ok (.istore 6, 2) := dk_54 6 (dk_at dksX9_holds_9 3 rfl rfl)
theorem dX9_holds_255 : decode cX9_holds 255 = .ok (.iload 6, 2) := dk_21 6 (dk_at dksX9_holds_9 5 rfl rfl)
theorem dX9_holds_257 : decode cX9_holds 257 = .ok (.bipush 24, 2) := dk_16 24 (dk_at dksX9_holds_9 7 rfl rfl)
theorem dX9_holds_259 : decode cX9_holds 259 = .ok (.if_icmp .ne 14, 3) := dk_160 0 14 (dk_at dksX9_holds_9 9 rfl rfl)
theorem dX9_holds_262 : decode cX9_holds 262 = .ok (.aload_n 0, 1) := dk_42 (dk_at dksX9_holds_9 12 rfl rfl)
theorem dX9_holds_263 : decode cX9_holds 263 = .ok (.getfield 13, 3) := dk_180 0 13 (dk_at dksX9_holds_9 13 rfl rfl)
theorem dX9_holds_266 : decode cX9_holds 266 = .ok (.iconst 4, 1) := dk_7 (dk_at dksX9_holds_9 16 rfl rfl)
theorem dX9_holds_267 : decode cX9_holds 267 = .ok (.iload_n 2, 1) := dk_28 (dk_at dksX9_holds_9 17 rfl rfl)
theorem dX9_holds_268 : decode cX9_holds 268 = .ok (.iadd, 1) := dk_96 (dk_at dksX9_holds_9 18 rfl rfl)
theorem dX9_holds_269 : decode cX9_holds 269 = .ok (.iaload, 1) := dk_46 (dk_at dksX9_holds_9 19 rfl rfl)
theorem dX9_holds_270 : decode cX9_holds 270 = .ok (.goto 42, 3) := dk_167 0 42 (dk_at dksX9_holds_9 20 rfl rfl)
theorem dX9_holds_273 : decode cX9_holds 273 = .ok (.iload 6, 2) := dk_21 6 (dk_at dksX9_holds_10 0 rfl rfl)
theorem dX9_holds_275 : decode cX9_holds 275 = .ok (.bipush 25, 2) := dk_16 25 (dk_at dksX9_holds_10 2 rfl rfl)
theorem dX9_holds_277 : decode cX9_holds 277 = .ok (.if_icmp .ne 15, 3) := dk_160 0 15 (dk_at dksX9_holds_10 4 rfl rfl)
theorem dX9_holds_280 : decode cX9_holds 280 = .ok (.aload_n 0, 1) := dk_42 (dk_at dksX9_holds_10 7 rfl rfl)
theorem dX9_holds_281 : decode cX9_holds 281 = .ok (.getfield 13, 3) := dk_180 0 13 (dk_at dksX9_holds_10 8 rfl rfl)
theorem dX9_holds_284 : decode cX9_holds 284 = .ok (.bipush 84, 2) := dk_16 84 (dk_at dksX9_holds_10 11 rfl rfl)
theorem dX9_holds_286 : decode cX9_holds 286 = .ok (.iload_n 2, 1) := dk_28 (dk_at dksX9_holds_10 13 rfl rfl)
theorem dX9_holds_287 : decode cX9_holds 287 = .ok (.iadd, 1) := dk_96 (dk_at dksX9_holds_10 14 rfl rfl)
theorem dX9_holds_288 : decode cX9_holds 288 = .ok (.iaload, 1) := dk_46 (dk_at dksX9_holds_10 15 rfl rfl)
theorem dX9_holds_289 : decode cX9_holds 289 = .ok (.goto 23, 3) := dk_167 0 23 (dk_at dksX9_holds_10 16 rfl rfl)
theorem dX9_holds_292 : decode cX9_holds 292 = .ok (.iload 6, 2) := dk_21 6 (dk_at dksX9_holds_10 19 rfl rfl)
theorem dX9_holds_294 : decode cX9_holds 294 = .ok (.bipush 26, 2) := dk_16 26 (dk_at dksX9_holds_10 21 rfl rfl)
theorem dX9_holds_296 : decode cX9_holds 296 = .ok (.if_icmp .ne 15, 3) := dk_160 0 15 (dk_at dksX9_holds_11 0 rfl rfl)
theorem dX9_holds_299 : decode cX9_holds 299 = .ok (.aload_n 0, 1) := dk_42 (dk_at dksX9_holds_11 3 rfl rfl)
theorem dX9_holds_300 : decode cX9_holds 300 = .ok (.getfield 13, 3) := dk_180 0 13 (dk_at dksX9_holds_11 4 rfl rfl)
theorem dX9_holds_303 : decode cX9_holds 303 = .ok (.bipush 98, 2) := dk_16 98 (dk_at dksX9_holds_11 7 rfl rfl)
theorem dX9_holds_305 : decode cX9_holds 305 = .ok (.iload_n 2, 1) := dk_28 (dk_at dksX9_holds_11 9 rfl rfl)
theorem dX9_holds_306 : decode cX9_holds 306 = .ok (.iadd, 1) := dk_96 (dk_at dksX9_holds_11 10 rfl rfl)
theorem dX9_holds_307 : decode cX9_holds 307 = .ok (.iaload, 1) := dk_46 (dk_at dksX9_holds_11 11 rfl rfl)
theorem dX9_holds_308 : decode cX9_holds 308 = .ok (.goto 4, 3) := dk_167 0 4 (dk_at dksX9_holds_11 12 rfl rfl)
theorem dX9_holds_311 : decode cX9_holds 311 = .ok (.iload_n 2, 1) := dk_28 (dk_at dksX9_holds_11 15 rfl rfl)
theorem dX9_holds_312 : decode cX9_holds 312 = .ok (.istore 7, 2) := dk_54 7 (dk_at dksX9_holds_11 16 rfl rfl)
theorem dX9_holds_314 : decode cX9_holds 314 = .ok (.aload_n 0, 1) := dk_42 (dk_at dksX9_holds_11 18 rfl rfl)
theorem dX9_holds_315 : decode cX9_holds 315 = .ok (.getfield 13, 3) := dk_180 0 13 (dk_at dksX9_holds_11 19 rfl rfl)
theorem dX9_holds_318 : decode cX9_holds 318 = .ok (.iload_n 3, 1) := dk_29 (dk_at dksX9_holds_11 22 rfl rfl)
theorem dX9_holds_319 : decode cX9_holds 319 = .ok (.iconst 3, 1) := dk_6 (dk_at dksX9_holds_11 23 rfl rfl)
theorem dX9_holds_320 : decode cX9_holds 320 = .ok (.iadd, 1) := dk_96 (dk_at dksX9_holds_12 0 rfl rfl)
theorem dX9_holds_321 : decode cX9_holds 321 = .ok (.iaload, 1) := dk_46 (dk_at dksX9_holds_12 1 rfl rfl)
theorem dX9_holds_322 : decode cX9_holds 322 = .ok (.bipush 60, 2) := dk_16 60 (dk_at dksX9_holds_12 2 rfl rfl)
theorem dX9_holds_324 : decode cX9_holds 324 = .ok (.if_icmp .ne 18, 3) := dk_160 0 18 (dk_at dksX9_holds_12 4 rfl rfl)
theorem dX9_holds_327 : decode cX9_holds 327 = .ok (.iload 7, 2) := dk_21 7 (dk_at dksX9_holds_12 7 rfl rfl)
theorem dX9_holds_329 : decode cX9_holds 329 = .ok (.iload 5, 2) := dk_21 5 (dk_at dksX9_holds_12 9 rfl rfl)
theorem dX9_holds_331 : decode cX9_holds 331 = .ok (.if_icmp .ge 7, 3) := dk_162 0 7 (dk_at dksX9_holds_12 11 rfl rfl)
theorem dX9_holds_334 : decode cX9_holds 334 = .ok (.iconst 1, 1) := dk_4 (dk_at dksX9_holds_12 14 rfl rfl)
theorem dX9_holds_335 : decode cX9_holds 335 = .ok (.goto 47, 3) := dk_167 0 47 (dk_at dksX9_holds_12 15 rfl rfl)
theorem dX9_holds_338 : decode cX9_holds 338 = .ok (.iconst 0, 1) := dk_3 (dk_at dksX9_holds_12 18 rfl rfl)
theorem dX9_holds_339 : decode cX9_holds 339 = .ok (.goto 43, 3) := dk_167 0 43 (dk_at dksX9_holds_12 19 rfl rfl)
theorem dX9_holds_342 : decode cX9_holds 342 = .ok (.aload_n 0, 1) := dk_42 (dk_at dksX9_holds_12 22 rfl rfl)
theorem dX9_holds_343 : decode cX9_holds 343 = .ok (.getfield 13, 3) := dk_180 0 13 (dk_at dksX9_holds_13 0 rfl rfl)
theorem dX9_holds_346 : decode cX9_holds 346 = .ok (.iload_n 3, 1) := dk_29 (dk_at dksX9_holds_13 3 rfl rfl)
theorem dX9_holds_347 : decode cX9_holds 347 = .ok (.iconst 3, 1) := dk_6 (dk_at dksX9_holds_13 4 rfl rfl)
theorem dX9_holds_348 : decode cX9_holds 348 = .ok (.iadd, 1) := dk_96 (dk_at dksX9_holds_13 5 rfl rfl)
theorem dX9_holds_349 : decode cX9_holds 349 = .ok (.iaload, 1) := dk_46 (dk_at dksX9_holds_13 6 rfl rfl)
theorem dX9_holds_350 : decode cX9_holds 350 = .ok (.bipush 61, 2) := dk_16 61 (dk_at dksX9_holds_13 7 rfl rfl)
theorem dX9_holds_352 : decode cX9_holds 352 = .ok (.if_icmp .ne 18, 3) := dk_160 0 18 (dk_at dksX9_holds_13 9 rfl rfl)
theorem dX9_holds_355 : decode cX9_holds 355 = .ok (.iload 7, 2) := dk_21 7 (dk_at dksX9_holds_13 12 rfl rfl)
theorem dX9_holds_357 : decode cX9_holds 357 = .ok (.iload 5, 2) := dk_21 5 (dk_at dksX9_holds_13 14 rfl rfl)
theorem dX9_holds_359 : decode cX9_holds 359 = .ok (.if_icmp .ne 7, 3) := dk_160 0 7 (dk_at dksX9_holds_13 16 rfl rfl)
theorem dX9_holds_362 : decode cX9_holds 362 = .ok (.iconst 1, 1) := dk_4 (dk_at dksX9_holds_13 19 rfl rfl)
theorem dX9_holds_363 : decode cX9_holds 363 = .ok (.goto 19, 3) := dk_167 0 19 (dk_at dksX9_holds_13 20 rfl rfl)
theorem dX9_holds_366 : decode cX9_holds 366 = .ok (.iconst 0, 1) := dk_3 (dk_at dksX9_holds_13 23 rfl rfl)
theorem dX9_holds_367 : decode cX9_holds 367 = .ok (.goto 15, 3) := dk_167 0 15 (dk_at dksX9_holds_14 0 rfl rfl)
theorem dX9_holds_370 : decode cX9_holds 370 = .ok (.iload 7, 2) := dk_21 7 (dk_at dksX9_holds_14 3 rfl rfl)
theorem dX9_holds_372 : decode cX9_holds 372 = .ok (.iload 5, 2) := dk_21 5 (dk_at dksX9_holds_14 5 rfl rfl)
theorem dX9_holds_374 : decode cX9_holds 374 = .ok (.if_icmp .le 7, 3) := dk_164 0 7 (dk_at dksX9_holds_14 7 rfl rfl)
theorem dX9_holds_377 : decode cX9_holds 377 = .ok (.iconst 1, 1) := dk_4 (dk_at dksX9_holds_14 10 rfl rfl)
theorem dX9_holds_378 : decode cX9_holds 378 = .ok (.goto 4, 3) := dk_167 0 4 (dk_at dksX9_holds_14 11 rfl rfl)
theorem dX9_holds_381 : decode cX9_holds 381 = .ok (.iconst 0, 1) := dk_3 (dk_at dksX9_holds_14 14 rfl rfl)
theorem dX9_holds_382 : decode cX9_holds 382 = .ok (.ireturn, 1) := dk_172 (dk_at dksX9_holds_14 15 rfl rfl)
abbrev cX9_image : ByteArray := prog_25_method_119_code
def yX9_image : MethodName := ⟨RX9, "image", "(I)Z"⟩
def dkwX9_image_3 : List UInt8 := [180, 0, 28, 28, 47, 80, 132, 2, 1, 167, 255, 230, 42, 180, 0, 38, 27, 4, 84, 4, 172]
abbrev dktX9_image_3 : List UInt8 := dkwX9_image_3 ++ []
def dkwX9_image_2 : List UInt8 := [167, 255, 228, 3, 61, 28, 16, 13, 162, 0, 26, 42, 180, 0, 35, 16, 13, 27, 104, 28, 96, 42]
abbrev dktX9_image_2 : List UInt8 := dkwX9_image_2 ++ dktX9_image_3
def dkwX9_image_1 : List UInt8 := [162, 0, 27, 42, 180, 0, 19, 17, 1, 133, 27, 104, 28, 96, 42, 180, 0, 13, 28, 46, 79, 132, 2, 1]
abbrev dktX9_image_1 : List UInt8 := dkwX9_image_1 ++ dktX9_image_2
def dkwX9_image_0 : List UInt8 := [42, 3, 181, 0, 82, 27, 3, 4, 184, 0, 149, 154, 0, 5, 3, 172, 3, 61, 28, 17, 1, 133]
abbrev dktX9_image_0 : List UInt8 := dkwX9_image_0 ++ dktX9_image_1
theorem dksX9_image_0 : cX9_image.data.toList.drop 0 = dktX9_image_0 := by decide +kernel
theorem dksX9_image_1 : cX9_image.data.toList.drop 22 = dktX9_image_1 := dk_seg dksX9_image_0 22 rfl rfl
theorem dksX9_image_2 : cX9_image.data.toList.drop 46 = dktX9_image_2 := dk_seg dksX9_image_1 24 rfl rfl
theorem dksX9_image_3 : cX9_image.data.toList.drop 68 = dktX9_image_3 := dk_seg dksX9_image_2 22 rfl rfl
theorem dX9_image_0 : decode cX9_image 0 = .ok (.aload_n 0, 1) := dk_42 (dk_at dksX9_image_0 0 rfl rfl)
theorem dX9_image_1 : decode cX9_image 1 = .ok (.iconst 0, 1) := dk_3 (dk_at dksX9_image_0 1 rfl rfl)
theorem dX9_image_2 : decode cX9_image 2 = .ok (.putfield 82, 3) := dk_181 0 82 (dk_at dksX9_image_0 2 rfl rfl)
theorem dX9_image_5 : decode cX9_image 5 = .ok (.iload_n 1, 1) := dk_27 (dk_at dksX9_image_0 5 rfl rfl)
theorem dX9_image_6 : decode cX9_image 6 = .ok (.iconst 0, 1) := dk_3 (dk_at dksX9_image_0 6 rfl rfl)
theorem dX9_image_7 : decode cX9_image 7 = .ok (.iconst 1, 1) := dk_4 (dk_at dksX9_image_0 7 rfl rfl)
theorem dX9_image_8 : decode cX9_image 8 = .ok (.invokestatic 149, 3) := dk_184 0 149 (dk_at dksX9_image_0 8 rfl rfl)
theorem dX9_image_11 : decode cX9_image 11 = .ok (.ifCond .ne 5, 3) := dk_154 0 5 (dk_at dksX9_image_0 11 rfl rfl)
theorem dX9_image_14 : decode cX9_image 14 = .ok (.iconst 0, 1) := dk_3 (dk_at dksX9_image_0 14 rfl rfl)
theorem dX9_image_15 : decode cX9_image 15 = .ok (.ireturn, 1) := dk_172 (dk_at dksX9_image_0 15 rfl rfl)
theorem dX9_image_16 : decode cX9_image 16 = .ok (.iconst 0, 1) := dk_3 (dk_at dksX9_image_0 16 rfl rfl)
theorem dX9_image_17 : decode cX9_image 17 = .ok (.istore_n 2, 1) := dk_61 (dk_at dksX9_image_0 17 rfl rfl)
theorem dX9_image_18 : decode cX9_image 18 = .ok (.iload_n 2, 1) := dk_28 (dk_at dksX9_image_0 18 rfl rfl)
theorem dX9_image_19 : decode cX9_image 19 = .ok (.sipush 389, 3) := dk_17 1 133 (dk_at dksX9_image_0 19 rfl rfl)
theorem dX9_image_22 : decode cX9_image 22 = .ok (.if_icmp .ge 27, 3) := dk_162 0 27 (dk_at dksX9_image_1 0 rfl rfl)
theorem dX9_image_25 : decode cX9_image 25 = .ok (.aload_n 0, 1) := dk_42 (dk_at dksX9_image_1 3 rfl rfl)
theorem dX9_image_26 : decode cX9_image 26 = .ok (.getfield 19, 3) := dk_180 0 19 (dk_at dksX9_image_1 4 rfl rfl)
theorem dX9_image_29 : decode cX9_image 29 = .ok (.sipush 389, 3) := dk_17 1 133 (dk_at dksX9_image_1 7 rfl rfl)
theorem dX9_image_32 : decode cX9_image 32 = .ok (.iload_n 1, 1) := dk_27 (dk_at dksX9_image_1 10 rfl rfl)
theorem dX9_image_33 : decode cX9_image 33 = .ok (.imul, 1) := dk_104 (dk_at dksX9_image_1 11 rfl rfl)
theorem dX9_image_34 : decode cX9_image 34 = .ok (.iload_n 2, 1) := dk_28 (dk_at dksX9_image_1 12 rfl rfl)
theorem dX9_image_35 : decode cX9_image 35 = .ok (.iadd, 1) := dk_96 (dk_at dksX9_image_1 13 rfl rfl)
theorem dX9_image_36 : decode cX9_image 36 = .ok (.aload_n 0, 1) := dk_42 (dk_at dksX9_image_1 14 rfl rfl)
theorem dX9_image_37 : decode cX9_image 37 = .ok (.getfield 13, 3) := dk_180 0 13 (dk_at dksX9_image_1 15 rfl rfl)
theorem dX9_image_40 : decode cX9_image 40 = .ok (.iload_n 2, 1) := dk_28 (dk_at dksX9_image_1 18 rfl rfl)
theorem dX9_image_41 : decode cX9_image 41 = .ok (.iaload, 1) := dk_46 (dk_at dksX9_image_1 19 rfl rfl)
theorem dX9_image_42 : decode cX9_image 42 = .ok (.iastore, 1) := dk_79 (dk_at dksX9_image_1 20 rfl rfl)
theorem dX9_image_43 : decode cX9_image 43 = .ok (.iinc 2 1, 3) := dk_132 2 1 (dk_at dksX9_image_1 21 rfl rfl)
theorem dX9_image_46 : decode cX9_image 46 = .ok (.goto (-28), 3) := dk_167 255 228 (dk_at dksX9_image_2 0 rfl rfl)
theorem dX9_image_49 : decode cX9_image 49 = .ok (.iconst 0, 1) := dk_3 (dk_at dksX9_image_2 3 rfl rfl)
theorem dX9_image_50 : decode cX9_image 50 = .ok (.istore_n 2, 1) := dk_61 (dk_at dksX9_image_2 4 rfl rfl)
theorem dX9_image_51 : decode cX9_image 51 = .ok (.iload_n 2, 1) := dk_28 (dk_at dksX9_image_2 5 rfl rfl)
theorem dX9_image_52 : decode cX9_image 52 = .ok (.bipush 13, 2) := dk_16 13 (dk_at dksX9_image_2 6 rfl rfl)
theorem dX9_image_54 : decode cX9_image 54 = .ok (.if_icmp .ge 26, 3) := dk_162 0 26 (dk_at dksX9_image_2 8 rfl rfl)
theorem dX9_image_57 : decode cX9_image 57 = .ok (.aload_n 0, 1) := dk_42 (dk_at dksX9_image_2 11 rfl rfl)
theorem dX9_image_58 : decode cX9_image 58 = .ok (.getfield 35, 3) := dk_180 0 35 (dk_at dksX9_image_2 12 rfl rfl)
theorem dX9_image_61 : decode cX9_image 61 = .ok (.bipush 13, 2) := dk_16 13 (dk_at dksX9_image_2 15 rfl rfl)
theorem dX9_image_63 : decode cX9_image 63 = .ok (.iload_n 1, 1) := dk_27 (dk_at dksX9_image_2 17 rfl rfl)
theorem dX9_image_64 : decode cX9_image 64 = .ok (.imul, 1) := dk_104 (dk_at dksX9_image_2 18 rfl rfl)
theorem dX9_image_65 : decode cX9_image 65 = .ok (.iload_n 2, 1) := dk_28 (dk_at dksX9_image_2 19 rfl rfl)
theorem dX9_image_66 : decode cX9_image 66 = .ok (.iadd, 1) := dk_96 (dk_at dksX9_image_2 20 rfl rfl)
theorem dX9_image_67 : decode cX9_image 67 = .ok (.aload_n 0, 1) := dk_42 (dk_at dksX9_image_2 21 rfl rfl)
theorem dX9_image_68 : decode cX9_image 68 = .ok (.getfield 28, 3) := dk_180 0 28 (dk_at dksX9_image_3 0 rfl rfl)
theorem dX9_image_71 : decode cX9_image 71 = .ok (.iload_n 2, 1) := dk_28 (dk_at dksX9_image_3 3 rfl rfl)
theorem dX9_image_72 : decode cX9_image 72 = .ok (.laload, 1) := dk_47 (dk_at dksX9_image_3 4 rfl rfl)
theorem dX9_image_73 : decode cX9_image 73 = .ok (.lastore, 1) := dk_80 (dk_at dksX9_image_3 5 rfl rfl)
theorem dX9_image_74 : decode cX9_image 74 = .ok (.iinc 2 1, 3) := dk_132 2 1 (dk_at dksX9_image_3 6 rfl rfl)
theorem dX9_image_77 : decode cX9_image 77 = .ok (.goto (-26), 3) := dk_167 255 230 (dk_at dksX9_image_3 9 rfl rfl)
theorem dX9_image_80 : decode cX9_image 80 = .ok (.aload_n 0, 1) := dk_42 (dk_at dksX9_image_3 12 rfl rfl)
theorem dX9_image_81 : decode cX9_image 81 = .ok (.getfield 38, 3) := dk_180 0 38 (dk_at dksX9_image_3 13 rfl rfl)
theorem dX9_image_84 : decode cX9_image 84 = .ok (.iload_n 1, 1) := dk_27 (dk_at dksX9_image_3 16 rfl rfl)
theorem dX9_image_85 : decode cX9_image 85 = .ok (.iconst 1, 1) := dk_4 (dk_at dksX9_image_3 17 rfl rfl)
theorem dX9_image_86 : decode cX9_image 86 = .ok (.bastore, 1) := dk_84 (dk_at dksX9_image_3 18 rfl rfl)
theorem dX9_image_87 : decode cX9_image 87 = .ok (.iconst 1, 1) := dk_4 (dk_at dksX9_image_3 19 rfl rfl)
theorem dX9_image_88 : decode cX9_image 88 = .ok (.ireturn, 1) := dk_172 (dk_at dksX9_image_3 20 rfl rfl)
abbrev cX9_restore : ByteArray := prog_25_method_120_code
def yX9_restore : MethodName := ⟨RX9, "restore", "(I)Z"⟩
def dkwX9_restore_3 : List UInt8 := [180, 0, 35, 16, 13, 27, 104, 28, 96, 47, 80, 132, 2, 1, 167, 255, 230, 42, 3, 181, 0, 228, 4, 172]
abbrev dktX9_restore_3 : List UInt8 := dkwX9_restore_3 ++ []
def dkwX9_restore_2 : List UInt8 := [28, 96, 46, 79, 132, 2, 1, 167, 255, 228, 3, 61, 28, 16, 13, 162, 0, 26, 42, 180, 0, 28, 28, 42]
abbrev dktX9_restore_2 : List UInt8 := dkwX9_restore_2 ++ dktX9_restore_3
def dkwX9_restore_1 : List UInt8 := [172, 3, 61, 28, 17, 1, 133, 162, 0, 27, 42, 180, 0, 13, 28, 42, 180, 0, 19, 17, 1, 133, 27, 104]
abbrev dktX9_restore_1 : List UInt8 := dkwX9_restore_1 ++ dktX9_restore_2
def dkwX9_restore_0 : List UInt8 := [42, 3, 181, 0, 82, 27, 3, 4, 184, 0, 149, 153, 0, 12, 42, 180, 0, 38, 27, 51, 154, 0, 5, 3]
abbrev dktX9_restore_0 : List UInt8 := dkwX9_restore_0 ++ dktX9_restore_1
theorem dksX9_restore_0 : cX9_restore.data.toList.drop 0 = dktX9_restore_0 := by decide +kernel
theorem dksX9_restore_1 : cX9_restore.data.toList.drop 24 = dktX9_restore_1 := dk_seg dksX9_restore_0 24 rfl rfl
theorem dksX9_restore_2 : cX9_restore.data.toList.drop 48 = dktX9_restore_2 := dk_seg dksX9_restore_1 24 rfl rfl
theorem dksX9_restore_3 : cX9_restore.data.toList.drop 72 = dktX9_restore_3 := dk_seg dksX9_restore_2 24 rfl rfl
theorem dX9_restore_0 : decode cX9_restore 0 = .ok (.aload_n 0, 1) := dk_42 (dk_at dksX9_restore_0 0 rfl rfl)
theorem dX9_restore_1 : decode cX9_restore 1 = .ok (.iconst 0, 1) := dk_3 (dk_at dksX9_restore_0 1 rfl rfl)
theorem dX9_restore_2 : decode cX9_restore 2 = .ok (.putfield 82, 3) := dk_181 0 82 (dk_at dksX9_restore_0 2 rfl rfl)
theorem dX9_restore_5 : decode cX9_restore 5 = .ok (.iload_n 1, 1) := dk_27 (dk_at dksX9_restore_0 5 rfl rfl)
theorem dX9_restore_6 : decode cX9_restore 6 = .ok (.iconst 0, 1) := dk_3 (dk_at dksX9_restore_0 6 rfl rfl)
theorem dX9_restore_7 : decode cX9_restore 7 = .ok (.iconst 1, 1) := dk_4 (dk_at dksX9_restore_0 7 rfl rfl)
theorem dX9_restore_8 : decode cX9_restore 8 = .ok (.invokestatic 149, 3) := dk_184 0 149 (dk_at dksX9_restore_0 8 rfl rfl)
theorem dX9_restore_11 : decode cX9_restore 11 = .ok (.ifCond .eq 12, 3) := dk_153 0 12 (dk_at dksX9_restore_0 11 rfl rfl)
theorem dX9_restore_14 : decode cX9_restore 14 = .ok (.aload_n 0, 1) := dk_42 (dk_at dksX9_restore_0 14 rfl rfl)
theorem dX9_restore_15 : decode cX9_restore 15 = .ok (.getfield 38, 3) := dk_180 0 38 (dk_at dksX9_restore_0 15 rfl rfl)
theorem dX9_restore_18 : decode cX9_restore 18 = .ok (.iload_n 1, 1) := dk_27 (dk_at dksX9_restore_0 18 rfl rfl)
theorem dX9_restore_19 : decode cX9_restore 19 = .ok (.baload, 1) := dk_51 (dk_at dksX9_restore_0 19 rfl rfl)
theorem dX9_restore_20 : decode cX9_restore 20 = .ok (.ifCond .ne 5, 3) := dk_154 0 5 (dk_at dksX9_restore_0 20 rfl rfl)
theorem dX9_restore_23 : decode cX9_restore 23 = .ok (.iconst 0, 1) := dk_3 (dk_at dksX9_restore_0 23 rfl rfl)
theorem dX9_restore_24 : decode cX9_restore 24 = .ok (.ireturn, 1) := dk_172 (dk_at dksX9_restore_1 0 rfl rfl)
theorem dX9_restore_25 : decode cX9_restore 25 = .ok (.iconst 0, 1) := dk_3 (dk_at dksX9_restore_1 1 rfl rfl)
theorem dX9_restore_26 : decode cX9_restore 26 = .ok (.istore_n 2, 1) := dk_61 (dk_at dksX9_restore_1 2 rfl rfl)
theorem dX9_restore_27 : decode cX9_restore 27 = .ok (.iload_n 2, 1) := dk_28 (dk_at dksX9_restore_1 3 rfl rfl)
theorem dX9_restore_28 : decode cX9_restore 28 = .ok (.sipush 389, 3) := dk_17 1 133 (dk_at dksX9_restore_1 4 rfl rfl)
theorem dX9_restore_31 : decode cX9_restore 31 = .ok (.if_icmp .ge 27, 3) := dk_162 0 27 (dk_at dksX9_restore_1 7 rfl rfl)
theorem dX9_restore_34 : decode cX9_restore 34 = .ok (.aload_n 0, 1) := dk_42 (dk_at dksX9_restore_1 10 rfl rfl)
theorem dX9_restore_35 : decode cX9_restore 35 = .ok (.getfield 13, 3) := dk_180 0 13 (dk_at dksX9_restore_1 11 rfl rfl)
theorem dX9_restore_38 : decode cX9_restore 38 = .ok (.iload_n 2, 1) := dk_28 (dk_at dksX9_restore_1 14 rfl rfl)
theorem dX9_restore_39 : decode cX9_restore 39 = .ok (.aload_n 0, 1) := dk_42 (dk_at dksX9_restore_1 15 rfl rfl)
theorem dX9_restore_40 : decode cX9_restore 40 = .ok (.getfield 19, 3) := dk_180 0 19 (dk_at dksX9_restore_1 16 rfl rfl)
theorem dX9_restore_43 : decode cX9_restore 43 = .ok (.sipush 389, 3) := dk_17 1 133 (dk_at dksX9_restore_1 19 rfl rfl)
theorem dX9_restore_46 : decode cX9_restore 46 = .ok (.iload_n 1, 1) := dk_27 (dk_at dksX9_restore_1 22 rfl rfl)
theorem dX9_restore_47 : decode cX9_restore 47 = .ok (.imul, 1) := dk_104 (dk_at dksX9_restore_1 23 rfl rfl)
theorem dX9_restore_48 : decode cX9_restore 48 = .ok (.iload_n 2, 1) := dk_28 (dk_at dksX9_restore_2 0 rfl rfl)
theorem dX9_restore_49 : decode cX9_restore 49 = .ok (.iadd, 1) := dk_96 (dk_at dksX9_restore_2 1 rfl rfl)
theorem dX9_restore_50 : decode cX9_restore 50 = .ok (.iaload, 1) := dk_46 (dk_at dksX9_restore_2 2 rfl rfl)
theorem dX9_restore_51 : decode cX9_restore 51 = .ok (.iastore, 1) := dk_79 (dk_at dksX9_restore_2 3 rfl rfl)
theorem dX9_restore_52 : decode cX9_restore 52 = .ok (.iinc 2 1, 3) := dk_132 2 1 (dk_at dksX9_restore_2 4 rfl rfl)
theorem dX9_restore_55 : decode cX9_restore 55 = .ok (.goto (-28), 3) := dk_167 255 228 (dk_at dksX9_restore_2 7 rfl rfl)
theorem dX9_restore_58 : decode cX9_restore 58 = .ok (.iconst 0, 1) := dk_3 (dk_at dksX9_restore_2 10 rfl rfl)
theorem dX9_restore_59 : decode cX9_restore 59 = .ok (.istore_n 2, 1) := dk_61 (dk_at dksX9_restore_2 11 rfl rfl)
theorem dX9_restore_60 : decode cX9_restore 60 = .ok (.iload_n 2, 1) := dk_28 (dk_at dksX9_restore_2 12 rfl rfl)
theorem dX9_restore_61 : decode cX9_restore 61 = .ok (.bipush 13, 2) := dk_16 13 (dk_at dksX9_restore_2 13 rfl rfl)
theorem dX9_restore_63 : decode cX9_restore 63 = .ok (.if_icmp .ge 26, 3) := dk_162 0 26 (dk_at dksX9_restore_2 15 rfl rfl)
theorem dX9_restore_66 : decode cX9_restore 66 = .ok (.aload_n 0, 1) := dk_42 (dk_at dksX9_restore_2 18 rfl rfl)
theorem dX9_restore_67 : decode cX9_restore 67 = .ok (.getfield 28, 3) := dk_180 0 28 (dk_at dksX9_restore_2 19 rfl rfl)
theorem dX9_restore_70 : decode cX9_restore 70 = .ok (.iload_n 2, 1) := dk_28 (dk_at dksX9_restore_2 22 rfl rfl)
theorem dX9_restore_71 : decode cX9_restore 71 = .ok (.aload_n 0, 1) := dk_42 (dk_at dksX9_restore_2 23 rfl rfl)
theorem dX9_restore_72 : decode cX9_restore 72 = .ok (.getfield 35, 3) := dk_180 0 35 (dk_at dksX9_restore_3 0 rfl rfl)
theorem dX9_restore_75 : decode cX9_restore 75 = .ok (.bipush 13, 2) := dk_16 13 (dk_at dksX9_restore_3 3 rfl rfl)
theorem dX9_restore_77 : decode cX9_restore 77 = .ok (.iload_n 1, 1) := dk_27 (dk_at dksX9_restore_3 5 rfl rfl)
theorem dX9_restore_78 : decode cX9_restore 78 = .ok (.imul, 1) := dk_104 (dk_at dksX9_restore_3 6 rfl rfl)
theorem dX9_restore_79 : decode cX9_restore 79 = .ok (.iload_n 2, 1) := dk_28 (dk_at dksX9_restore_3 7 rfl rfl)
theorem dX9_restore_80 : decode cX9_restore 80 = .ok (.iadd, 1) := dk_96 (dk_at dksX9_restore_3 8 rfl rfl)
theorem dX9_restore_81 : decode cX9_restore 81 = .ok (.laload, 1) := dk_47 (dk_at dksX9_restore_3 9 rfl rfl)
theorem dX9_restore_82 : decode cX9_restore 82 = .ok (.lastore, 1) := dk_80 (dk_at dksX9_restore_3 10 rfl rfl)
theorem dX9_restore_83 : decode cX9_restore 83 = .ok (.iinc 2 1, 3) := dk_132 2 1 (dk_at dksX9_restore_3 11 rfl rfl)
theorem dX9_restore_86 : decode cX9_restore 86 = .ok (.goto (-26), 3) := dk_167 255 230 (dk_at dksX9_restore_3 14 rfl rfl)
theorem dX9_restore_89 : decode cX9_restore 89 = .ok (.aload_n 0, 1) := dk_42 (dk_at dksX9_restore_3 17 rfl rfl)
theorem dX9_restore_90 : decode cX9_restore 90 = .ok (.iconst 0, 1) := dk_3 (dk_at dksX9_restore_3 18 rfl rfl)
theorem dX9_restore_91 : decode cX9_restore 91 = .ok (.putfield 228, 3) := dk_181 0 228 (dk_at dksX9_restore_3 19 rfl rfl)
theorem dX9_restore_94 : decode cX9_restore 94 = .ok (.iconst 1, 1) := dk_4 (dk_at dksX9_restore_3 22 rfl rfl)
theorem dX9_restore_95 : decode cX9_restore 95 = .ok (.ireturn, 1) := dk_172 (dk_at dksX9_restore_3 23 rfl rfl)
abbrev cX9_count : ByteArray := prog_25_method_121_code
def yX9_count : MethodName := ⟨RX9, "count", "(I)I"⟩
def dkwX9_count_3 : List UInt8 := [180, 0, 13, 6, 46, 172, 42, 180, 0, 85, 172, 2, 172]
abbrev dktX9_count_3 : List UInt8 := dkwX9_count_3 ++ []
def dkwX9_count_2 : List UInt8 := [42, 180, 0, 13, 3, 46, 172, 42, 180, 0, 13, 4, 46, 172, 42, 180, 0, 13, 5, 46, 172, 42]
abbrev dktX9_count_2 : List UInt8 := dkwX9_count_2 ++ dktX9_count_3
def dkwX9_count_1 : List UInt8 := [170, 0, 0, 0, 0, 67, 0, 0, 0, 0, 0, 0, 0, 4, 0, 0, 0, 34, 0, 0, 0, 41, 0, 0, 0, 48, 0, 0, 0, 55, 0, 0, 0, 62]
abbrev dktX9_count_1 : List UInt8 := dkwX9_count_1 ++ dktX9_count_2
def dkwX9_count_0 : List UInt8 := [42, 3, 181, 0, 82, 27]
abbrev dktX9_count_0 : List UInt8 := dkwX9_count_0 ++ dktX9_count_1
theorem dksX9_count_0 : cX9_count.data.toList.drop 0 = dktX9_count_0 := by decide +kernel
theorem dksX9_count_1 : cX9_count.data.toList.drop 6 = dktX9_count_1 := dk_seg dksX9_count_0 6 rfl rfl
theorem dksX9_count_2 : cX9_count.data.toList.drop 40 = dktX9_count_2 := dk_seg dksX9_count_1 34 rfl rfl
theorem dksX9_count_3 : cX9_count.data.toList.drop 62 = dktX9_count_3 := dk_seg dksX9_count_2 22 rfl rfl
theorem dX9_count_0 : decode cX9_count 0 = .ok (.aload_n 0, 1) := dk_42 (dk_at dksX9_count_0 0 rfl rfl)
theorem dX9_count_1 : decode cX9_count 1 = .ok (.iconst 0, 1) := dk_3 (dk_at dksX9_count_0 1 rfl rfl)
theorem dX9_count_2 : decode cX9_count 2 = .ok (.putfield 82, 3) := dk_181 0 82 (dk_at dksX9_count_0 2 rfl rfl)
theorem dX9_count_5 : decode cX9_count 5 = .ok (.iload_n 1, 1) := dk_27 (dk_at dksX9_count_0 5 rfl rfl)
theorem dX9_count_6 : decode cX9_count 6 = .ok (.tableswitch 67 0 4 #[34, 41, 48, 55, 62], 34) := by decide +kernel
theorem dX9_count_40 : decode cX9_count 40 = .ok (.aload_n 0, 1) := dk_42 (dk_at dksX9_count_2 0 rfl rfl)
theorem dX9_count_41 : decode cX9_count 41 = .ok (.getfield 13, 3) := dk_180 0 13 (dk_at dksX9_count_2 1 rfl rfl)
theorem dX9_count_44 : decode cX9_count 44 = .ok (.iconst 0, 1) := dk_3 (dk_at dksX9_count_2 4 rfl rfl)
theorem dX9_count_45 : decode cX9_count 45 = .ok (.iaload, 1) := dk_46 (dk_at dksX9_count_2 5 rfl rfl)
theorem dX9_count_46 : decode cX9_count 46 = .ok (.ireturn, 1) := dk_172 (dk_at dksX9_count_2 6 rfl rfl)
theorem dX9_count_47 : decode cX9_count 47 = .ok (.aload_n 0, 1) := dk_42 (dk_at dksX9_count_2 7 rfl rfl)
theorem dX9_count_48 : decode cX9_count 48 = .ok (.getfield 13, 3) := dk_180 0 13 (dk_at dksX9_count_2 8 rfl rfl)
theorem dX9_count_51 : decode cX9_count 51 = .ok (.iconst 1, 1) := dk_4 (dk_at dksX9_count_2 11 rfl rfl)
theorem dX9_count_52 : decode cX9_count 52 = .ok (.iaload, 1) := dk_46 (dk_at dksX9_count_2 12 rfl rfl)
theorem dX9_count_53 : decode cX9_count 53 = .ok (.ireturn, 1) := dk_172 (dk_at dksX9_count_2 13 rfl rfl)
theorem dX9_count_54 : decode cX9_count 54 = .ok (.aload_n 0, 1) := dk_42 (dk_at dksX9_count_2 14 rfl rfl)
theorem dX9_count_55 : decode cX9_count 55 = .ok (.getfield 13, 3) := dk_180 0 13 (dk_at dksX9_count_2 15 rfl rfl)
theorem dX9_count_58 : decode cX9_count 58 = .ok (.iconst 2, 1) := dk_5 (dk_at dksX9_count_2 18 rfl rfl)
theorem dX9_count_59 : decode cX9_count 59 = .ok (.iaload, 1) := dk_46 (dk_at dksX9_count_2 19 rfl rfl)
theorem dX9_count_60 : decode cX9_count 60 = .ok (.ireturn, 1) := dk_172 (dk_at dksX9_count_2 20 rfl rfl)
theorem dX9_count_61 : decode cX9_count 61 = .ok (.aload_n 0, 1) := dk_42 (dk_at dksX9_count_2 21 rfl rfl)
theorem dX9_count_62 : decode cX9_count 62 = .ok (.getfield 13, 3) := dk_180 0 13 (dk_at dksX9_count_3 0 rfl rfl)
theorem dX9_count_65 : decode cX9_count 65 = .ok (.iconst 3, 1) := dk_6 (dk_at dksX9_count_3 3 rfl rfl)
theorem dX9_count_66 : decode cX9_count 66 = .ok (.iaload, 1) := dk_46 (dk_at dksX9_count_3 4 rfl rfl)
theorem dX9_count_67 : decode cX9_count 67 = .ok (.ireturn, 1) := dk_172 (dk_at dksX9_count_3 5 rfl rfl)
theorem dX9_count_68 : decode cX9_count 68 = .ok (.aload_n 0, 1) := dk_42 (dk_at dksX9_count_3 6 rfl rfl)
theorem dX9_count_69 : decode cX9_count 69 = .ok (.getfield 85, 3) := dk_180 0 85 (dk_at dksX9_count_3 7 rfl rfl)
theorem dX9_count_72 : decode cX9_count 72 = .ok (.ireturn, 1) := dk_172 (dk_at dksX9_count_3 10 rfl rfl)
theorem dX9_count_73 : decode cX9_count 73 = .ok (.iconst (-1), 1) := dk_2 (dk_at dksX9_count_3 11 rfl rfl)
theorem dX9_count_74 : decode cX9_count 74 = .ok (.ireturn, 1) := dk_172 (dk_at dksX9_count_3 12 rfl rfl)
theorem q106 : (Jvm.Cond.initialized "SecondHelpingsModel") ∈ lw_all := lw_g (lw_at lw_m1 13 rfl) rfl
theorem q1602 : (Jvm.Cond.instantiable "SecondHelpingsModel" (51 : Nat)) ∈ lw_all := lw_g (lw_at lw_m7 69 rfl) rfl
theorem q1604 : (Jvm.Cond.instanceMethod ({ cls := "SecondHelpingsModel", name := "<init>", desc := "()V" } : Jvm.MethodName)) ∈ lw_all := lw_g (lw_at lw_m7 71 rfl) rfl
theorem q1605 : (Jvm.Cond.code ({ cls := "SecondHelpingsModel", name := "<init>", desc := "()V" } : Jvm.MethodName) prog_25_method_1_code (1 : Nat) (Option.none : Option Jvm.ClassFile.FieldType)) ∈ lw_all := lw_g (lw_at lw_m7 72 rfl) rfl
theorem q1606 : (Jvm.Cond.methodLink "SecondHelpingsModel" (1 : Nat) ({ cls := "java/lang/Object", name := "<init>", desc := "()V" } : Jvm.MethodName)) ∈ lw_all := lw_g (lw_at lw_m7 73 rfl) rfl
theorem q1607 : (Jvm.Cond.fieldLink "SecondHelpingsModel" (82 : Nat) "SecondHelpingsModel" "thrown" "I") ∈ lw_all := lw_g (lw_at lw_m7 74 rfl) rfl
theorem q1608 : (Jvm.Cond.fieldLink "SecondHelpingsModel" (7 : Nat) "SecondHelpingsModel" "tape" "[I") ∈ lw_all := lw_g (lw_at lw_m7 75 rfl) rfl
theorem q1609 : (Jvm.Cond.fieldLink "SecondHelpingsModel" (85 : Nat) "SecondHelpingsModel" "taped" "I") ∈ lw_all := lw_g (lw_at lw_m7 76 rfl) rfl
theorem q1610 : (Jvm.Cond.fieldLink "SecondHelpingsModel" (92 : Nat) "SecondHelpingsModel" "size" "I") ∈ lw_all := lw_g (lw_at lw_m7 77 rfl) rfl
theorem q1611 : (Jvm.Cond.fieldLink "SecondHelpingsModel" (101 : Nat) "SecondHelpingsModel" "limit" "I") ∈ lw_all := lw_g (lw_at lw_m7 78 rfl) rfl
theorem q1612 : (Jvm.Cond.fieldLink "SecondHelpingsModel" (95 : Nat) "SecondHelpingsModel" "to" "I") ∈ lw_all := lw_g (lw_at lw_m7 79 rfl) rfl
theorem q1613 : (Jvm.Cond.fieldLink "SecondHelpingsModel" (98 : Nat) "SecondHelpingsModel" "from" "I") ∈ lw_all := lw_g (lw_at lw_m7 80 rfl) rfl
theorem q1614 : (Jvm.Cond.fieldLink "SecondHelpingsModel" (104 : Nat) "SecondHelpingsModel" "kind" "I") ∈ lw_all := lw_g (lw_at lw_m7 81 rfl) rfl
theorem q1615 : (Jvm.Cond.fieldLink "SecondHelpingsModel" (121 : Nat) "SecondHelpingsModel" "number" "I") ∈ lw_all := lw_g (lw_at lw_m7 82 rfl) rfl
theorem q1616 : (Jvm.Cond.fieldLink "SecondHelpingsModel" (114 : Nat) "SecondHelpingsModel" "sign" "I") ∈ lw_all := lw_g (lw_at lw_m7 83 rfl) rfl
theorem q1617 : (Jvm.Cond.fieldLink "SecondHelpingsModel" (140 : Nat) "SecondHelpingsModel" "fault" "I") ∈ lw_all := lw_g (lw_at lw_m7 84 rfl) rfl
theorem q1618 : (Jvm.Cond.fieldLink "SecondHelpingsModel" (143 : Nat) "SecondHelpingsModel" "place" "I") ∈ lw_all := lw_g (lw_at lw_m7 85 rfl) rfl
theorem q1619 : (Jvm.Cond.fieldLink "SecondHelpingsModel" (117 : Nat) "SecondHelpingsModel" "word" "J") ∈ lw_all := lw_g (lw_at lw_m7 86 rfl) rfl
theorem q1620 : (Jvm.Cond.fieldLink "SecondHelpingsModel" (153 : Nat) "SecondHelpingsModel" "told" "I") ∈ lw_all := lw_g (lw_at lw_m7 87 rfl) rfl
theorem q1621 : (Jvm.Cond.fieldLink "SecondHelpingsModel" (13 : Nat) "SecondHelpingsModel" "now" "[I") ∈ lw_all := lw_g (lw_at lw_m7 88 rfl) rfl
theorem q1622 : (Jvm.Cond.fieldLink "SecondHelpingsModel" (16 : Nat) "SecondHelpingsModel" "read" "[I") ∈ lw_all := lw_g (lw_at lw_m7 89 rfl) rfl
theorem q1623 : (Jvm.Cond.fieldLink "SecondHelpingsModel" (19 : Nat) "SecondHelpingsModel" "kept" "[I") ∈ lw_all := lw_g (lw_at lw_m7 90 rfl) rfl
theorem q1624 : (Jvm.Cond.fieldLink "SecondHelpingsModel" (22 : Nat) "SecondHelpingsModel" "snaps" "[I") ∈ lw_all := lw_g (lw_at lw_m7 91 rfl) rfl
theorem q1625 : (Jvm.Cond.fieldLink "SecondHelpingsModel" (25 : Nat) "SecondHelpingsModel" "aside" "[I") ∈ lw_all := lw_g (lw_at lw_m7 92 rfl) rfl
theorem q1626 : (Jvm.Cond.fieldLink "SecondHelpingsModel" (28 : Nat) "SecondHelpingsModel" "name" "[J") ∈ lw_all := lw_g (lw_at lw_m7 93 rfl) rfl
theorem q1627 : (Jvm.Cond.fieldLink "SecondHelpingsModel" (32 : Nat) "SecondHelpingsModel" "readName" "[J") ∈ lw_all := lw_g (lw_at lw_m7 94 rfl) rfl
theorem q1628 : (Jvm.Cond.fieldLink "SecondHelpingsModel" (35 : Nat) "SecondHelpingsModel" "keptName" "[J") ∈ lw_all := lw_g (lw_at lw_m7 95 rfl) rfl
theorem q1629 : (Jvm.Cond.fieldLink "SecondHelpingsModel" (38 : Nat) "SecondHelpingsModel" "isKept" "[Z") ∈ lw_all := lw_g (lw_at lw_m7 96 rfl) rfl
theorem q1630 : (Jvm.Cond.fieldLink "SecondHelpingsModel" (228 : Nat) "SecondHelpingsModel" "snapMany" "I") ∈ lw_all := lw_g (lw_at lw_m7 97 rfl) rfl
theorem q1631 : (Jvm.Cond.fieldLink "SecondHelpingsModel" (197 : Nat) "SecondHelpingsModel" "hasLaw" "Z") ∈ lw_all := lw_g (lw_at lw_m7 98 rfl) rfl
theorem q1632 : (Jvm.Cond.fieldLink "SecondHelpingsModel" (213 : Nat) "SecondHelpingsModel" "hasDogs" "Z") ∈ lw_all := lw_g (lw_at lw_m7 99 rfl) rfl
theorem q1633 : (Jvm.Cond.fieldLink "SecondHelpingsModel" (42 : Nat) "SecondHelpingsModel" "order" "[I") ∈ lw_all := lw_g (lw_at lw_m7 100 rfl) rfl
theorem q1634 : (Jvm.Cond.fieldLink "SecondHelpingsModel" (45 : Nat) "SecondHelpingsModel" "ordered" "[I") ∈ lw_all := lw_g (lw_at lw_m7 101 rfl) rfl
theorem q1635 : (Jvm.Cond.fieldLink "SecondHelpingsModel" (48 : Nat) "SecondHelpingsModel" "held" "[I") ∈ lw_all := lw_g (lw_at lw_m7 102 rfl) rfl
theorem q1636 : (Jvm.Cond.fieldLink "SecondHelpingsModel" (315 : Nat) "SecondHelpingsModel" "orderMany" "I") ∈ lw_all := lw_g (lw_at lw_m7 103 rfl) rfl
theorem q1637 : (Jvm.Cond.fieldLink "SecondHelpingsModel" (298 : Nat) "SecondHelpingsModel" "leastWants" "I") ∈ lw_all := lw_g (lw_at lw_m7 104 rfl) rfl
theorem q1638 : (Jvm.Cond.fieldLink "SecondHelpingsModel" (51 : Nat) "SecondHelpingsModel" "inSets" "[I") ∈ lw_all := lw_g (lw_at lw_m7 105 rfl) rfl
theorem q1639 : (Jvm.Cond.fieldLink "SecondHelpingsModel" (54 : Nat) "SecondHelpingsModel" "surely" "I") ∈ lw_all := lw_g (lw_at lw_m7 106 rfl) rfl
theorem q1640 : (Jvm.Cond.fieldLink "SecondHelpingsModel" (58 : Nat) "SecondHelpingsModel" "asked" "I") ∈ lw_all := lw_g (lw_at lw_m7 107 rfl) rfl
theorem q1641 : (Jvm.Cond.fieldLink "SecondHelpingsModel" (61 : Nat) "SecondHelpingsModel" "wins" "[Z") ∈ lw_all := lw_g (lw_at lw_m7 108 rfl) rfl
theorem q1642 : (Jvm.Cond.fieldLink "SecondHelpingsModel" (64 : Nat) "SecondHelpingsModel" "seat" "[I") ∈ lw_all := lw_g (lw_at lw_m7 109 rfl) rfl
theorem q1643 : (Jvm.Cond.fieldLink "SecondHelpingsModel" (67 : Nat) "SecondHelpingsModel" "seated" "[I") ∈ lw_all := lw_g (lw_at lw_m7 110 rfl) rfl
theorem q1644 : (Jvm.Cond.fieldLink "SecondHelpingsModel" (326 : Nat) "SecondHelpingsModel" "seatMany" "I") ∈ lw_all := lw_g (lw_at lw_m7 111 rfl) rfl
theorem q1645 : (Jvm.Cond.fieldLink "SecondHelpingsModel" (320 : Nat) "SecondHelpingsModel" "seatMost" "I") ∈ lw_all := lw_g (lw_at lw_m7 112 rfl) rfl
theorem q1646 : (Jvm.Cond.fieldLink "SecondHelpingsModel" (70 : Nat) "SecondHelpingsModel" "text" "[I") ∈ lw_all := lw_g (lw_at lw_m7 113 rfl) rfl
theorem q1647 : (Jvm.Cond.fieldLink "SecondHelpingsModel" (335 : Nat) "SecondHelpingsModel" "texts" "I") ∈ lw_all := lw_g (lw_at lw_m7 114 rfl) rfl
theorem q1648 : (Jvm.Cond.fieldLink "SecondHelpingsModel" (351 : Nat) "SecondHelpingsModel" "seed" "I") ∈ lw_all := lw_g (lw_at lw_m7 115 rfl) rfl
theorem q1649 : (Jvm.Cond.fieldLink "SecondHelpingsModel" (73 : Nat) "SecondHelpingsModel" "row" "[I") ∈ lw_all := lw_g (lw_at lw_m7 116 rfl) rfl
theorem q1650 : (Jvm.Cond.fieldLink "SecondHelpingsModel" (76 : Nat) "SecondHelpingsModel" "written" "[I") ∈ lw_all := lw_g (lw_at lw_m7 117 rfl) rfl
theorem q1651 : (Jvm.Cond.fieldLink "SecondHelpingsModel" (361 : Nat) "SecondHelpingsModel" "lineMany" "I") ∈ lw_all := lw_g (lw_at lw_m7 118 rfl) rfl
theorem q1652 : (Jvm.Cond.fieldLink "SecondHelpingsModel" (373 : Nat) "SecondHelpingsModel" "hasWritten" "Z") ∈ lw_all := lw_g (lw_at lw_m7 119 rfl) rfl
theorem q1653 : (Jvm.Cond.fieldLink "SecondHelpingsModel" (79 : Nat) "SecondHelpingsModel" "node" "[I") ∈ lw_all := lw_g (lw_at lw_m7 120 rfl) rfl
theorem q1654 : (Jvm.Cond.fieldLink "SecondHelpingsModel" (380 : Nat) "SecondHelpingsModel" "nodes" "I") ∈ lw_all := lw_g (lw_at lw_m7 121 rfl) rfl
theorem q1655 : (Jvm.Cond.fieldLink "SecondHelpingsModel" (395 : Nat) "SecondHelpingsModel" "onesMany" "I") ∈ lw_all := lw_g (lw_at lw_m7 122 rfl) rfl
theorem q1656 : (Jvm.Cond.fieldLink "SecondHelpingsModel" (398 : Nat) "SecondHelpingsModel" "within" "I") ∈ lw_all := lw_g (lw_at lw_m7 123 rfl) rfl
theorem q1657 : (Jvm.Cond.fieldLink "SecondHelpingsModel" (386 : Nat) "SecondHelpingsModel" "top" "I") ∈ lw_all := lw_g (lw_at lw_m7 124 rfl) rfl
theorem q1658 : (Jvm.Cond.lays "SecondHelpingsModel" "SecondHelpingsModel" "thrown" "I") ∈ lw_all := lw_g (lw_at lw_m7 125 rfl) rfl
theorem q1659 : (Jvm.Cond.soleField "SecondHelpingsModel" "thrown") ∈ lw_all := lw_g (lw_at lw_m7 126 rfl) rfl
theorem q1660 : (Jvm.Cond.laysFinal "SecondHelpingsModel" "SecondHelpingsModel" "tape" "[I") ∈ lw_all := lw_g (lw_at lw_m7 127 rfl) rfl
theorem q1661 : (Jvm.Cond.soleField "SecondHelpingsModel" "tape") ∈ lw_all := lw_g (lw_at lw_m7 128 rfl) rfl
theorem q1662 : (Jvm.Cond.lays "SecondHelpingsModel" "SecondHelpingsModel" "taped" "I") ∈ lw_all := lw_g (lw_at lw_m7 129 rfl) rfl
theorem q1663 : (Jvm.Cond.soleField "SecondHelpingsModel" "taped") ∈ lw_all := lw_g (lw_at lw_m7 130 rfl) rfl
theorem q1664 : (Jvm.Cond.lays "SecondHelpingsModel" "SecondHelpingsModel" "size" "I") ∈ lw_all := lw_g (lw_at lw_m7 131 rfl) rfl
theorem q1665 : (Jvm.Cond.soleField "SecondHelpingsModel" "size") ∈ lw_all := lw_g (lw_at lw_m7 132 rfl) rfl
theorem q1666 : (Jvm.Cond.lays "SecondHelpingsModel" "SecondHelpingsModel" "limit" "I") ∈ lw_all := lw_g (lw_at lw_m7 133 rfl) rfl
theorem q1667 : (Jvm.Cond.soleField "SecondHelpingsModel" "limit") ∈ lw_all := lw_g (lw_at lw_m7 134 rfl) rfl
theorem q1668 : (Jvm.Cond.lays "SecondHelpingsModel" "SecondHelpingsModel" "to" "I") ∈ lw_all := lw_g (lw_at lw_m7 135 rfl) rfl
theorem q1669 : (Jvm.Cond.soleField "SecondHelpingsModel" "to") ∈ lw_all := lw_g (lw_at lw_m7 136 rfl) rfl
theorem q1670 : (Jvm.Cond.lays "SecondHelpingsModel" "SecondHelpingsModel" "from" "I") ∈ lw_all := lw_g (lw_at lw_m7 137 rfl) rfl
theorem q1671 : (Jvm.Cond.soleField "SecondHelpingsModel" "from") ∈ lw_all := lw_g (lw_at lw_m7 138 rfl) rfl
theorem q1672 : (Jvm.Cond.lays "SecondHelpingsModel" "SecondHelpingsModel" "kind" "I") ∈ lw_all := lw_g (lw_at lw_m7 139 rfl) rfl
theorem q1673 : (Jvm.Cond.soleField "SecondHelpingsModel" "kind") ∈ lw_all := lw_g (lw_at lw_m7 140 rfl) rfl
theorem q1674 : (Jvm.Cond.lays "SecondHelpingsModel" "SecondHelpingsModel" "number" "I") ∈ lw_all := lw_g (lw_at lw_m7 141 rfl) rfl
theorem q1675 : (Jvm.Cond.soleField "SecondHelpingsModel" "number") ∈ lw_all := lw_g (lw_at lw_m7 142 rfl) rfl
theorem q1676 : (Jvm.Cond.lays "SecondHelpingsModel" "SecondHelpingsModel" "sign" "I") ∈ lw_all := lw_g (lw_at lw_m7 143 rfl) rfl
theorem q1677 : (Jvm.Cond.soleField "SecondHelpingsModel" "sign") ∈ lw_all := lw_g (lw_at lw_m7 144 rfl) rfl
theorem q1678 : (Jvm.Cond.lays "SecondHelpingsModel" "SecondHelpingsModel" "fault" "I") ∈ lw_all := lw_g (lw_at lw_m7 145 rfl) rfl
theorem q1679 : (Jvm.Cond.soleField "SecondHelpingsModel" "fault") ∈ lw_all := lw_g (lw_at lw_m7 146 rfl) rfl
theorem q1680 : (Jvm.Cond.lays "SecondHelpingsModel" "SecondHelpingsModel" "place" "I") ∈ lw_all := lw_g (lw_at lw_m7 147 rfl) rfl
theorem q1681 : (Jvm.Cond.soleField "SecondHelpingsModel" "place") ∈ lw_all := lw_g (lw_at lw_m7 148 rfl) rfl
theorem q1682 : (Jvm.Cond.lays "SecondHelpingsModel" "SecondHelpingsModel" "word" "J") ∈ lw_all := lw_g (lw_at lw_m7 149 rfl) rfl
theorem q1683 : (Jvm.Cond.soleField "SecondHelpingsModel" "word") ∈ lw_all := lw_g (lw_at lw_m7 150 rfl) rfl
theorem q1684 : (Jvm.Cond.lays "SecondHelpingsModel" "SecondHelpingsModel" "told" "I") ∈ lw_all := lw_g (lw_at lw_m7 151 rfl) rfl
theorem q1685 : (Jvm.Cond.soleField "SecondHelpingsModel" "told") ∈ lw_all := lw_g (lw_at lw_m7 152 rfl) rfl
theorem q1686 : (Jvm.Cond.laysFinal "SecondHelpingsModel" "SecondHelpingsModel" "now" "[I") ∈ lw_all := lw_g (lw_at lw_m7 153 rfl) rfl
theorem q1687 : (Jvm.Cond.soleField "SecondHelpingsModel" "now") ∈ lw_all := lw_g (lw_at lw_m7 154 rfl) rfl
theorem q1688 : (Jvm.Cond.laysFinal "SecondHelpingsModel" "SecondHelpingsModel" "read" "[I") ∈ lw_all := lw_g (lw_at lw_m7 155 rfl) rfl
theorem q1689 : (Jvm.Cond.soleField "SecondHelpingsModel" "read") ∈ lw_all := lw_g (lw_at lw_m7 156 rfl) rfl
theorem q1690 : (Jvm.Cond.laysFinal "SecondHelpingsModel" "SecondHelpingsModel" "kept" "[I") ∈ lw_all := lw_g (lw_at lw_m7 157 rfl) rfl
theorem q1691 : (Jvm.Cond.soleField "SecondHelpingsModel" "kept") ∈ lw_all := lw_g (lw_at lw_m7 158 rfl) rfl
theorem q1692 : (Jvm.Cond.laysFinal "SecondHelpingsModel" "SecondHelpingsModel" "snaps" "[I") ∈ lw_all := lw_g (lw_at lw_m7 159 rfl) rfl
theorem q1693 : (Jvm.Cond.soleField "SecondHelpingsModel" "snaps") ∈ lw_all := lw_g (lw_at lw_m7 160 rfl) rfl
theorem q1694 : (Jvm.Cond.laysFinal "SecondHelpingsModel" "SecondHelpingsModel" "aside" "[I") ∈ lw_all := lw_g (lw_at lw_m7 161 rfl) rfl
theorem q1695 : (Jvm.Cond.soleField "SecondHelpingsModel" "aside") ∈ lw_all := lw_g (lw_at lw_m7 162 rfl) rfl
theorem q1696 : (Jvm.Cond.laysFinal "SecondHelpingsModel" "SecondHelpingsModel" "name" "[J") ∈ lw_all := lw_g (lw_at lw_m7 163 rfl) rfl
theorem q1697 : (Jvm.Cond.soleField "SecondHelpingsModel" "name") ∈ lw_all := lw_g (lw_at lw_m7 164 rfl) rfl
theorem q1698 : (Jvm.Cond.laysFinal "SecondHelpingsModel" "SecondHelpingsModel" "readName" "[J") ∈ lw_all := lw_g (lw_at lw_m7 165 rfl) rfl
theorem q1699 : (Jvm.Cond.soleField "SecondHelpingsModel" "readName") ∈ lw_all := lw_g (lw_at lw_m7 166 rfl) rfl
theorem q1700 : (Jvm.Cond.laysFinal "SecondHelpingsModel" "SecondHelpingsModel" "keptName" "[J") ∈ lw_all := lw_g (lw_at lw_m7 167 rfl) rfl
theorem q1701 : (Jvm.Cond.soleField "SecondHelpingsModel" "keptName") ∈ lw_all := lw_g (lw_at lw_m7 168 rfl) rfl
theorem q1702 : (Jvm.Cond.laysFinal "SecondHelpingsModel" "SecondHelpingsModel" "isKept" "[Z") ∈ lw_all := lw_g (lw_at lw_m7 169 rfl) rfl
theorem q1703 : (Jvm.Cond.soleField "SecondHelpingsModel" "isKept") ∈ lw_all := lw_g (lw_at lw_m7 170 rfl) rfl
theorem q1704 : (Jvm.Cond.lays "SecondHelpingsModel" "SecondHelpingsModel" "snapMany" "I") ∈ lw_all := lw_g (lw_at lw_m7 171 rfl) rfl
theorem q1705 : (Jvm.Cond.soleField "SecondHelpingsModel" "snapMany") ∈ lw_all := lw_g (lw_at lw_m7 172 rfl) rfl
theorem q1706 : (Jvm.Cond.lays "SecondHelpingsModel" "SecondHelpingsModel" "hasLaw" "Z") ∈ lw_all := lw_g (lw_at lw_m7 173 rfl) rfl
theorem q1707 : (Jvm.Cond.soleField "SecondHelpingsModel" "hasLaw") ∈ lw_all := lw_g (lw_at lw_m7 174 rfl) rfl
theorem q1708 : (Jvm.Cond.lays "SecondHelpingsModel" "SecondHelpingsModel" "hasDogs" "Z") ∈ lw_all := lw_g (lw_at lw_m7 175 rfl) rfl
theorem q1709 : (Jvm.Cond.soleField "SecondHelpingsModel" "hasDogs") ∈ lw_all := lw_g (lw_at lw_m7 176 rfl) rfl
theorem q1710 : (Jvm.Cond.laysFinal "SecondHelpingsModel" "SecondHelpingsModel" "order" "[I") ∈ lw_all := lw_g (lw_at lw_m7 177 rfl) rfl
theorem q1711 : (Jvm.Cond.soleField "SecondHelpingsModel" "order") ∈ lw_all := lw_g (lw_at lw_m7 178 rfl) rfl
theorem q1712 : (Jvm.Cond.laysFinal "SecondHelpingsModel" "SecondHelpingsModel" "ordered" "[I") ∈ lw_all := lw_g (lw_at lw_m7 179 rfl) rfl
theorem q1713 : (Jvm.Cond.soleField "SecondHelpingsModel" "ordered") ∈ lw_all := lw_g (lw_at lw_m7 180 rfl) rfl
theorem q1714 : (Jvm.Cond.laysFinal "SecondHelpingsModel" "SecondHelpingsModel" "held" "[I") ∈ lw_all := lw_g (lw_at lw_m7 181 rfl) rfl
theorem q1715 : (Jvm.Cond.soleField "SecondHelpingsModel" "held") ∈ lw_all := lw_g (lw_at lw_m7 182 rfl) rfl
theorem q1716 : (Jvm.Cond.lays "SecondHelpingsModel" "SecondHelpingsModel" "orderMany" "I") ∈ lw_all := lw_g (lw_at lw_m7 183 rfl) rfl
theorem q1717 : (Jvm.Cond.soleField "SecondHelpingsModel" "orderMany") ∈ lw_all := lw_g (lw_at lw_m7 184 rfl) rfl
theorem q1718 : (Jvm.Cond.lays "SecondHelpingsModel" "SecondHelpingsModel" "leastWants" "I") ∈ lw_all := lw_g (lw_at lw_m7 185 rfl) rfl
theorem q1719 : (Jvm.Cond.soleField "SecondHelpingsModel" "leastWants") ∈ lw_all := lw_g (lw_at lw_m7 186 rfl) rfl
theorem q1720 : (Jvm.Cond.laysFinal "SecondHelpingsModel" "SecondHelpingsModel" "inSets" "[I") ∈ lw_all := lw_g (lw_at lw_m7 187 rfl) rfl
theorem q1721 : (Jvm.Cond.soleField "SecondHelpingsModel" "inSets") ∈ lw_all := lw_g (lw_at lw_m7 188 rfl) rfl
theorem q1722 : (Jvm.Cond.lays "SecondHelpingsModel" "SecondHelpingsModel" "surely" "I") ∈ lw_all := lw_g (lw_at lw_m7 189 rfl) rfl
theorem q1723 : (Jvm.Cond.soleField "SecondHelpingsModel" "surely") ∈ lw_all := lw_g (lw_at lw_m7 190 rfl) rfl
theorem q1724 : (Jvm.Cond.lays "SecondHelpingsModel" "SecondHelpingsModel" "asked" "I") ∈ lw_all := lw_g (lw_at lw_m7 191 rfl) rfl
theorem q1725 : (Jvm.Cond.soleField "SecondHelpingsModel" "asked") ∈ lw_all := lw_g (lw_at lw_m7 192 rfl) rfl
theorem q1726 : (Jvm.Cond.laysFinal "SecondHelpingsModel" "SecondHelpingsModel" "wins" "[Z") ∈ lw_all := lw_g (lw_at lw_m7 193 rfl) rfl
theorem q1727 : (Jvm.Cond.soleField "SecondHelpingsModel" "wins") ∈ lw_all := lw_g (lw_at lw_m7 194 rfl) rfl
theorem q1728 : (Jvm.Cond.laysFinal "SecondHelpingsModel" "SecondHelpingsModel" "seat" "[I") ∈ lw_all := lw_g (lw_at lw_m7 195 rfl) rfl
theorem q1729 : (Jvm.Cond.soleField "SecondHelpingsModel" "seat") ∈ lw_all := lw_g (lw_at lw_m7 196 rfl) rfl
theorem q1730 : (Jvm.Cond.laysFinal "SecondHelpingsModel" "SecondHelpingsModel" "seated" "[I") ∈ lw_all := lw_g (lw_at lw_m7 197 rfl) rfl
theorem q1731 : (Jvm.Cond.soleField "SecondHelpingsModel" "seated") ∈ lw_all := lw_g (lw_at lw_m7 198 rfl) rfl
theorem q1732 : (Jvm.Cond.lays "SecondHelpingsModel" "SecondHelpingsModel" "seatMany" "I") ∈ lw_all := lw_g (lw_at lw_m7 199 rfl) rfl
theorem q1733 : (Jvm.Cond.soleField "SecondHelpingsModel" "seatMany") ∈ lw_all := lw_g (lw_at lw_m7 200 rfl) rfl
theorem q1734 : (Jvm.Cond.lays "SecondHelpingsModel" "SecondHelpingsModel" "seatMost" "I") ∈ lw_all := lw_g (lw_at lw_m7 201 rfl) rfl
theorem q1735 : (Jvm.Cond.soleField "SecondHelpingsModel" "seatMost") ∈ lw_all := lw_g (lw_at lw_m7 202 rfl) rfl
theorem q1736 : (Jvm.Cond.laysFinal "SecondHelpingsModel" "SecondHelpingsModel" "text" "[I") ∈ lw_all := lw_g (lw_at lw_m7 203 rfl) rfl
theorem q1737 : (Jvm.Cond.soleField "SecondHelpingsModel" "text") ∈ lw_all := lw_g (lw_at lw_m7 204 rfl) rfl
theorem q1738 : (Jvm.Cond.lays "SecondHelpingsModel" "SecondHelpingsModel" "texts" "I") ∈ lw_all := lw_g (lw_at lw_m7 205 rfl) rfl
theorem q1739 : (Jvm.Cond.soleField "SecondHelpingsModel" "texts") ∈ lw_all := lw_g (lw_at lw_m7 206 rfl) rfl
theorem q1740 : (Jvm.Cond.lays "SecondHelpingsModel" "SecondHelpingsModel" "seed" "I") ∈ lw_all := lw_g (lw_at lw_m7 207 rfl) rfl
theorem q1741 : (Jvm.Cond.soleField "SecondHelpingsModel" "seed") ∈ lw_all := lw_g (lw_at lw_m7 208 rfl) rfl
theorem q1742 : (Jvm.Cond.laysFinal "SecondHelpingsModel" "SecondHelpingsModel" "row" "[I") ∈ lw_all := lw_g (lw_at lw_m7 209 rfl) rfl
theorem q1743 : (Jvm.Cond.soleField "SecondHelpingsModel" "row") ∈ lw_all := lw_g (lw_at lw_m7 210 rfl) rfl
theorem q1744 : (Jvm.Cond.laysFinal "SecondHelpingsModel" "SecondHelpingsModel" "written" "[I") ∈ lw_all := lw_g (lw_at lw_m7 211 rfl) rfl
theorem q1745 : (Jvm.Cond.soleField "SecondHelpingsModel" "written") ∈ lw_all := lw_g (lw_at lw_m7 212 rfl) rfl
theorem q1746 : (Jvm.Cond.lays "SecondHelpingsModel" "SecondHelpingsModel" "lineMany" "I") ∈ lw_all := lw_g (lw_at lw_m7 213 rfl) rfl
theorem q1747 : (Jvm.Cond.soleField "SecondHelpingsModel" "lineMany") ∈ lw_all := lw_g (lw_at lw_m7 214 rfl) rfl
theorem q1748 : (Jvm.Cond.lays "SecondHelpingsModel" "SecondHelpingsModel" "hasWritten" "Z") ∈ lw_all := lw_g (lw_at lw_m7 215 rfl) rfl
theorem q1749 : (Jvm.Cond.soleField "SecondHelpingsModel" "hasWritten") ∈ lw_all := lw_g (lw_at lw_m7 216 rfl) rfl
theorem q1750 : (Jvm.Cond.laysFinal "SecondHelpingsModel" "SecondHelpingsModel" "node" "[I") ∈ lw_all := lw_g (lw_at lw_m7 217 rfl) rfl
theorem q1751 : (Jvm.Cond.soleField "SecondHelpingsModel" "node") ∈ lw_all := lw_g (lw_at lw_m7 218 rfl) rfl
theorem q1752 : (Jvm.Cond.lays "SecondHelpingsModel" "SecondHelpingsModel" "nodes" "I") ∈ lw_all := lw_g (lw_at lw_m7 219 rfl) rfl
theorem q1753 : (Jvm.Cond.soleField "SecondHelpingsModel" "nodes") ∈ lw_all := lw_g (lw_at lw_m7 220 rfl) rfl
theorem q1754 : (Jvm.Cond.lays "SecondHelpingsModel" "SecondHelpingsModel" "onesMany" "I") ∈ lw_all := lw_g (lw_at lw_m7 221 rfl) rfl
theorem q1755 : (Jvm.Cond.soleField "SecondHelpingsModel" "onesMany") ∈ lw_all := lw_g (lw_at lw_m7 222 rfl) rfl
theorem q1756 : (Jvm.Cond.lays "SecondHelpingsModel" "SecondHelpingsModel" "within" "I") ∈ lw_all := lw_g (lw_at lw_m7 223 rfl) rfl
theorem q1757 : (Jvm.Cond.soleField "SecondHelpingsModel" "within") ∈ lw_all := lw_g (lw_at lw_m7 224 rfl) rfl
theorem q1758 : (Jvm.Cond.lays "SecondHelpingsModel" "SecondHelpingsModel" "top" "I") ∈ lw_all := lw_g (lw_at lw_m7 225 rfl) rfl
theorem q1759 : (Jvm.Cond.soleField "SecondHelpingsModel" "top") ∈ lw_all := lw_g (lw_at lw_m7 226 rfl) rfl
theorem q1760 : (Jvm.Cond.superclass "SecondHelpingsModel" "java/lang/Object") ∈ lw_all := lw_g (lw_at lw_m7 227 rfl) rfl
theorem q1763 : (Jvm.Cond.instanceMethod ({ cls := "SecondHelpingsModel", name := "thrown", desc := "()I" } : Jvm.MethodName)) ∈ lw_all := lw_g (lw_at lw_m7 230 rfl) rfl
theorem q1764 : (Jvm.Cond.selects "SecondHelpingsModel" ({ cls := "SecondHelpingsModel", name := "thrown", desc := "()I" } : Jvm.MethodName) ({ cls := "SecondHelpingsModel", name := "thrown", desc := "()I" } : Jvm.MethodName)) ∈ lw_all := lw_g (lw_at lw_m7 231 rfl) rfl
theorem q1765 : (Jvm.Cond.code ({ cls := "SecondHelpingsModel", name := "thrown", desc := "()I" } : Jvm.MethodName) prog_25_method_2_code (1 : Nat) (Option.some Jvm.ClassFile.FieldType.int)) ∈ lw_all := lw_g (lw_at lw_m7 232 rfl) rfl
theorem q1767 : (Jvm.Cond.instanceMethod ({ cls := "SecondHelpingsModel", name := "feed", desc := "(IIIII)I" } : Jvm.MethodName)) ∈ lw_all := lw_g (lw_at lw_m7 234 rfl) rfl
theorem q1768 : (Jvm.Cond.selects "SecondHelpingsModel" ({ cls := "SecondHelpingsModel", name := "feed", desc := "(IIIII)I" } : Jvm.MethodName) ({ cls := "SecondHelpingsModel", name := "feed", desc := "(IIIII)I" } : Jvm.MethodName)) ∈ lw_all := lw_g (lw_at lw_m7 235 rfl) rfl
theorem q1769 : (Jvm.Cond.code ({ cls := "SecondHelpingsModel", name := "feed", desc := "(IIIII)I" } : Jvm.MethodName) prog_25_method_5_code (6 : Nat) (Option.some Jvm.ClassFile.FieldType.int)) ∈ lw_all := lw_g (lw_at lw_m7 236 rfl) rfl
theorem q1770 : (Jvm.Cond.methodLink "SecondHelpingsModel" (88 : Nat) ({ cls := "SecondHelpingsModel", name := "come", desc := "(I)V" } : Jvm.MethodName)) ∈ lw_all := lw_g (lw_at lw_m7 237 rfl) rfl
theorem q1771 : (Jvm.Cond.privateMethod ({ cls := "SecondHelpingsModel", name := "come", desc := "(I)V" } : Jvm.MethodName)) ∈ lw_tbl := lw_at lw_m7 238 rfl
theorem q1772 : (Jvm.Cond.instanceMethod ({ cls := "SecondHelpingsModel", name := "come", desc := "(I)V" } : Jvm.MethodName)) ∈ lw_all := lw_g (lw_at lw_m7 239 rfl) rfl
theorem q1773 : (Jvm.Cond.code ({ cls := "SecondHelpingsModel", name := "come", desc := "(I)V" } : Jvm.MethodName) prog_25_method_4_code (3 : Nat) (Option.none : Option Jvm.ClassFile.FieldType)) ∈ lw_all := lw_g (lw_at lw_m8 0 rfl) rfl
theorem q1775 : (Jvm.Cond.instanceMethod ({ cls := "SecondHelpingsModel", name := "end", desc := "(I)Z" } : Jvm.MethodName)) ∈ lw_all := lw_g (lw_at lw_m8 2 rfl) rfl
theorem q1776 : (Jvm.Cond.selects "SecondHelpingsModel" ({ cls := "SecondHelpingsModel", name := "end", desc := "(I)Z" } : Jvm.MethodName) ({ cls := "SecondHelpingsModel", name := "end", desc := "(I)Z" } : Jvm.MethodName)) ∈ lw_all := lw_g (lw_at lw_m8 3 rfl) rfl
theorem q1777 : (Jvm.Cond.code ({ cls := "SecondHelpingsModel", name := "end", desc := "(I)Z" } : Jvm.MethodName) prog_25_method_6_code (2 : Nat) (Option.some Jvm.ClassFile.FieldType.boolean)) ∈ lw_all := lw_g (lw_at lw_m8 4 rfl) rfl
theorem q1779 : (Jvm.Cond.instanceMethod ({ cls := "SecondHelpingsModel", name := "table", desc := "()I" } : Jvm.MethodName)) ∈ lw_all := lw_g (lw_at lw_m8 6 rfl) rfl
theorem q1780 : (Jvm.Cond.selects "SecondHelpingsModel" ({ cls := "SecondHelpingsModel", name := "table", desc := "()I" } : Jvm.MethodName) ({ cls := "SecondHelpingsModel", name := "table", desc := "()I" } : Jvm.MethodName)) ∈ lw_all := lw_g (lw_at lw_m8 7 rfl) rfl
theorem q1781 : (Jvm.Cond.code ({ cls := "SecondHelpingsModel", name := "table", desc := "()I" } : Jvm.MethodName) prog_25_method_39_code (3 : Nat) (Option.some Jvm.ClassFile.FieldType.int)) ∈ lw_all := lw_g (lw_at lw_m8 8 rfl) rfl
theorem q1782 : (Jvm.Cond.methodLink "SecondHelpingsModel" (216 : Nat) ({ cls := "SecondHelpingsModel", name := "begin", desc := "(I)V" } : Jvm.MethodName)) ∈ lw_all := lw_g (lw_at lw_m8 9 rfl) rfl
theorem q1783 : (Jvm.Cond.privateMethod ({ cls := "SecondHelpingsModel", name := "begin", desc := "(I)V" } : Jvm.MethodName)) ∈ lw_tbl := lw_at lw_m8 10 rfl
theorem q1784 : (Jvm.Cond.instanceMethod ({ cls := "SecondHelpingsModel", name := "begin", desc := "(I)V" } : Jvm.MethodName)) ∈ lw_all := lw_g (lw_at lw_m8 11 rfl) rfl
theorem q1785 : (Jvm.Cond.code ({ cls := "SecondHelpingsModel", name := "begin", desc := "(I)V" } : Jvm.MethodName) prog_25_method_26_code (2 : Nat) (Option.none : Option Jvm.ClassFile.FieldType)) ∈ lw_all := lw_g (lw_at lw_m8 12 rfl) rfl
theorem q1786 : (Jvm.Cond.methodLink "SecondHelpingsModel" (162 : Nat) ({ cls := "SecondHelpingsModel", name := "take", desc := "()I" } : Jvm.MethodName)) ∈ lw_all := lw_g (lw_at lw_m8 13 rfl) rfl
theorem q1787 : (Jvm.Cond.privateMethod ({ cls := "SecondHelpingsModel", name := "take", desc := "()I" } : Jvm.MethodName)) ∈ lw_tbl := lw_at lw_m8 14 rfl
theorem q1788 : (Jvm.Cond.instanceMethod ({ cls := "SecondHelpingsModel", name := "take", desc := "()I" } : Jvm.MethodName)) ∈ lw_all := lw_g (lw_at lw_m8 15 rfl) rfl
theorem q1789 : (Jvm.Cond.code ({ cls := "SecondHelpingsModel", name := "take", desc := "()I" } : Jvm.MethodName) prog_25_method_7_code (2 : Nat) (Option.some Jvm.ClassFile.FieldType.int)) ∈ lw_all := lw_g (lw_at lw_m8 16 rfl) rfl
theorem q1790 : (Jvm.Cond.methodLink "SecondHelpingsModel" (156 : Nat) ({ cls := "SecondHelpingsModel", name := "go", desc := "()V" } : Jvm.MethodName)) ∈ lw_all := lw_g (lw_at lw_m8 17 rfl) rfl
theorem q1791 : (Jvm.Cond.privateMethod ({ cls := "SecondHelpingsModel", name := "go", desc := "()V" } : Jvm.MethodName)) ∈ lw_tbl := lw_at lw_m8 18 rfl
theorem q1792 : (Jvm.Cond.instanceMethod ({ cls := "SecondHelpingsModel", name := "go", desc := "()V" } : Jvm.MethodName)) ∈ lw_all := lw_g (lw_at lw_m8 19 rfl) rfl
theorem q1793 : (Jvm.Cond.code ({ cls := "SecondHelpingsModel", name := "go", desc := "()V" } : Jvm.MethodName) prog_25_method_17_code (5 : Nat) (Option.none : Option Jvm.ClassFile.FieldType)) ∈ lw_all := lw_g (lw_at lw_m8 20 rfl) rfl
theorem q1794 : (Jvm.Cond.methodLink "SecondHelpingsModel" (107 : Nat) ({ cls := "SecondHelpingsModel", name := "isLetter", desc := "(I)Z" } : Jvm.MethodName)) ∈ lw_all := lw_g (lw_at lw_m8 21 rfl) rfl
theorem q1795 : (Jvm.Cond.static ({ cls := "SecondHelpingsModel", name := "isLetter", desc := "(I)Z" } : Jvm.MethodName)) ∈ lw_all := lw_g (lw_at lw_m8 22 rfl) rfl
theorem q1796 : (Jvm.Cond.code ({ cls := "SecondHelpingsModel", name := "isLetter", desc := "(I)Z" } : Jvm.MethodName) prog_25_method_16_code (1 : Nat) (Option.some Jvm.ClassFile.FieldType.boolean)) ∈ lw_all := lw_g (lw_at lw_m8 23 rfl) rfl
theorem q1797 : (Jvm.Cond.methodLink "SecondHelpingsModel" (111 : Nat) ({ cls := "SecondHelpingsModel", name := "isDigit", desc := "(I)Z" } : Jvm.MethodName)) ∈ lw_all := lw_g (lw_at lw_m8 24 rfl) rfl
theorem q1798 : (Jvm.Cond.static ({ cls := "SecondHelpingsModel", name := "isDigit", desc := "(I)Z" } : Jvm.MethodName)) ∈ lw_all := lw_g (lw_at lw_m8 25 rfl) rfl
theorem q1799 : (Jvm.Cond.code ({ cls := "SecondHelpingsModel", name := "isDigit", desc := "(I)Z" } : Jvm.MethodName) prog_25_method_15_code (1 : Nat) (Option.some Jvm.ClassFile.FieldType.boolean)) ∈ lw_all := lw_g (lw_at lw_m8 26 rfl) rfl
theorem q1800 : (Jvm.Cond.methodLink "SecondHelpingsModel" (124 : Nat) ({ cls := "SecondHelpingsModel", name := "tapeAt", desc := "(I)I" } : Jvm.MethodName)) ∈ lw_all := lw_g (lw_at lw_m8 27 rfl) rfl
theorem q1801 : (Jvm.Cond.privateMethod ({ cls := "SecondHelpingsModel", name := "tapeAt", desc := "(I)I" } : Jvm.MethodName)) ∈ lw_tbl := lw_at lw_m8 28 rfl
theorem q1802 : (Jvm.Cond.instanceMethod ({ cls := "SecondHelpingsModel", name := "tapeAt", desc := "(I)I" } : Jvm.MethodName)) ∈ lw_all := lw_g (lw_at lw_m8 29 rfl) rfl
theorem q1803 : (Jvm.Cond.code ({ cls := "SecondHelpingsModel", name := "tapeAt", desc := "(I)I" } : Jvm.MethodName) prog_25_method_14_code (2 : Nat) (Option.some Jvm.ClassFile.FieldType.int)) ∈ lw_all := lw_g (lw_at lw_m8 30 rfl) rfl
theorem q1804 : (Jvm.Cond.constantLong "SecondHelpingsModel" (128 : Nat) (27 : Int64)) ∈ lw_all := lw_g (lw_at lw_m8 31 rfl) rfl
theorem q1805 : (Jvm.Cond.constantLong "SecondHelpingsModel" (130 : Nat) (96 : Int64)) ∈ lw_all := lw_g (lw_at lw_m8 32 rfl) rfl
theorem q1806 : (Jvm.Cond.methodLink "SecondHelpingsModel" (219 : Nat) ({ cls := "SecondHelpingsModel", name := "readLine", desc := "()Z" } : Jvm.MethodName)) ∈ lw_all := lw_g (lw_at lw_m8 33 rfl) rfl
theorem q1807 : (Jvm.Cond.privateMethod ({ cls := "SecondHelpingsModel", name := "readLine", desc := "()Z" } : Jvm.MethodName)) ∈ lw_tbl := lw_at lw_m8 34 rfl
theorem q1808 : (Jvm.Cond.instanceMethod ({ cls := "SecondHelpingsModel", name := "readLine", desc := "()Z" } : Jvm.MethodName)) ∈ lw_all := lw_g (lw_at lw_m8 35 rfl) rfl
theorem q1809 : (Jvm.Cond.code ({ cls := "SecondHelpingsModel", name := "readLine", desc := "()Z" } : Jvm.MethodName) prog_25_method_38_code (1 : Nat) (Option.some Jvm.ClassFile.FieldType.boolean)) ∈ lw_all := lw_g (lw_at lw_m8 36 rfl) rfl
theorem q1810 : (Jvm.Cond.methodLink "SecondHelpingsModel" (191 : Nat) ({ cls := "SecondHelpingsModel", name := "isWord", desc := "(I)Z" } : Jvm.MethodName)) ∈ lw_all := lw_g (lw_at lw_m8 37 rfl) rfl
theorem q1811 : (Jvm.Cond.privateMethod ({ cls := "SecondHelpingsModel", name := "isWord", desc := "(I)Z" } : Jvm.MethodName)) ∈ lw_tbl := lw_at lw_m8 38 rfl
theorem q1812 : (Jvm.Cond.instanceMethod ({ cls := "SecondHelpingsModel", name := "isWord", desc := "(I)Z" } : Jvm.MethodName)) ∈ lw_all := lw_g (lw_at lw_m8 39 rfl) rfl
theorem q1813 : (Jvm.Cond.code ({ cls := "SecondHelpingsModel", name := "isWord", desc := "(I)Z" } : Jvm.MethodName) prog_25_method_20_code (2 : Nat) (Option.some Jvm.ClassFile.FieldType.boolean)) ∈ lw_all := lw_g (lw_at lw_m8 40 rfl) rfl
theorem q1814 : (Jvm.Cond.methodLink "SecondHelpingsModel" (136 : Nat) ({ cls := "SecondHelpingsModel", name := "wordOf", desc := "(I)J" } : Jvm.MethodName)) ∈ lw_all := lw_g (lw_at lw_m8 41 rfl) rfl
theorem q1815 : (Jvm.Cond.static ({ cls := "SecondHelpingsModel", name := "wordOf", desc := "(I)J" } : Jvm.MethodName)) ∈ lw_all := lw_g (lw_at lw_m8 42 rfl) rfl
theorem q1816 : (Jvm.Cond.code ({ cls := "SecondHelpingsModel", name := "wordOf", desc := "(I)J" } : Jvm.MethodName) prog_25_method_19_code (1 : Nat) (Option.some Jvm.ClassFile.FieldType.long)) ∈ lw_all := lw_g (lw_at lw_m8 43 rfl) rfl
theorem q1817 : (Jvm.Cond.methodLink "SecondHelpingsModel" (132 : Nat) ({ cls := "SecondHelpingsModel", name := "spelt", desc := "(IIIIIII)J" } : Jvm.MethodName)) ∈ lw_all := lw_g (lw_at lw_m8 44 rfl) rfl
theorem q1818 : (Jvm.Cond.static ({ cls := "SecondHelpingsModel", name := "spelt", desc := "(IIIIIII)J" } : Jvm.MethodName)) ∈ lw_all := lw_g (lw_at lw_m8 45 rfl) rfl
theorem q1819 : (Jvm.Cond.code ({ cls := "SecondHelpingsModel", name := "spelt", desc := "(IIIIIII)J" } : Jvm.MethodName) prog_25_method_18_code (9 : Nat) (Option.some Jvm.ClassFile.FieldType.long)) ∈ lw_all := lw_g (lw_at lw_m8 46 rfl) rfl
theorem q1820 : (Jvm.Cond.methodLink "SecondHelpingsModel" (201 : Nat) ({ cls := "SecondHelpingsModel", name := "readPerson", desc := "()Z" } : Jvm.MethodName)) ∈ lw_all := lw_g (lw_at lw_m8 47 rfl) rfl
theorem q1821 : (Jvm.Cond.privateMethod ({ cls := "SecondHelpingsModel", name := "readPerson", desc := "()Z" } : Jvm.MethodName)) ∈ lw_tbl := lw_at lw_m8 48 rfl
theorem q1822 : (Jvm.Cond.instanceMethod ({ cls := "SecondHelpingsModel", name := "readPerson", desc := "()Z" } : Jvm.MethodName)) ∈ lw_all := lw_g (lw_at lw_m8 49 rfl) rfl
theorem q1823 : (Jvm.Cond.code ({ cls := "SecondHelpingsModel", name := "readPerson", desc := "()Z" } : Jvm.MethodName) prog_25_method_34_code (2 : Nat) (Option.some Jvm.ClassFile.FieldType.boolean)) ∈ lw_all := lw_g (lw_at lw_m8 50 rfl) rfl
theorem q1824 : (Jvm.Cond.methodLink "SecondHelpingsModel" (178 : Nat) ({ cls := "SecondHelpingsModel", name := "readFirst", desc := "(II)Z" } : Jvm.MethodName)) ∈ lw_all := lw_g (lw_at lw_m8 51 rfl) rfl
theorem q1825 : (Jvm.Cond.privateMethod ({ cls := "SecondHelpingsModel", name := "readFirst", desc := "(II)Z" } : Jvm.MethodName)) ∈ lw_tbl := lw_at lw_m8 52 rfl
theorem q1826 : (Jvm.Cond.instanceMethod ({ cls := "SecondHelpingsModel", name := "readFirst", desc := "(II)Z" } : Jvm.MethodName)) ∈ lw_all := lw_g (lw_at lw_m8 53 rfl) rfl
theorem q1827 : (Jvm.Cond.code ({ cls := "SecondHelpingsModel", name := "readFirst", desc := "(II)Z" } : Jvm.MethodName) prog_25_method_32_code (3 : Nat) (Option.some Jvm.ClassFile.FieldType.boolean)) ∈ lw_all := lw_g (lw_at lw_m8 54 rfl) rfl
theorem q1828 : (Jvm.Cond.methodLink "SecondHelpingsModel" (146 : Nat) ({ cls := "SecondHelpingsModel", name := "bad", desc := "(I)Z" } : Jvm.MethodName)) ∈ lw_all := lw_g (lw_at lw_m8 55 rfl) rfl
theorem q1829 : (Jvm.Cond.privateMethod ({ cls := "SecondHelpingsModel", name := "bad", desc := "(I)Z" } : Jvm.MethodName)) ∈ lw_tbl := lw_at lw_m8 56 rfl
theorem q1830 : (Jvm.Cond.instanceMethod ({ cls := "SecondHelpingsModel", name := "bad", desc := "(I)Z" } : Jvm.MethodName)) ∈ lw_all := lw_g (lw_at lw_m8 57 rfl) rfl
theorem q1831 : (Jvm.Cond.code ({ cls := "SecondHelpingsModel", name := "bad", desc := "(I)Z" } : Jvm.MethodName) prog_25_method_23_code (2 : Nat) (Option.some Jvm.ClassFile.FieldType.boolean)) ∈ lw_all := lw_g (lw_at lw_m8 58 rfl) rfl
theorem q1832 : (Jvm.Cond.methodLink "SecondHelpingsModel" (181 : Nat) ({ cls := "SecondHelpingsModel", name := "readNew", desc := "(I)Z" } : Jvm.MethodName)) ∈ lw_all := lw_g (lw_at lw_m8 59 rfl) rfl
theorem q1833 : (Jvm.Cond.privateMethod ({ cls := "SecondHelpingsModel", name := "readNew", desc := "(I)Z" } : Jvm.MethodName)) ∈ lw_tbl := lw_at lw_m8 60 rfl
theorem q1834 : (Jvm.Cond.instanceMethod ({ cls := "SecondHelpingsModel", name := "readNew", desc := "(I)Z" } : Jvm.MethodName)) ∈ lw_all := lw_g (lw_at lw_m8 61 rfl) rfl
theorem q1835 : (Jvm.Cond.code ({ cls := "SecondHelpingsModel", name := "readNew", desc := "(I)Z" } : Jvm.MethodName) prog_25_method_29_code (2 : Nat) (Option.some Jvm.ClassFile.FieldType.boolean)) ∈ lw_all := lw_g (lw_at lw_m8 62 rfl) rfl
theorem q1836 : (Jvm.Cond.methodLink "SecondHelpingsModel" (166 : Nat) ({ cls := "SecondHelpingsModel", name := "isName", desc := "()Z" } : Jvm.MethodName)) ∈ lw_all := lw_g (lw_at lw_m8 63 rfl) rfl
theorem q1837 : (Jvm.Cond.privateMethod ({ cls := "SecondHelpingsModel", name := "isName", desc := "()Z" } : Jvm.MethodName)) ∈ lw_tbl := lw_at lw_m8 64 rfl
theorem q1838 : (Jvm.Cond.instanceMethod ({ cls := "SecondHelpingsModel", name := "isName", desc := "()Z" } : Jvm.MethodName)) ∈ lw_all := lw_g (lw_at lw_m8 65 rfl) rfl
theorem q1839 : (Jvm.Cond.code ({ cls := "SecondHelpingsModel", name := "isName", desc := "()Z" } : Jvm.MethodName) prog_25_method_22_code (2 : Nat) (Option.some Jvm.ClassFile.FieldType.boolean)) ∈ lw_all := lw_g (lw_at lw_m8 66 rfl) rfl
theorem q1840 : (Jvm.Cond.methodLink "SecondHelpingsModel" (170 : Nat) ({ cls := "SecondHelpingsModel", name := "findIn", desc := "([JIIJ)I" } : Jvm.MethodName)) ∈ lw_all := lw_g (lw_at lw_m8 67 rfl) rfl
theorem q1841 : (Jvm.Cond.static ({ cls := "SecondHelpingsModel", name := "findIn", desc := "([JIIJ)I" } : Jvm.MethodName)) ∈ lw_all := lw_g (lw_at lw_m8 68 rfl) rfl
theorem q1842 : (Jvm.Cond.code ({ cls := "SecondHelpingsModel", name := "findIn", desc := "([JIIJ)I" } : Jvm.MethodName) prog_25_method_28_code (6 : Nat) (Option.some Jvm.ClassFile.FieldType.int)) ∈ lw_all := lw_g (lw_at lw_m8 69 rfl) rfl
theorem q1843 : (Jvm.Cond.methodLink "SecondHelpingsModel" (184 : Nat) ({ cls := "SecondHelpingsModel", name := "readNumber", desc := "(II)Z" } : Jvm.MethodName)) ∈ lw_all := lw_g (lw_at lw_m8 70 rfl) rfl
theorem q1844 : (Jvm.Cond.privateMethod ({ cls := "SecondHelpingsModel", name := "readNumber", desc := "(II)Z" } : Jvm.MethodName)) ∈ lw_tbl := lw_at lw_m8 71 rfl
theorem q1845 : (Jvm.Cond.instanceMethod ({ cls := "SecondHelpingsModel", name := "readNumber", desc := "(II)Z" } : Jvm.MethodName)) ∈ lw_all := lw_g (lw_at lw_m8 72 rfl) rfl
theorem q1846 : (Jvm.Cond.code ({ cls := "SecondHelpingsModel", name := "readNumber", desc := "(II)Z" } : Jvm.MethodName) prog_25_method_24_code (3 : Nat) (Option.some Jvm.ClassFile.FieldType.boolean)) ∈ lw_all := lw_g (lw_at lw_m8 73 rfl) rfl
theorem q1847 : (Jvm.Cond.methodLink "SecondHelpingsModel" (149 : Nat) ({ cls := "SecondHelpingsModel", name := "isIn", desc := "(III)Z" } : Jvm.MethodName)) ∈ lw_all := lw_g (lw_at lw_m8 74 rfl) rfl
theorem q1848 : (Jvm.Cond.static ({ cls := "SecondHelpingsModel", name := "isIn", desc := "(III)Z" } : Jvm.MethodName)) ∈ lw_all := lw_g (lw_at lw_m8 75 rfl) rfl
theorem q1849 : (Jvm.Cond.code ({ cls := "SecondHelpingsModel", name := "isIn", desc := "(III)Z" } : Jvm.MethodName) prog_25_method_8_code (3 : Nat) (Option.some Jvm.ClassFile.FieldType.boolean)) ∈ lw_all := lw_g (lw_at lw_m8 76 rfl) rfl
theorem q1850 : (Jvm.Cond.methodLink "SecondHelpingsModel" (187 : Nat) ({ cls := "SecondHelpingsModel", name := "put", desc := "(IZ)Z" } : Jvm.MethodName)) ∈ lw_all := lw_g (lw_at lw_m8 77 rfl) rfl
theorem q1851 : (Jvm.Cond.privateMethod ({ cls := "SecondHelpingsModel", name := "put", desc := "(IZ)Z" } : Jvm.MethodName)) ∈ lw_tbl := lw_at lw_m8 78 rfl
theorem q1852 : (Jvm.Cond.instanceMethod ({ cls := "SecondHelpingsModel", name := "put", desc := "(IZ)Z" } : Jvm.MethodName)) ∈ lw_all := lw_g (lw_at lw_m8 79 rfl) rfl
theorem q1853 : (Jvm.Cond.code ({ cls := "SecondHelpingsModel", name := "put", desc := "(IZ)Z" } : Jvm.MethodName) prog_25_method_33_code (3 : Nat) (Option.some Jvm.ClassFile.FieldType.boolean)) ∈ lw_all := lw_g (lw_at lw_m8 80 rfl) rfl
theorem q1854 : (Jvm.Cond.methodLink "SecondHelpingsModel" (194 : Nat) ({ cls := "SecondHelpingsModel", name := "readOne", desc := "(II)Z" } : Jvm.MethodName)) ∈ lw_all := lw_g (lw_at lw_m8 81 rfl) rfl
theorem q1855 : (Jvm.Cond.privateMethod ({ cls := "SecondHelpingsModel", name := "readOne", desc := "(II)Z" } : Jvm.MethodName)) ∈ lw_tbl := lw_at lw_m8 82 rfl
theorem q1856 : (Jvm.Cond.instanceMethod ({ cls := "SecondHelpingsModel", name := "readOne", desc := "(II)Z" } : Jvm.MethodName)) ∈ lw_all := lw_g (lw_at lw_m8 83 rfl) rfl
theorem q1857 : (Jvm.Cond.code ({ cls := "SecondHelpingsModel", name := "readOne", desc := "(II)Z" } : Jvm.MethodName) prog_25_method_31_code (3 : Nat) (Option.some Jvm.ClassFile.FieldType.boolean)) ∈ lw_all := lw_g (lw_at lw_m8 84 rfl) rfl
theorem q1858 : (Jvm.Cond.methodLink "SecondHelpingsModel" (174 : Nat) ({ cls := "SecondHelpingsModel", name := "isOne", desc := "(II)Z" } : Jvm.MethodName)) ∈ lw_all := lw_g (lw_at lw_m8 85 rfl) rfl
theorem q1859 : (Jvm.Cond.privateMethod ({ cls := "SecondHelpingsModel", name := "isOne", desc := "(II)Z" } : Jvm.MethodName)) ∈ lw_tbl := lw_at lw_m8 86 rfl
theorem q1860 : (Jvm.Cond.instanceMethod ({ cls := "SecondHelpingsModel", name := "isOne", desc := "(II)Z" } : Jvm.MethodName)) ∈ lw_all := lw_g (lw_at lw_m8 87 rfl) rfl
theorem q1861 : (Jvm.Cond.code ({ cls := "SecondHelpingsModel", name := "isOne", desc := "(II)Z" } : Jvm.MethodName) prog_25_method_30_code (3 : Nat) (Option.some Jvm.ClassFile.FieldType.boolean)) ∈ lw_all := lw_g (lw_at lw_m8 88 rfl) rfl
theorem q1862 : (Jvm.Cond.methodLink "SecondHelpingsModel" (204 : Nat) ({ cls := "SecondHelpingsModel", name := "readDish", desc := "()Z" } : Jvm.MethodName)) ∈ lw_all := lw_g (lw_at lw_m8 89 rfl) rfl
theorem q1863 : (Jvm.Cond.privateMethod ({ cls := "SecondHelpingsModel", name := "readDish", desc := "()Z" } : Jvm.MethodName)) ∈ lw_tbl := lw_at lw_m8 90 rfl
theorem q1864 : (Jvm.Cond.instanceMethod ({ cls := "SecondHelpingsModel", name := "readDish", desc := "()Z" } : Jvm.MethodName)) ∈ lw_all := lw_g (lw_at lw_m8 91 rfl) rfl
theorem q1865 : (Jvm.Cond.code ({ cls := "SecondHelpingsModel", name := "readDish", desc := "()Z" } : Jvm.MethodName) prog_25_method_35_code (2 : Nat) (Option.some Jvm.ClassFile.FieldType.boolean)) ∈ lw_all := lw_g (lw_at lw_m8 92 rfl) rfl
theorem q1866 : (Jvm.Cond.methodLink "SecondHelpingsModel" (207 : Nat) ({ cls := "SecondHelpingsModel", name := "readPlate", desc := "()Z" } : Jvm.MethodName)) ∈ lw_all := lw_g (lw_at lw_m8 93 rfl) rfl
theorem q1867 : (Jvm.Cond.privateMethod ({ cls := "SecondHelpingsModel", name := "readPlate", desc := "()Z" } : Jvm.MethodName)) ∈ lw_tbl := lw_at lw_m8 94 rfl
theorem q1868 : (Jvm.Cond.instanceMethod ({ cls := "SecondHelpingsModel", name := "readPlate", desc := "()Z" } : Jvm.MethodName)) ∈ lw_all := lw_g (lw_at lw_m8 95 rfl) rfl
theorem q1869 : (Jvm.Cond.code ({ cls := "SecondHelpingsModel", name := "readPlate", desc := "()Z" } : Jvm.MethodName) prog_25_method_36_code (2 : Nat) (Option.some Jvm.ClassFile.FieldType.boolean)) ∈ lw_all := lw_g (lw_at lw_m8 96 rfl) rfl
theorem q1870 : (Jvm.Cond.methodLink "SecondHelpingsModel" (210 : Nat) ({ cls := "SecondHelpingsModel", name := "readLaw", desc := "()Z" } : Jvm.MethodName)) ∈ lw_all := lw_g (lw_at lw_m8 97 rfl) rfl
theorem q1871 : (Jvm.Cond.privateMethod ({ cls := "SecondHelpingsModel", name := "readLaw", desc := "()Z" } : Jvm.MethodName)) ∈ lw_tbl := lw_at lw_m8 98 rfl
theorem q1872 : (Jvm.Cond.instanceMethod ({ cls := "SecondHelpingsModel", name := "readLaw", desc := "()Z" } : Jvm.MethodName)) ∈ lw_all := lw_g (lw_at lw_m8 99 rfl) rfl
theorem q1873 : (Jvm.Cond.code ({ cls := "SecondHelpingsModel", name := "readLaw", desc := "()Z" } : Jvm.MethodName) prog_25_method_37_code (2 : Nat) (Option.some Jvm.ClassFile.FieldType.boolean)) ∈ lw_all := lw_g (lw_at lw_m8 100 rfl) rfl
theorem q1874 : (Jvm.Cond.methodLink "SecondHelpingsModel" (222 : Nat) ({ cls := "SecondHelpingsModel", name := "readEnd", desc := "()Z" } : Jvm.MethodName)) ∈ lw_all := lw_g (lw_at lw_m8 101 rfl) rfl
theorem q1875 : (Jvm.Cond.privateMethod ({ cls := "SecondHelpingsModel", name := "readEnd", desc := "()Z" } : Jvm.MethodName)) ∈ lw_tbl := lw_at lw_m8 102 rfl
theorem q1876 : (Jvm.Cond.instanceMethod ({ cls := "SecondHelpingsModel", name := "readEnd", desc := "()Z" } : Jvm.MethodName)) ∈ lw_all := lw_g (lw_at lw_m8 103 rfl) rfl
theorem q1877 : (Jvm.Cond.code ({ cls := "SecondHelpingsModel", name := "readEnd", desc := "()Z" } : Jvm.MethodName) prog_25_method_25_code (1 : Nat) (Option.some Jvm.ClassFile.FieldType.boolean)) ∈ lw_all := lw_g (lw_at lw_m8 104 rfl) rfl
theorem q1878 : (Jvm.Cond.methodLink "SecondHelpingsModel" (159 : Nat) ({ cls := "SecondHelpingsModel", name := "isSign", desc := "(I)Z" } : Jvm.MethodName)) ∈ lw_all := lw_g (lw_at lw_m8 105 rfl) rfl
theorem q1879 : (Jvm.Cond.privateMethod ({ cls := "SecondHelpingsModel", name := "isSign", desc := "(I)Z" } : Jvm.MethodName)) ∈ lw_tbl := lw_at lw_m8 106 rfl
theorem q1880 : (Jvm.Cond.instanceMethod ({ cls := "SecondHelpingsModel", name := "isSign", desc := "(I)Z" } : Jvm.MethodName)) ∈ lw_all := lw_g (lw_at lw_m8 107 rfl) rfl
theorem q1881 : (Jvm.Cond.code ({ cls := "SecondHelpingsModel", name := "isSign", desc := "(I)Z" } : Jvm.MethodName) prog_25_method_21_code (2 : Nat) (Option.some Jvm.ClassFile.FieldType.boolean)) ∈ lw_all := lw_g (lw_at lw_m8 108 rfl) rfl
theorem q1882 : (Jvm.Cond.methodLink "SecondHelpingsModel" (225 : Nat) ({ cls := "SecondHelpingsModel", name := "startSo", desc := "()V" } : Jvm.MethodName)) ∈ lw_all := lw_g (lw_at lw_m8 109 rfl) rfl
theorem q1883 : (Jvm.Cond.privateMethod ({ cls := "SecondHelpingsModel", name := "startSo", desc := "()V" } : Jvm.MethodName)) ∈ lw_tbl := lw_at lw_m8 110 rfl
theorem q1884 : (Jvm.Cond.instanceMethod ({ cls := "SecondHelpingsModel", name := "startSo", desc := "()V" } : Jvm.MethodName)) ∈ lw_all := lw_g (lw_at lw_m8 111 rfl) rfl
theorem q1885 : (Jvm.Cond.code ({ cls := "SecondHelpingsModel", name := "startSo", desc := "()V" } : Jvm.MethodName) prog_25_method_27_code (2 : Nat) (Option.none : Option Jvm.ClassFile.FieldType)) ∈ lw_all := lw_g (lw_at lw_m8 112 rfl) rfl
theorem q1887 : (Jvm.Cond.instanceMethod ({ cls := "SecondHelpingsModel", name := "fault", desc := "()I" } : Jvm.MethodName)) ∈ lw_all := lw_g (lw_at lw_m8 114 rfl) rfl
theorem q1888 : (Jvm.Cond.selects "SecondHelpingsModel" ({ cls := "SecondHelpingsModel", name := "fault", desc := "()I" } : Jvm.MethodName) ({ cls := "SecondHelpingsModel", name := "fault", desc := "()I" } : Jvm.MethodName)) ∈ lw_all := lw_g (lw_at lw_m8 115 rfl) rfl
theorem q1889 : (Jvm.Cond.code ({ cls := "SecondHelpingsModel", name := "fault", desc := "()I" } : Jvm.MethodName) prog_25_method_40_code (1 : Nat) (Option.some Jvm.ClassFile.FieldType.int)) ∈ lw_all := lw_g (lw_at lw_m8 116 rfl) rfl
theorem q1891 : (Jvm.Cond.instanceMethod ({ cls := "SecondHelpingsModel", name := "person", desc := "(II)I" } : Jvm.MethodName)) ∈ lw_all := lw_g (lw_at lw_m8 118 rfl) rfl
theorem q1892 : (Jvm.Cond.selects "SecondHelpingsModel" ({ cls := "SecondHelpingsModel", name := "person", desc := "(II)I" } : Jvm.MethodName) ({ cls := "SecondHelpingsModel", name := "person", desc := "(II)I" } : Jvm.MethodName)) ∈ lw_all := lw_g (lw_at lw_m8 119 rfl) rfl
theorem q1893 : (Jvm.Cond.code ({ cls := "SecondHelpingsModel", name := "person", desc := "(II)I" } : Jvm.MethodName) prog_25_method_47_code (5 : Nat) (Option.some Jvm.ClassFile.FieldType.int)) ∈ lw_all := lw_g (lw_at lw_m8 120 rfl) rfl
theorem q1894 : (Jvm.Cond.methodLink "SecondHelpingsModel" (238 : Nat) ({ cls := "SecondHelpingsModel", name := "isPerson", desc := "(I)Z" } : Jvm.MethodName)) ∈ lw_all := lw_g (lw_at lw_m8 121 rfl) rfl
theorem q1895 : (Jvm.Cond.privateMethod ({ cls := "SecondHelpingsModel", name := "isPerson", desc := "(I)Z" } : Jvm.MethodName)) ∈ lw_tbl := lw_at lw_m8 122 rfl
theorem q1896 : (Jvm.Cond.instanceMethod ({ cls := "SecondHelpingsModel", name := "isPerson", desc := "(I)Z" } : Jvm.MethodName)) ∈ lw_all := lw_g (lw_at lw_m8 123 rfl) rfl
theorem q1897 : (Jvm.Cond.code ({ cls := "SecondHelpingsModel", name := "isPerson", desc := "(I)Z" } : Jvm.MethodName) prog_25_method_41_code (2 : Nat) (Option.some Jvm.ClassFile.FieldType.boolean)) ∈ lw_all := lw_g (lw_at lw_m8 124 rfl) rfl
theorem q1898 : (Jvm.Cond.methodLink "SecondHelpingsModel" (241 : Nat) ({ cls := "SecondHelpingsModel", name := "refuse", desc := "()I" } : Jvm.MethodName)) ∈ lw_all := lw_g (lw_at lw_m8 125 rfl) rfl
theorem q1899 : (Jvm.Cond.privateMethod ({ cls := "SecondHelpingsModel", name := "refuse", desc := "()I" } : Jvm.MethodName)) ∈ lw_tbl := lw_at lw_m8 126 rfl
theorem q1900 : (Jvm.Cond.instanceMethod ({ cls := "SecondHelpingsModel", name := "refuse", desc := "()I" } : Jvm.MethodName)) ∈ lw_all := lw_g (lw_at lw_m8 127 rfl) rfl
theorem q1901 : (Jvm.Cond.code ({ cls := "SecondHelpingsModel", name := "refuse", desc := "()I" } : Jvm.MethodName) prog_25_method_3_code (1 : Nat) (Option.some Jvm.ClassFile.FieldType.int)) ∈ lw_all := lw_g (lw_at lw_m8 128 rfl) rfl
theorem q1902 : (Jvm.Cond.methodLink "SecondHelpingsModel" (244 : Nat) ({ cls := "SecondHelpingsModel", name := "isDead", desc := "(I)Z" } : Jvm.MethodName)) ∈ lw_all := lw_g (lw_at lw_m8 129 rfl) rfl
theorem q1903 : (Jvm.Cond.privateMethod ({ cls := "SecondHelpingsModel", name := "isDead", desc := "(I)Z" } : Jvm.MethodName)) ∈ lw_tbl := lw_at lw_m8 130 rfl
theorem q1904 : (Jvm.Cond.instanceMethod ({ cls := "SecondHelpingsModel", name := "isDead", desc := "(I)Z" } : Jvm.MethodName)) ∈ lw_all := lw_g (lw_at lw_m8 131 rfl) rfl
theorem q1905 : (Jvm.Cond.code ({ cls := "SecondHelpingsModel", name := "isDead", desc := "(I)Z" } : Jvm.MethodName) prog_25_method_43_code (2 : Nat) (Option.some Jvm.ClassFile.FieldType.boolean)) ∈ lw_all := lw_g (lw_at lw_m8 132 rfl) rfl
theorem q1906 : (Jvm.Cond.methodLink "SecondHelpingsModel" (231 : Nat) ({ cls := "SecondHelpingsModel", name := "has", desc := "(II)Z" } : Jvm.MethodName)) ∈ lw_all := lw_g (lw_at lw_m8 133 rfl) rfl
theorem q1907 : (Jvm.Cond.static ({ cls := "SecondHelpingsModel", name := "has", desc := "(II)Z" } : Jvm.MethodName)) ∈ lw_all := lw_g (lw_at lw_m8 134 rfl) rfl
theorem q1908 : (Jvm.Cond.code ({ cls := "SecondHelpingsModel", name := "has", desc := "(II)Z" } : Jvm.MethodName) prog_25_method_9_code (2 : Nat) (Option.some Jvm.ClassFile.FieldType.boolean)) ∈ lw_all := lw_g (lw_at lw_m8 135 rfl) rfl
theorem q1909 : (Jvm.Cond.methodLink "SecondHelpingsModel" (247 : Nat) ({ cls := "SecondHelpingsModel", name := "plateOf", desc := "(I)I" } : Jvm.MethodName)) ∈ lw_all := lw_g (lw_at lw_m8 136 rfl) rfl
theorem q1910 : (Jvm.Cond.privateMethod ({ cls := "SecondHelpingsModel", name := "plateOf", desc := "(I)I" } : Jvm.MethodName)) ∈ lw_tbl := lw_at lw_m8 137 rfl
theorem q1911 : (Jvm.Cond.instanceMethod ({ cls := "SecondHelpingsModel", name := "plateOf", desc := "(I)I" } : Jvm.MethodName)) ∈ lw_all := lw_g (lw_at lw_m8 138 rfl) rfl
theorem q1912 : (Jvm.Cond.code ({ cls := "SecondHelpingsModel", name := "plateOf", desc := "(I)I" } : Jvm.MethodName) prog_25_method_45_code (4 : Nat) (Option.some Jvm.ClassFile.FieldType.int)) ∈ lw_all := lw_g (lw_at lw_m8 139 rfl) rfl
theorem q1913 : (Jvm.Cond.methodLink "SecondHelpingsModel" (234 : Nat) ({ cls := "SecondHelpingsModel", name := "onPlate", desc := "(II)I" } : Jvm.MethodName)) ∈ lw_all := lw_g (lw_at lw_m8 140 rfl) rfl
theorem q1914 : (Jvm.Cond.privateMethod ({ cls := "SecondHelpingsModel", name := "onPlate", desc := "(II)I" } : Jvm.MethodName)) ∈ lw_tbl := lw_at lw_m8 141 rfl
theorem q1915 : (Jvm.Cond.instanceMethod ({ cls := "SecondHelpingsModel", name := "onPlate", desc := "(II)I" } : Jvm.MethodName)) ∈ lw_all := lw_g (lw_at lw_m8 142 rfl) rfl
theorem q1916 : (Jvm.Cond.code ({ cls := "SecondHelpingsModel", name := "onPlate", desc := "(II)I" } : Jvm.MethodName) prog_25_method_44_code (3 : Nat) (Option.some Jvm.ClassFile.FieldType.int)) ∈ lw_all := lw_g (lw_at lw_m8 143 rfl) rfl
theorem q1918 : (Jvm.Cond.instanceMethod ({ cls := "SecondHelpingsModel", name := "plate", desc := "(II)I" } : Jvm.MethodName)) ∈ lw_all := lw_g (lw_at lw_m8 145 rfl) rfl
theorem q1919 : (Jvm.Cond.selects "SecondHelpingsModel" ({ cls := "SecondHelpingsModel", name := "plate", desc := "(II)I" } : Jvm.MethodName) ({ cls := "SecondHelpingsModel", name := "plate", desc := "(II)I" } : Jvm.MethodName)) ∈ lw_all := lw_g (lw_at lw_m8 146 rfl) rfl
theorem q1920 : (Jvm.Cond.code ({ cls := "SecondHelpingsModel", name := "plate", desc := "(II)I" } : Jvm.MethodName) prog_25_method_48_code (3 : Nat) (Option.some Jvm.ClassFile.FieldType.int)) ∈ lw_all := lw_g (lw_at lw_m8 147 rfl) rfl
theorem q1921 : (Jvm.Cond.methodLink "SecondHelpingsModel" (250 : Nat) ({ cls := "SecondHelpingsModel", name := "isDish", desc := "(I)Z" } : Jvm.MethodName)) ∈ lw_all := lw_g (lw_at lw_m8 148 rfl) rfl
theorem q1922 : (Jvm.Cond.privateMethod ({ cls := "SecondHelpingsModel", name := "isDish", desc := "(I)Z" } : Jvm.MethodName)) ∈ lw_tbl := lw_at lw_m8 149 rfl
theorem q1923 : (Jvm.Cond.instanceMethod ({ cls := "SecondHelpingsModel", name := "isDish", desc := "(I)Z" } : Jvm.MethodName)) ∈ lw_all := lw_g (lw_at lw_m8 150 rfl) rfl
theorem q1924 : (Jvm.Cond.code ({ cls := "SecondHelpingsModel", name := "isDish", desc := "(I)Z" } : Jvm.MethodName) prog_25_method_42_code (2 : Nat) (Option.some Jvm.ClassFile.FieldType.boolean)) ∈ lw_all := lw_g (lw_at lw_m8 151 rfl) rfl
theorem q1926 : (Jvm.Cond.instanceMethod ({ cls := "SecondHelpingsModel", name := "dish", desc := "(II)I" } : Jvm.MethodName)) ∈ lw_all := lw_g (lw_at lw_m8 153 rfl) rfl
theorem q1927 : (Jvm.Cond.selects "SecondHelpingsModel" ({ cls := "SecondHelpingsModel", name := "dish", desc := "(II)I" } : Jvm.MethodName) ({ cls := "SecondHelpingsModel", name := "dish", desc := "(II)I" } : Jvm.MethodName)) ∈ lw_all := lw_g (lw_at lw_m8 154 rfl) rfl
theorem q1928 : (Jvm.Cond.code ({ cls := "SecondHelpingsModel", name := "dish", desc := "(II)I" } : Jvm.MethodName) prog_25_method_49_code (5 : Nat) (Option.some Jvm.ClassFile.FieldType.int)) ∈ lw_all := lw_g (lw_at lw_m8 155 rfl) rfl
theorem q1930 : (Jvm.Cond.instanceMethod ({ cls := "SecondHelpingsModel", name := "now", desc := "(I)I" } : Jvm.MethodName)) ∈ lw_all := lw_g (lw_at lw_m8 157 rfl) rfl
theorem q1931 : (Jvm.Cond.selects "SecondHelpingsModel" ({ cls := "SecondHelpingsModel", name := "now", desc := "(I)I" } : Jvm.MethodName) ({ cls := "SecondHelpingsModel", name := "now", desc := "(I)I" } : Jvm.MethodName)) ∈ lw_all := lw_g (lw_at lw_m8 158 rfl) rfl
theorem q1932 : (Jvm.Cond.code ({ cls := "SecondHelpingsModel", name := "now", desc := "(I)I" } : Jvm.MethodName) prog_25_method_51_code (2 : Nat) (Option.some Jvm.ClassFile.FieldType.int)) ∈ lw_all := lw_g (lw_at lw_m8 159 rfl) rfl
theorem q1933 : (Jvm.Cond.methodLink "SecondHelpingsModel" (253 : Nat) ({ cls := "SecondHelpingsModel", name := "sumOf", desc := "(I)I" } : Jvm.MethodName)) ∈ lw_all := lw_g (lw_at lw_m8 160 rfl) rfl
theorem q1934 : (Jvm.Cond.privateMethod ({ cls := "SecondHelpingsModel", name := "sumOf", desc := "(I)I" } : Jvm.MethodName)) ∈ lw_tbl := lw_at lw_m8 161 rfl
theorem q1935 : (Jvm.Cond.instanceMethod ({ cls := "SecondHelpingsModel", name := "sumOf", desc := "(I)I" } : Jvm.MethodName)) ∈ lw_all := lw_g (lw_at lw_m8 162 rfl) rfl
theorem q1936 : (Jvm.Cond.code ({ cls := "SecondHelpingsModel", name := "sumOf", desc := "(I)I" } : Jvm.MethodName) prog_25_method_50_code (4 : Nat) (Option.some Jvm.ClassFile.FieldType.int)) ∈ lw_all := lw_g (lw_at lw_m8 163 rfl) rfl
theorem q1938 : (Jvm.Cond.instanceMethod ({ cls := "SecondHelpingsModel", name := "heir", desc := "(I)I" } : Jvm.MethodName)) ∈ lw_all := lw_g (lw_at lw_m8 165 rfl) rfl
theorem q1939 : (Jvm.Cond.selects "SecondHelpingsModel" ({ cls := "SecondHelpingsModel", name := "heir", desc := "(I)I" } : Jvm.MethodName) ({ cls := "SecondHelpingsModel", name := "heir", desc := "(I)I" } : Jvm.MethodName)) ∈ lw_all := lw_g (lw_at lw_m8 166 rfl) rfl
theorem q1940 : (Jvm.Cond.code ({ cls := "SecondHelpingsModel", name := "heir", desc := "(I)I" } : Jvm.MethodName) prog_25_method_56_code (2 : Nat) (Option.some Jvm.ClassFile.FieldType.int)) ∈ lw_all := lw_g (lw_at lw_m8 167 rfl) rfl
theorem q1941 : (Jvm.Cond.methodLink "SecondHelpingsModel" (259 : Nat) ({ cls := "SecondHelpingsModel", name := "outs", desc := "()I" } : Jvm.MethodName)) ∈ lw_all := lw_g (lw_at lw_m8 168 rfl) rfl
theorem q1942 : (Jvm.Cond.privateMethod ({ cls := "SecondHelpingsModel", name := "outs", desc := "()I" } : Jvm.MethodName)) ∈ lw_tbl := lw_at lw_m8 169 rfl
theorem q1943 : (Jvm.Cond.instanceMethod ({ cls := "SecondHelpingsModel", name := "outs", desc := "()I" } : Jvm.MethodName)) ∈ lw_all := lw_g (lw_at lw_m8 170 rfl) rfl
theorem q1944 : (Jvm.Cond.code ({ cls := "SecondHelpingsModel", name := "outs", desc := "()I" } : Jvm.MethodName) prog_25_method_54_code (1 : Nat) (Option.some Jvm.ClassFile.FieldType.int)) ∈ lw_all := lw_g (lw_at lw_m8 171 rfl) rfl
theorem q1945 : (Jvm.Cond.methodLink "SecondHelpingsModel" (262 : Nat) ({ cls := "SecondHelpingsModel", name := "heirBy", desc := "(II)I" } : Jvm.MethodName)) ∈ lw_all := lw_g (lw_at lw_m8 172 rfl) rfl
theorem q1946 : (Jvm.Cond.privateMethod ({ cls := "SecondHelpingsModel", name := "heirBy", desc := "(II)I" } : Jvm.MethodName)) ∈ lw_tbl := lw_at lw_m8 173 rfl
theorem q1947 : (Jvm.Cond.instanceMethod ({ cls := "SecondHelpingsModel", name := "heirBy", desc := "(II)I" } : Jvm.MethodName)) ∈ lw_all := lw_g (lw_at lw_m8 174 rfl) rfl
theorem q1948 : (Jvm.Cond.code ({ cls := "SecondHelpingsModel", name := "heirBy", desc := "(II)I" } : Jvm.MethodName) prog_25_method_53_code (6 : Nat) (Option.some Jvm.ClassFile.FieldType.int)) ∈ lw_all := lw_g (lw_at lw_m8 175 rfl) rfl
theorem q1949 : (Jvm.Cond.methodLink "SecondHelpingsModel" (256 : Nat) ({ cls := "SecondHelpingsModel", name := "nextTo", desc := "(II)I" } : Jvm.MethodName)) ∈ lw_all := lw_g (lw_at lw_m8 176 rfl) rfl
theorem q1950 : (Jvm.Cond.privateMethod ({ cls := "SecondHelpingsModel", name := "nextTo", desc := "(II)I" } : Jvm.MethodName)) ∈ lw_tbl := lw_at lw_m8 177 rfl
theorem q1951 : (Jvm.Cond.instanceMethod ({ cls := "SecondHelpingsModel", name := "nextTo", desc := "(II)I" } : Jvm.MethodName)) ∈ lw_all := lw_g (lw_at lw_m8 178 rfl) rfl
theorem q1952 : (Jvm.Cond.code ({ cls := "SecondHelpingsModel", name := "nextTo", desc := "(II)I" } : Jvm.MethodName) prog_25_method_52_code (5 : Nat) (Option.some Jvm.ClassFile.FieldType.int)) ∈ lw_all := lw_g (lw_at lw_m8 179 rfl) rfl
theorem q1954 : (Jvm.Cond.instanceMethod ({ cls := "SecondHelpingsModel", name := "line", desc := "(II)I" } : Jvm.MethodName)) ∈ lw_all := lw_g (lw_at lw_m8 181 rfl) rfl
theorem q1955 : (Jvm.Cond.selects "SecondHelpingsModel" ({ cls := "SecondHelpingsModel", name := "line", desc := "(II)I" } : Jvm.MethodName) ({ cls := "SecondHelpingsModel", name := "line", desc := "(II)I" } : Jvm.MethodName)) ∈ lw_all := lw_g (lw_at lw_m8 182 rfl) rfl
theorem q1956 : (Jvm.Cond.code ({ cls := "SecondHelpingsModel", name := "line", desc := "(II)I" } : Jvm.MethodName) prog_25_method_57_code (6 : Nat) (Option.some Jvm.ClassFile.FieldType.int)) ∈ lw_all := lw_g (lw_at lw_m8 183 rfl) rfl
theorem q1958 : (Jvm.Cond.instanceMethod ({ cls := "SecondHelpingsModel", name := "eat", desc := "(III)I" } : Jvm.MethodName)) ∈ lw_all := lw_g (lw_at lw_m8 185 rfl) rfl
theorem q1959 : (Jvm.Cond.selects "SecondHelpingsModel" ({ cls := "SecondHelpingsModel", name := "eat", desc := "(III)I" } : Jvm.MethodName) ({ cls := "SecondHelpingsModel", name := "eat", desc := "(III)I" } : Jvm.MethodName)) ∈ lw_all := lw_g (lw_at lw_m8 186 rfl) rfl
theorem q1960 : (Jvm.Cond.code ({ cls := "SecondHelpingsModel", name := "eat", desc := "(III)I" } : Jvm.MethodName) prog_25_method_63_code (4 : Nat) (Option.some Jvm.ClassFile.FieldType.int)) ∈ lw_all := lw_g (lw_at lw_m8 187 rfl) rfl
theorem q1961 : (Jvm.Cond.methodLink "SecondHelpingsModel" (289 : Nat) ({ cls := "SecondHelpingsModel", name := "act", desc := "(IIII)I" } : Jvm.MethodName)) ∈ lw_all := lw_g (lw_at lw_m8 188 rfl) rfl
theorem q1962 : (Jvm.Cond.privateMethod ({ cls := "SecondHelpingsModel", name := "act", desc := "(IIII)I" } : Jvm.MethodName)) ∈ lw_tbl := lw_at lw_m8 189 rfl
theorem q1963 : (Jvm.Cond.instanceMethod ({ cls := "SecondHelpingsModel", name := "act", desc := "(IIII)I" } : Jvm.MethodName)) ∈ lw_all := lw_g (lw_at lw_m8 190 rfl) rfl
theorem q1964 : (Jvm.Cond.code ({ cls := "SecondHelpingsModel", name := "act", desc := "(IIII)I" } : Jvm.MethodName) prog_25_method_62_code (6 : Nat) (Option.some Jvm.ClassFile.FieldType.int)) ∈ lw_all := lw_g (lw_at lw_m8 191 rfl) rfl
theorem q1965 : (Jvm.Cond.methodLink "SecondHelpingsModel" (278 : Nat) ({ cls := "SecondHelpingsModel", name := "why", desc := "(IIII)I" } : Jvm.MethodName)) ∈ lw_all := lw_g (lw_at lw_m8 192 rfl) rfl
theorem q1966 : (Jvm.Cond.privateMethod ({ cls := "SecondHelpingsModel", name := "why", desc := "(IIII)I" } : Jvm.MethodName)) ∈ lw_tbl := lw_at lw_m8 193 rfl
theorem q1967 : (Jvm.Cond.instanceMethod ({ cls := "SecondHelpingsModel", name := "why", desc := "(IIII)I" } : Jvm.MethodName)) ∈ lw_all := lw_g (lw_at lw_m8 194 rfl) rfl
theorem q1968 : (Jvm.Cond.code ({ cls := "SecondHelpingsModel", name := "why", desc := "(IIII)I" } : Jvm.MethodName) prog_25_method_59_code (5 : Nat) (Option.some Jvm.ClassFile.FieldType.int)) ∈ lw_all := lw_g (lw_at lw_m8 195 rfl) rfl
theorem q1969 : (Jvm.Cond.methodLink "SecondHelpingsModel" (268 : Nat) ({ cls := "SecondHelpingsModel", name := "wantsYet", desc := "(I)I" } : Jvm.MethodName)) ∈ lw_all := lw_g (lw_at lw_m8 196 rfl) rfl
theorem q1970 : (Jvm.Cond.privateMethod ({ cls := "SecondHelpingsModel", name := "wantsYet", desc := "(I)I" } : Jvm.MethodName)) ∈ lw_tbl := lw_at lw_m8 197 rfl
theorem q1971 : (Jvm.Cond.instanceMethod ({ cls := "SecondHelpingsModel", name := "wantsYet", desc := "(I)I" } : Jvm.MethodName)) ∈ lw_all := lw_g (lw_at lw_m8 198 rfl) rfl
theorem q1972 : (Jvm.Cond.code ({ cls := "SecondHelpingsModel", name := "wantsYet", desc := "(I)I" } : Jvm.MethodName) prog_25_method_46_code (2 : Nat) (Option.some Jvm.ClassFile.FieldType.int)) ∈ lw_all := lw_g (lw_at lw_m8 199 rfl) rfl
theorem q1973 : (Jvm.Cond.methodLink "SecondHelpingsModel" (282 : Nat) ({ cls := "SecondHelpingsModel", name := "snap", desc := "()V" } : Jvm.MethodName)) ∈ lw_all := lw_g (lw_at lw_m8 200 rfl) rfl
theorem q1974 : (Jvm.Cond.privateMethod ({ cls := "SecondHelpingsModel", name := "snap", desc := "()V" } : Jvm.MethodName)) ∈ lw_tbl := lw_at lw_m8 201 rfl
theorem q1975 : (Jvm.Cond.instanceMethod ({ cls := "SecondHelpingsModel", name := "snap", desc := "()V" } : Jvm.MethodName)) ∈ lw_all := lw_g (lw_at lw_m8 202 rfl) rfl
theorem q1976 : (Jvm.Cond.code ({ cls := "SecondHelpingsModel", name := "snap", desc := "()V" } : Jvm.MethodName) prog_25_method_58_code (2 : Nat) (Option.none : Option Jvm.ClassFile.FieldType)) ∈ lw_all := lw_g (lw_at lw_m8 203 rfl) rfl
theorem q1977 : (Jvm.Cond.methodLink "SecondHelpingsModel" (285 : Nat) ({ cls := "SecondHelpingsModel", name := "live", desc := "(IIII)V" } : Jvm.MethodName)) ∈ lw_all := lw_g (lw_at lw_m8 204 rfl) rfl
theorem q1978 : (Jvm.Cond.privateMethod ({ cls := "SecondHelpingsModel", name := "live", desc := "(IIII)V" } : Jvm.MethodName)) ∈ lw_tbl := lw_at lw_m8 205 rfl
theorem q1979 : (Jvm.Cond.instanceMethod ({ cls := "SecondHelpingsModel", name := "live", desc := "(IIII)V" } : Jvm.MethodName)) ∈ lw_all := lw_g (lw_at lw_m8 206 rfl) rfl
theorem q1980 : (Jvm.Cond.code ({ cls := "SecondHelpingsModel", name := "live", desc := "(IIII)V" } : Jvm.MethodName) prog_25_method_61_code (5 : Nat) (Option.none : Option Jvm.ClassFile.FieldType)) ∈ lw_all := lw_g (lw_at lw_m8 207 rfl) rfl
theorem q1981 : (Jvm.Cond.methodLink "SecondHelpingsModel" (271 : Nat) ({ cls := "SecondHelpingsModel", name := "doEat", desc := "(III)V" } : Jvm.MethodName)) ∈ lw_all := lw_g (lw_at lw_m8 208 rfl) rfl
theorem q1982 : (Jvm.Cond.privateMethod ({ cls := "SecondHelpingsModel", name := "doEat", desc := "(III)V" } : Jvm.MethodName)) ∈ lw_tbl := lw_at lw_m8 209 rfl
theorem q1983 : (Jvm.Cond.instanceMethod ({ cls := "SecondHelpingsModel", name := "doEat", desc := "(III)V" } : Jvm.MethodName)) ∈ lw_all := lw_g (lw_at lw_m8 210 rfl) rfl
theorem q1984 : (Jvm.Cond.code ({ cls := "SecondHelpingsModel", name := "doEat", desc := "(III)V" } : Jvm.MethodName) prog_25_method_60_code (4 : Nat) (Option.none : Option Jvm.ClassFile.FieldType)) ∈ lw_all := lw_g (lw_at lw_m8 211 rfl) rfl
theorem q1985 : (Jvm.Cond.methodLink "SecondHelpingsModel" (275 : Nat) ({ cls := "SecondHelpingsModel", name := "pass", desc := "(I)V" } : Jvm.MethodName)) ∈ lw_all := lw_g (lw_at lw_m8 212 rfl) rfl
theorem q1986 : (Jvm.Cond.privateMethod ({ cls := "SecondHelpingsModel", name := "pass", desc := "(I)V" } : Jvm.MethodName)) ∈ lw_tbl := lw_at lw_m8 213 rfl
theorem q1987 : (Jvm.Cond.instanceMethod ({ cls := "SecondHelpingsModel", name := "pass", desc := "(I)V" } : Jvm.MethodName)) ∈ lw_all := lw_g (lw_at lw_m8 214 rfl) rfl
theorem q1988 : (Jvm.Cond.code ({ cls := "SecondHelpingsModel", name := "pass", desc := "(I)V" } : Jvm.MethodName) prog_25_method_55_code (7 : Nat) (Option.none : Option Jvm.ClassFile.FieldType)) ∈ lw_all := lw_g (lw_at lw_m8 215 rfl) rfl
theorem q1989 : (Jvm.Cond.methodLink "SecondHelpingsModel" (265 : Nat) ({ cls := "SecondHelpingsModel", name := "least", desc := "(II)I" } : Jvm.MethodName)) ∈ lw_all := lw_g (lw_at lw_m8 216 rfl) rfl
theorem q1990 : (Jvm.Cond.static ({ cls := "SecondHelpingsModel", name := "least", desc := "(II)I" } : Jvm.MethodName)) ∈ lw_all := lw_g (lw_at lw_m8 217 rfl) rfl
theorem q1991 : (Jvm.Cond.code ({ cls := "SecondHelpingsModel", name := "least", desc := "(II)I" } : Jvm.MethodName) prog_25_method_11_code (2 : Nat) (Option.some Jvm.ClassFile.FieldType.int)) ∈ lw_all := lw_g (lw_at lw_m8 218 rfl) rfl
theorem q1993 : (Jvm.Cond.instanceMethod ({ cls := "SecondHelpingsModel", name := "serve", desc := "(III)I" } : Jvm.MethodName)) ∈ lw_all := lw_g (lw_at lw_m8 220 rfl) rfl
theorem q1994 : (Jvm.Cond.selects "SecondHelpingsModel" ({ cls := "SecondHelpingsModel", name := "serve", desc := "(III)I" } : Jvm.MethodName) ({ cls := "SecondHelpingsModel", name := "serve", desc := "(III)I" } : Jvm.MethodName)) ∈ lw_all := lw_g (lw_at lw_m8 221 rfl) rfl
theorem q1995 : (Jvm.Cond.code ({ cls := "SecondHelpingsModel", name := "serve", desc := "(III)I" } : Jvm.MethodName) prog_25_method_64_code (4 : Nat) (Option.some Jvm.ClassFile.FieldType.int)) ∈ lw_all := lw_g (lw_at lw_m8 222 rfl) rfl
theorem q1997 : (Jvm.Cond.instanceMethod ({ cls := "SecondHelpingsModel", name := "rise", desc := "(I)I" } : Jvm.MethodName)) ∈ lw_all := lw_g (lw_at lw_m8 224 rfl) rfl
theorem q1998 : (Jvm.Cond.selects "SecondHelpingsModel" ({ cls := "SecondHelpingsModel", name := "rise", desc := "(I)I" } : Jvm.MethodName) ({ cls := "SecondHelpingsModel", name := "rise", desc := "(I)I" } : Jvm.MethodName)) ∈ lw_all := lw_g (lw_at lw_m8 225 rfl) rfl
theorem q1999 : (Jvm.Cond.code ({ cls := "SecondHelpingsModel", name := "rise", desc := "(I)I" } : Jvm.MethodName) prog_25_method_65_code (2 : Nat) (Option.some Jvm.ClassFile.FieldType.int)) ∈ lw_all := lw_g (lw_at lw_m8 226 rfl) rfl
theorem q2001 : (Jvm.Cond.instanceMethod ({ cls := "SecondHelpingsModel", name := "refuse", desc := "(I)I" } : Jvm.MethodName)) ∈ lw_all := lw_g (lw_at lw_m8 228 rfl) rfl
theorem q2002 : (Jvm.Cond.selects "SecondHelpingsModel" ({ cls := "SecondHelpingsModel", name := "refuse", desc := "(I)I" } : Jvm.MethodName) ({ cls := "SecondHelpingsModel", name := "refuse", desc := "(I)I" } : Jvm.MethodName)) ∈ lw_all := lw_g (lw_at lw_m8 229 rfl) rfl
theorem q2003 : (Jvm.Cond.code ({ cls := "SecondHelpingsModel", name := "refuse", desc := "(I)I" } : Jvm.MethodName) prog_25_method_66_code (2 : Nat) (Option.some Jvm.ClassFile.FieldType.int)) ∈ lw_all := lw_g (lw_at lw_m8 230 rfl) rfl
theorem q2005 : (Jvm.Cond.instanceMethod ({ cls := "SecondHelpingsModel", name := "accept", desc := "(I)I" } : Jvm.MethodName)) ∈ lw_all := lw_g (lw_at lw_m8 232 rfl) rfl
theorem q2006 : (Jvm.Cond.selects "SecondHelpingsModel" ({ cls := "SecondHelpingsModel", name := "accept", desc := "(I)I" } : Jvm.MethodName) ({ cls := "SecondHelpingsModel", name := "accept", desc := "(I)I" } : Jvm.MethodName)) ∈ lw_all := lw_g (lw_at lw_m8 233 rfl) rfl
theorem q2007 : (Jvm.Cond.code ({ cls := "SecondHelpingsModel", name := "accept", desc := "(I)I" } : Jvm.MethodName) prog_25_method_67_code (2 : Nat) (Option.some Jvm.ClassFile.FieldType.int)) ∈ lw_all := lw_g (lw_at lw_m8 234 rfl) rfl
theorem q2009 : (Jvm.Cond.instanceMethod ({ cls := "SecondHelpingsModel", name := "die", desc := "(I)I" } : Jvm.MethodName)) ∈ lw_all := lw_g (lw_at lw_m8 236 rfl) rfl
theorem q2010 : (Jvm.Cond.selects "SecondHelpingsModel" ({ cls := "SecondHelpingsModel", name := "die", desc := "(I)I" } : Jvm.MethodName) ({ cls := "SecondHelpingsModel", name := "die", desc := "(I)I" } : Jvm.MethodName)) ∈ lw_all := lw_g (lw_at lw_m8 237 rfl) rfl
theorem q2011 : (Jvm.Cond.code ({ cls := "SecondHelpingsModel", name := "die", desc := "(I)I" } : Jvm.MethodName) prog_25_method_68_code (2 : Nat) (Option.some Jvm.ClassFile.FieldType.int)) ∈ lw_all := lw_g (lw_at lw_m8 238 rfl) rfl
theorem q2013 : (Jvm.Cond.instanceMethod ({ cls := "SecondHelpingsModel", name := "undo", desc := "()I" } : Jvm.MethodName)) ∈ lw_all := lw_g (lw_at lw_m9 0 rfl) rfl
theorem q2014 : (Jvm.Cond.selects "SecondHelpingsModel" ({ cls := "SecondHelpingsModel", name := "undo", desc := "()I" } : Jvm.MethodName) ({ cls := "SecondHelpingsModel", name := "undo", desc := "()I" } : Jvm.MethodName)) ∈ lw_all := lw_g (lw_at lw_m9 1 rfl) rfl
theorem q2015 : (Jvm.Cond.code ({ cls := "SecondHelpingsModel", name := "undo", desc := "()I" } : Jvm.MethodName) prog_25_method_69_code (2 : Nat) (Option.some Jvm.ClassFile.FieldType.int)) ∈ lw_all := lw_g (lw_at lw_m9 2 rfl) rfl
theorem q2017 : (Jvm.Cond.instanceMethod ({ cls := "SecondHelpingsModel", name := "meals", desc := "(I)I" } : Jvm.MethodName)) ∈ lw_all := lw_g (lw_at lw_m9 4 rfl) rfl
theorem q2018 : (Jvm.Cond.selects "SecondHelpingsModel" ({ cls := "SecondHelpingsModel", name := "meals", desc := "(I)I" } : Jvm.MethodName) ({ cls := "SecondHelpingsModel", name := "meals", desc := "(I)I" } : Jvm.MethodName)) ∈ lw_all := lw_g (lw_at lw_m9 5 rfl) rfl
theorem q2019 : (Jvm.Cond.code ({ cls := "SecondHelpingsModel", name := "meals", desc := "(I)I" } : Jvm.MethodName) prog_25_method_72_code (2 : Nat) (Option.some Jvm.ClassFile.FieldType.int)) ∈ lw_all := lw_g (lw_at lw_m9 6 rfl) rfl
theorem q2020 : (Jvm.Cond.methodLink "SecondHelpingsModel" (295 : Nat) ({ cls := "SecondHelpingsModel", name := "passMeals", desc := "(I)I" } : Jvm.MethodName)) ∈ lw_all := lw_g (lw_at lw_m9 7 rfl) rfl
theorem q2021 : (Jvm.Cond.privateMethod ({ cls := "SecondHelpingsModel", name := "passMeals", desc := "(I)I" } : Jvm.MethodName)) ∈ lw_tbl := lw_at lw_m9 8 rfl
theorem q2022 : (Jvm.Cond.instanceMethod ({ cls := "SecondHelpingsModel", name := "passMeals", desc := "(I)I" } : Jvm.MethodName)) ∈ lw_all := lw_g (lw_at lw_m9 9 rfl) rfl
theorem q2023 : (Jvm.Cond.code ({ cls := "SecondHelpingsModel", name := "passMeals", desc := "(I)I" } : Jvm.MethodName) prog_25_method_71_code (4 : Nat) (Option.some Jvm.ClassFile.FieldType.int)) ∈ lw_all := lw_g (lw_at lw_m9 10 rfl) rfl
theorem q2024 : (Jvm.Cond.methodLink "SecondHelpingsModel" (292 : Nat) ({ cls := "SecondHelpingsModel", name := "oneMeal", desc := "()V" } : Jvm.MethodName)) ∈ lw_all := lw_g (lw_at lw_m9 11 rfl) rfl
theorem q2025 : (Jvm.Cond.privateMethod ({ cls := "SecondHelpingsModel", name := "oneMeal", desc := "()V" } : Jvm.MethodName)) ∈ lw_tbl := lw_at lw_m9 12 rfl
theorem q2026 : (Jvm.Cond.instanceMethod ({ cls := "SecondHelpingsModel", name := "oneMeal", desc := "()V" } : Jvm.MethodName)) ∈ lw_all := lw_g (lw_at lw_m9 13 rfl) rfl
theorem q2027 : (Jvm.Cond.code ({ cls := "SecondHelpingsModel", name := "oneMeal", desc := "()V" } : Jvm.MethodName) prog_25_method_70_code (4 : Nat) (Option.none : Option Jvm.ClassFile.FieldType)) ∈ lw_all := lw_g (lw_at lw_m9 14 rfl) rfl
theorem q2029 : (Jvm.Cond.instanceMethod ({ cls := "SecondHelpingsModel", name := "order", desc := "()I" } : Jvm.MethodName)) ∈ lw_all := lw_g (lw_at lw_m9 16 rfl) rfl
theorem q2030 : (Jvm.Cond.selects "SecondHelpingsModel" ({ cls := "SecondHelpingsModel", name := "order", desc := "()I" } : Jvm.MethodName) ({ cls := "SecondHelpingsModel", name := "order", desc := "()I" } : Jvm.MethodName)) ∈ lw_all := lw_g (lw_at lw_m9 17 rfl) rfl
theorem q2031 : (Jvm.Cond.code ({ cls := "SecondHelpingsModel", name := "order", desc := "()I" } : Jvm.MethodName) prog_25_method_76_code (1 : Nat) (Option.some Jvm.ClassFile.FieldType.int)) ∈ lw_all := lw_g (lw_at lw_m9 18 rfl) rfl
theorem q2032 : (Jvm.Cond.constant "SecondHelpingsModel" (308 : Nat) (1000000 : Int32)) ∈ lw_all := lw_g (lw_at lw_m9 19 rfl) rfl
theorem q2033 : (Jvm.Cond.methodLink "SecondHelpingsModel" (309 : Nat) ({ cls := "SecondHelpingsModel", name := "living", desc := "()I" } : Jvm.MethodName)) ∈ lw_all := lw_g (lw_at lw_m9 20 rfl) rfl
theorem q2034 : (Jvm.Cond.privateMethod ({ cls := "SecondHelpingsModel", name := "living", desc := "()I" } : Jvm.MethodName)) ∈ lw_tbl := lw_at lw_m9 21 rfl
theorem q2035 : (Jvm.Cond.instanceMethod ({ cls := "SecondHelpingsModel", name := "living", desc := "()I" } : Jvm.MethodName)) ∈ lw_all := lw_g (lw_at lw_m9 22 rfl) rfl
theorem q2036 : (Jvm.Cond.code ({ cls := "SecondHelpingsModel", name := "living", desc := "()I" } : Jvm.MethodName) prog_25_method_75_code (1 : Nat) (Option.some Jvm.ClassFile.FieldType.int)) ∈ lw_all := lw_g (lw_at lw_m9 23 rfl) rfl
theorem q2037 : (Jvm.Cond.methodLink "SecondHelpingsModel" (312 : Nat) ({ cls := "SecondHelpingsModel", name := "bits", desc := "(I)I" } : Jvm.MethodName)) ∈ lw_all := lw_g (lw_at lw_m9 24 rfl) rfl
theorem q2038 : (Jvm.Cond.static ({ cls := "SecondHelpingsModel", name := "bits", desc := "(I)I" } : Jvm.MethodName)) ∈ lw_all := lw_g (lw_at lw_m9 25 rfl) rfl
theorem q2039 : (Jvm.Cond.code ({ cls := "SecondHelpingsModel", name := "bits", desc := "(I)I" } : Jvm.MethodName) prog_25_method_10_code (3 : Nat) (Option.some Jvm.ClassFile.FieldType.int)) ∈ lw_all := lw_g (lw_at lw_m9 26 rfl) rfl
theorem q2040 : (Jvm.Cond.methodLink "SecondHelpingsModel" (304 : Nat) ({ cls := "SecondHelpingsModel", name := "orderFrom", desc := "(II)V" } : Jvm.MethodName)) ∈ lw_all := lw_g (lw_at lw_m9 27 rfl) rfl
theorem q2041 : (Jvm.Cond.privateMethod ({ cls := "SecondHelpingsModel", name := "orderFrom", desc := "(II)V" } : Jvm.MethodName)) ∈ lw_tbl := lw_at lw_m9 28 rfl
theorem q2042 : (Jvm.Cond.instanceMethod ({ cls := "SecondHelpingsModel", name := "orderFrom", desc := "(II)V" } : Jvm.MethodName)) ∈ lw_all := lw_g (lw_at lw_m9 29 rfl) rfl
theorem q2043 : (Jvm.Cond.code ({ cls := "SecondHelpingsModel", name := "orderFrom", desc := "(II)V" } : Jvm.MethodName) prog_25_method_74_code (5 : Nat) (Option.none : Option Jvm.ClassFile.FieldType)) ∈ lw_all := lw_g (lw_at lw_m9 30 rfl) rfl
theorem q2044 : (Jvm.Cond.methodLink "SecondHelpingsModel" (301 : Nat) ({ cls := "SecondHelpingsModel", name := "eatsAll", desc := "(I)V" } : Jvm.MethodName)) ∈ lw_all := lw_g (lw_at lw_m9 31 rfl) rfl
theorem q2045 : (Jvm.Cond.privateMethod ({ cls := "SecondHelpingsModel", name := "eatsAll", desc := "(I)V" } : Jvm.MethodName)) ∈ lw_tbl := lw_at lw_m9 32 rfl
theorem q2046 : (Jvm.Cond.instanceMethod ({ cls := "SecondHelpingsModel", name := "eatsAll", desc := "(I)V" } : Jvm.MethodName)) ∈ lw_all := lw_g (lw_at lw_m9 33 rfl) rfl
theorem q2047 : (Jvm.Cond.code ({ cls := "SecondHelpingsModel", name := "eatsAll", desc := "(I)V" } : Jvm.MethodName) prog_25_method_73_code (3 : Nat) (Option.none : Option Jvm.ClassFile.FieldType)) ∈ lw_all := lw_g (lw_at lw_m9 34 rfl) rfl
theorem q2049 : (Jvm.Cond.instanceMethod ({ cls := "SecondHelpingsModel", name := "orderAt", desc := "(I)I" } : Jvm.MethodName)) ∈ lw_all := lw_g (lw_at lw_m9 36 rfl) rfl
theorem q2050 : (Jvm.Cond.selects "SecondHelpingsModel" ({ cls := "SecondHelpingsModel", name := "orderAt", desc := "(I)I" } : Jvm.MethodName) ({ cls := "SecondHelpingsModel", name := "orderAt", desc := "(I)I" } : Jvm.MethodName)) ∈ lw_all := lw_g (lw_at lw_m9 37 rfl) rfl
theorem q2051 : (Jvm.Cond.code ({ cls := "SecondHelpingsModel", name := "orderAt", desc := "(I)I" } : Jvm.MethodName) prog_25_method_77_code (2 : Nat) (Option.some Jvm.ClassFile.FieldType.int)) ∈ lw_all := lw_g (lw_at lw_m9 38 rfl) rfl
theorem q2053 : (Jvm.Cond.instanceMethod ({ cls := "SecondHelpingsModel", name := "eaters", desc := "()I" } : Jvm.MethodName)) ∈ lw_all := lw_g (lw_at lw_m9 40 rfl) rfl
theorem q2054 : (Jvm.Cond.selects "SecondHelpingsModel" ({ cls := "SecondHelpingsModel", name := "eaters", desc := "()I" } : Jvm.MethodName) ({ cls := "SecondHelpingsModel", name := "eaters", desc := "()I" } : Jvm.MethodName)) ∈ lw_all := lw_g (lw_at lw_m9 41 rfl) rfl
theorem q2055 : (Jvm.Cond.code ({ cls := "SecondHelpingsModel", name := "eaters", desc := "()I" } : Jvm.MethodName) prog_25_method_78_code (6 : Nat) (Option.some Jvm.ClassFile.FieldType.int)) ∈ lw_all := lw_g (lw_at lw_m9 42 rfl) rfl
theorem q2056 : (Jvm.Cond.methodLink "SecondHelpingsModel" (318 : Nat) ({ cls := "SecondHelpingsModel", name := "size", desc := "(I)I" } : Jvm.MethodName)) ∈ lw_all := lw_g (lw_at lw_m9 43 rfl) rfl
theorem q2057 : (Jvm.Cond.static ({ cls := "SecondHelpingsModel", name := "size", desc := "(I)I" } : Jvm.MethodName)) ∈ lw_all := lw_g (lw_at lw_m9 44 rfl) rfl
theorem q2058 : (Jvm.Cond.code ({ cls := "SecondHelpingsModel", name := "size", desc := "(I)I" } : Jvm.MethodName) prog_25_method_12_code (1 : Nat) (Option.some Jvm.ClassFile.FieldType.int)) ∈ lw_all := lw_g (lw_at lw_m9 45 rfl) rfl
theorem q2060 : (Jvm.Cond.instanceMethod ({ cls := "SecondHelpingsModel", name := "surely", desc := "()I" } : Jvm.MethodName)) ∈ lw_all := lw_g (lw_at lw_m9 47 rfl) rfl
theorem q2061 : (Jvm.Cond.selects "SecondHelpingsModel" ({ cls := "SecondHelpingsModel", name := "surely", desc := "()I" } : Jvm.MethodName) ({ cls := "SecondHelpingsModel", name := "surely", desc := "()I" } : Jvm.MethodName)) ∈ lw_all := lw_g (lw_at lw_m9 48 rfl) rfl
theorem q2062 : (Jvm.Cond.code ({ cls := "SecondHelpingsModel", name := "surely", desc := "()I" } : Jvm.MethodName) prog_25_method_79_code (1 : Nat) (Option.some Jvm.ClassFile.FieldType.int)) ∈ lw_all := lw_g (lw_at lw_m9 49 rfl) rfl
theorem q2064 : (Jvm.Cond.instanceMethod ({ cls := "SecondHelpingsModel", name := "ask", desc := "()I" } : Jvm.MethodName)) ∈ lw_all := lw_g (lw_at lw_m9 51 rfl) rfl
theorem q2065 : (Jvm.Cond.selects "SecondHelpingsModel" ({ cls := "SecondHelpingsModel", name := "ask", desc := "()I" } : Jvm.MethodName) ({ cls := "SecondHelpingsModel", name := "ask", desc := "()I" } : Jvm.MethodName)) ∈ lw_all := lw_g (lw_at lw_m9 52 rfl) rfl
theorem q2066 : (Jvm.Cond.code ({ cls := "SecondHelpingsModel", name := "ask", desc := "()I" } : Jvm.MethodName) prog_25_method_80_code (1 : Nat) (Option.some Jvm.ClassFile.FieldType.int)) ∈ lw_all := lw_g (lw_at lw_m9 53 rfl) rfl
theorem q2068 : (Jvm.Cond.instanceMethod ({ cls := "SecondHelpingsModel", name := "share", desc := "(III)I" } : Jvm.MethodName)) ∈ lw_all := lw_g (lw_at lw_m9 55 rfl) rfl
theorem q2069 : (Jvm.Cond.selects "SecondHelpingsModel" ({ cls := "SecondHelpingsModel", name := "share", desc := "(III)I" } : Jvm.MethodName) ({ cls := "SecondHelpingsModel", name := "share", desc := "(III)I" } : Jvm.MethodName)) ∈ lw_all := lw_g (lw_at lw_m9 56 rfl) rfl
theorem q2070 : (Jvm.Cond.code ({ cls := "SecondHelpingsModel", name := "share", desc := "(III)I" } : Jvm.MethodName) prog_25_method_81_code (11 : Nat) (Option.some Jvm.ClassFile.FieldType.int)) ∈ lw_all := lw_g (lw_at lw_m9 57 rfl) rfl
theorem q2072 : (Jvm.Cond.instanceMethod ({ cls := "SecondHelpingsModel", name := "last", desc := "(I)I" } : Jvm.MethodName)) ∈ lw_all := lw_g (lw_at lw_m9 59 rfl) rfl
theorem q2073 : (Jvm.Cond.selects "SecondHelpingsModel" ({ cls := "SecondHelpingsModel", name := "last", desc := "(I)I" } : Jvm.MethodName) ({ cls := "SecondHelpingsModel", name := "last", desc := "(I)I" } : Jvm.MethodName)) ∈ lw_all := lw_g (lw_at lw_m9 60 rfl) rfl
theorem q2074 : (Jvm.Cond.code ({ cls := "SecondHelpingsModel", name := "last", desc := "(I)I" } : Jvm.MethodName) prog_25_method_82_code (6 : Nat) (Option.some Jvm.ClassFile.FieldType.int)) ∈ lw_all := lw_g (lw_at lw_m9 61 rfl) rfl
theorem q2076 : (Jvm.Cond.instanceMethod ({ cls := "SecondHelpingsModel", name := "seats", desc := "()I" } : Jvm.MethodName)) ∈ lw_all := lw_g (lw_at lw_m9 63 rfl) rfl
theorem q2077 : (Jvm.Cond.selects "SecondHelpingsModel" ({ cls := "SecondHelpingsModel", name := "seats", desc := "()I" } : Jvm.MethodName) ({ cls := "SecondHelpingsModel", name := "seats", desc := "()I" } : Jvm.MethodName)) ∈ lw_all := lw_g (lw_at lw_m9 64 rfl) rfl
theorem q2078 : (Jvm.Cond.code ({ cls := "SecondHelpingsModel", name := "seats", desc := "()I" } : Jvm.MethodName) prog_25_method_84_code (1 : Nat) (Option.some Jvm.ClassFile.FieldType.int)) ∈ lw_all := lw_g (lw_at lw_m9 65 rfl) rfl
theorem q2079 : (Jvm.Cond.methodLink "SecondHelpingsModel" (323 : Nat) ({ cls := "SecondHelpingsModel", name := "seatFrom", desc := "(III)V" } : Jvm.MethodName)) ∈ lw_all := lw_g (lw_at lw_m9 66 rfl) rfl
theorem q2080 : (Jvm.Cond.privateMethod ({ cls := "SecondHelpingsModel", name := "seatFrom", desc := "(III)V" } : Jvm.MethodName)) ∈ lw_tbl := lw_at lw_m9 67 rfl
theorem q2081 : (Jvm.Cond.instanceMethod ({ cls := "SecondHelpingsModel", name := "seatFrom", desc := "(III)V" } : Jvm.MethodName)) ∈ lw_all := lw_g (lw_at lw_m9 68 rfl) rfl
theorem q2082 : (Jvm.Cond.code ({ cls := "SecondHelpingsModel", name := "seatFrom", desc := "(III)V" } : Jvm.MethodName) prog_25_method_83_code (5 : Nat) (Option.none : Option Jvm.ClassFile.FieldType)) ∈ lw_all := lw_g (lw_at lw_m9 69 rfl) rfl
theorem q2084 : (Jvm.Cond.instanceMethod ({ cls := "SecondHelpingsModel", name := "seatAt", desc := "(I)I" } : Jvm.MethodName)) ∈ lw_all := lw_g (lw_at lw_m9 71 rfl) rfl
theorem q2085 : (Jvm.Cond.selects "SecondHelpingsModel" ({ cls := "SecondHelpingsModel", name := "seatAt", desc := "(I)I" } : Jvm.MethodName) ({ cls := "SecondHelpingsModel", name := "seatAt", desc := "(I)I" } : Jvm.MethodName)) ∈ lw_all := lw_g (lw_at lw_m9 72 rfl) rfl
theorem q2086 : (Jvm.Cond.code ({ cls := "SecondHelpingsModel", name := "seatAt", desc := "(I)I" } : Jvm.MethodName) prog_25_method_85_code (2 : Nat) (Option.some Jvm.ClassFile.FieldType.int)) ∈ lw_all := lw_g (lw_at lw_m9 73 rfl) rfl
theorem q2088 : (Jvm.Cond.instanceMethod ({ cls := "SecondHelpingsModel", name := "left", desc := "(I)I" } : Jvm.MethodName)) ∈ lw_all := lw_g (lw_at lw_m9 75 rfl) rfl
theorem q2089 : (Jvm.Cond.selects "SecondHelpingsModel" ({ cls := "SecondHelpingsModel", name := "left", desc := "(I)I" } : Jvm.MethodName) ({ cls := "SecondHelpingsModel", name := "left", desc := "(I)I" } : Jvm.MethodName)) ∈ lw_all := lw_g (lw_at lw_m9 76 rfl) rfl
theorem q2090 : (Jvm.Cond.code ({ cls := "SecondHelpingsModel", name := "left", desc := "(I)I" } : Jvm.MethodName) prog_25_method_88_code (4 : Nat) (Option.some Jvm.ClassFile.FieldType.int)) ∈ lw_all := lw_g (lw_at lw_m9 77 rfl) rfl
theorem q2091 : (Jvm.Cond.methodLink "SecondHelpingsModel" (329 : Nat) ({ cls := "SecondHelpingsModel", name := "layAside", desc := "()V" } : Jvm.MethodName)) ∈ lw_all := lw_g (lw_at lw_m9 78 rfl) rfl
theorem q2092 : (Jvm.Cond.privateMethod ({ cls := "SecondHelpingsModel", name := "layAside", desc := "()V" } : Jvm.MethodName)) ∈ lw_tbl := lw_at lw_m9 79 rfl
theorem q2093 : (Jvm.Cond.instanceMethod ({ cls := "SecondHelpingsModel", name := "layAside", desc := "()V" } : Jvm.MethodName)) ∈ lw_all := lw_g (lw_at lw_m9 80 rfl) rfl
theorem q2094 : (Jvm.Cond.code ({ cls := "SecondHelpingsModel", name := "layAside", desc := "()V" } : Jvm.MethodName) prog_25_method_86_code (2 : Nat) (Option.none : Option Jvm.ClassFile.FieldType)) ∈ lw_all := lw_g (lw_at lw_m9 81 rfl) rfl
theorem q2095 : (Jvm.Cond.methodLink "SecondHelpingsModel" (332 : Nat) ({ cls := "SecondHelpingsModel", name := "takeBack", desc := "()V" } : Jvm.MethodName)) ∈ lw_all := lw_g (lw_at lw_m9 82 rfl) rfl
theorem q2096 : (Jvm.Cond.privateMethod ({ cls := "SecondHelpingsModel", name := "takeBack", desc := "()V" } : Jvm.MethodName)) ∈ lw_tbl := lw_at lw_m9 83 rfl
theorem q2097 : (Jvm.Cond.instanceMethod ({ cls := "SecondHelpingsModel", name := "takeBack", desc := "()V" } : Jvm.MethodName)) ∈ lw_all := lw_g (lw_at lw_m9 84 rfl) rfl
theorem q2098 : (Jvm.Cond.code ({ cls := "SecondHelpingsModel", name := "takeBack", desc := "()V" } : Jvm.MethodName) prog_25_method_87_code (2 : Nat) (Option.none : Option Jvm.ClassFile.FieldType)) ∈ lw_all := lw_g (lw_at lw_m9 85 rfl) rfl
theorem q2100 : (Jvm.Cond.instanceMethod ({ cls := "SecondHelpingsModel", name := "kin", desc := "(II)I" } : Jvm.MethodName)) ∈ lw_all := lw_g (lw_at lw_m9 87 rfl) rfl
theorem q2101 : (Jvm.Cond.selects "SecondHelpingsModel" ({ cls := "SecondHelpingsModel", name := "kin", desc := "(II)I" } : Jvm.MethodName) ({ cls := "SecondHelpingsModel", name := "kin", desc := "(II)I" } : Jvm.MethodName)) ∈ lw_all := lw_g (lw_at lw_m9 88 rfl) rfl
theorem q2102 : (Jvm.Cond.code ({ cls := "SecondHelpingsModel", name := "kin", desc := "(II)I" } : Jvm.MethodName) prog_25_method_89_code (8 : Nat) (Option.some Jvm.ClassFile.FieldType.int)) ∈ lw_all := lw_g (lw_at lw_m9 89 rfl) rfl
theorem q2104 : (Jvm.Cond.instanceMethod ({ cls := "SecondHelpingsModel", name := "hungriest", desc := "()I" } : Jvm.MethodName)) ∈ lw_all := lw_g (lw_at lw_m9 91 rfl) rfl
theorem q2105 : (Jvm.Cond.selects "SecondHelpingsModel" ({ cls := "SecondHelpingsModel", name := "hungriest", desc := "()I" } : Jvm.MethodName) ({ cls := "SecondHelpingsModel", name := "hungriest", desc := "()I" } : Jvm.MethodName)) ∈ lw_all := lw_g (lw_at lw_m9 92 rfl) rfl
theorem q2106 : (Jvm.Cond.code ({ cls := "SecondHelpingsModel", name := "hungriest", desc := "()I" } : Jvm.MethodName) prog_25_method_90_code (3 : Nat) (Option.some Jvm.ClassFile.FieldType.int)) ∈ lw_all := lw_g (lw_at lw_m9 93 rfl) rfl
theorem q2108 : (Jvm.Cond.instanceMethod ({ cls := "SecondHelpingsModel", name := "will", desc := "(I)I" } : Jvm.MethodName)) ∈ lw_all := lw_g (lw_at lw_m9 95 rfl) rfl
theorem q2109 : (Jvm.Cond.selects "SecondHelpingsModel" ({ cls := "SecondHelpingsModel", name := "will", desc := "(I)I" } : Jvm.MethodName) ({ cls := "SecondHelpingsModel", name := "will", desc := "(I)I" } : Jvm.MethodName)) ∈ lw_all := lw_g (lw_at lw_m9 96 rfl) rfl
theorem q2110 : (Jvm.Cond.code ({ cls := "SecondHelpingsModel", name := "will", desc := "(I)I" } : Jvm.MethodName) prog_25_method_95_code (3 : Nat) (Option.some Jvm.ClassFile.FieldType.int)) ∈ lw_all := lw_g (lw_at lw_m9 97 rfl) rfl
theorem q2111 : (Jvm.Cond.methodLink "SecondHelpingsModel" (338 : Nat) ({ cls := "SecondHelpingsModel", name := "writeWord", desc := "(J)V" } : Jvm.MethodName)) ∈ lw_all := lw_g (lw_at lw_m9 98 rfl) rfl
theorem q2112 : (Jvm.Cond.privateMethod ({ cls := "SecondHelpingsModel", name := "writeWord", desc := "(J)V" } : Jvm.MethodName)) ∈ lw_tbl := lw_at lw_m9 99 rfl
theorem q2113 : (Jvm.Cond.instanceMethod ({ cls := "SecondHelpingsModel", name := "writeWord", desc := "(J)V" } : Jvm.MethodName)) ∈ lw_all := lw_g (lw_at lw_m9 100 rfl) rfl
theorem q2114 : (Jvm.Cond.code ({ cls := "SecondHelpingsModel", name := "writeWord", desc := "(J)V" } : Jvm.MethodName) prog_25_method_92_code (3 : Nat) (Option.none : Option Jvm.ClassFile.FieldType)) ∈ lw_all := lw_g (lw_at lw_m9 101 rfl) rfl
theorem q2115 : (Jvm.Cond.methodLink "SecondHelpingsModel" (342 : Nat) ({ cls := "SecondHelpingsModel", name := "write", desc := "(I)V" } : Jvm.MethodName)) ∈ lw_all := lw_g (lw_at lw_m9 102 rfl) rfl
theorem q2116 : (Jvm.Cond.privateMethod ({ cls := "SecondHelpingsModel", name := "write", desc := "(I)V" } : Jvm.MethodName)) ∈ lw_tbl := lw_at lw_m9 103 rfl
theorem q2117 : (Jvm.Cond.instanceMethod ({ cls := "SecondHelpingsModel", name := "write", desc := "(I)V" } : Jvm.MethodName)) ∈ lw_all := lw_g (lw_at lw_m9 104 rfl) rfl
theorem q2118 : (Jvm.Cond.code ({ cls := "SecondHelpingsModel", name := "write", desc := "(I)V" } : Jvm.MethodName) prog_25_method_91_code (2 : Nat) (Option.none : Option Jvm.ClassFile.FieldType)) ∈ lw_all := lw_g (lw_at lw_m9 105 rfl) rfl
theorem q2119 : (Jvm.Cond.methodLink "SecondHelpingsModel" (348 : Nat) ({ cls := "SecondHelpingsModel", name := "writeNext", desc := "(J)V" } : Jvm.MethodName)) ∈ lw_all := lw_g (lw_at lw_m9 106 rfl) rfl
theorem q2120 : (Jvm.Cond.privateMethod ({ cls := "SecondHelpingsModel", name := "writeNext", desc := "(J)V" } : Jvm.MethodName)) ∈ lw_tbl := lw_at lw_m9 107 rfl
theorem q2121 : (Jvm.Cond.instanceMethod ({ cls := "SecondHelpingsModel", name := "writeNext", desc := "(J)V" } : Jvm.MethodName)) ∈ lw_all := lw_g (lw_at lw_m9 108 rfl) rfl
theorem q2122 : (Jvm.Cond.code ({ cls := "SecondHelpingsModel", name := "writeNext", desc := "(J)V" } : Jvm.MethodName) prog_25_method_94_code (3 : Nat) (Option.none : Option Jvm.ClassFile.FieldType)) ∈ lw_all := lw_g (lw_at lw_m9 109 rfl) rfl
theorem q2123 : (Jvm.Cond.methodLink "SecondHelpingsModel" (345 : Nat) ({ cls := "SecondHelpingsModel", name := "writeNumber", desc := "(I)V" } : Jvm.MethodName)) ∈ lw_all := lw_g (lw_at lw_m9 110 rfl) rfl
theorem q2124 : (Jvm.Cond.privateMethod ({ cls := "SecondHelpingsModel", name := "writeNumber", desc := "(I)V" } : Jvm.MethodName)) ∈ lw_tbl := lw_at lw_m9 111 rfl
theorem q2125 : (Jvm.Cond.instanceMethod ({ cls := "SecondHelpingsModel", name := "writeNumber", desc := "(I)V" } : Jvm.MethodName)) ∈ lw_all := lw_g (lw_at lw_m9 112 rfl) rfl
theorem q2126 : (Jvm.Cond.code ({ cls := "SecondHelpingsModel", name := "writeNumber", desc := "(I)V" } : Jvm.MethodName) prog_25_method_93_code (2 : Nat) (Option.none : Option Jvm.ClassFile.FieldType)) ∈ lw_all := lw_g (lw_at lw_m9 113 rfl) rfl
theorem q2128 : (Jvm.Cond.instanceMethod ({ cls := "SecondHelpingsModel", name := "byteAt", desc := "(I)I" } : Jvm.MethodName)) ∈ lw_all := lw_g (lw_at lw_m9 115 rfl) rfl
theorem q2129 : (Jvm.Cond.selects "SecondHelpingsModel" ({ cls := "SecondHelpingsModel", name := "byteAt", desc := "(I)I" } : Jvm.MethodName) ({ cls := "SecondHelpingsModel", name := "byteAt", desc := "(I)I" } : Jvm.MethodName)) ∈ lw_all := lw_g (lw_at lw_m9 116 rfl) rfl
theorem q2130 : (Jvm.Cond.code ({ cls := "SecondHelpingsModel", name := "byteAt", desc := "(I)I" } : Jvm.MethodName) prog_25_method_96_code (2 : Nat) (Option.some Jvm.ClassFile.FieldType.int)) ∈ lw_all := lw_g (lw_at lw_m9 117 rfl) rfl
theorem q2132 : (Jvm.Cond.instanceMethod ({ cls := "SecondHelpingsModel", name := "drawn", desc := "(II)I" } : Jvm.MethodName)) ∈ lw_all := lw_g (lw_at lw_m9 119 rfl) rfl
theorem q2133 : (Jvm.Cond.selects "SecondHelpingsModel" ({ cls := "SecondHelpingsModel", name := "drawn", desc := "(II)I" } : Jvm.MethodName) ({ cls := "SecondHelpingsModel", name := "drawn", desc := "(II)I" } : Jvm.MethodName)) ∈ lw_all := lw_g (lw_at lw_m9 120 rfl) rfl
theorem q2134 : (Jvm.Cond.code ({ cls := "SecondHelpingsModel", name := "drawn", desc := "(II)I" } : Jvm.MethodName) prog_25_method_99_code (3 : Nat) (Option.some Jvm.ClassFile.FieldType.int)) ∈ lw_all := lw_g (lw_at lw_m9 121 rfl) rfl
theorem q2135 : (Jvm.Cond.methodLink "SecondHelpingsModel" (358 : Nat) ({ cls := "SecondHelpingsModel", name := "drawMeals", desc := "(II)I" } : Jvm.MethodName)) ∈ lw_all := lw_g (lw_at lw_m9 122 rfl) rfl
theorem q2136 : (Jvm.Cond.privateMethod ({ cls := "SecondHelpingsModel", name := "drawMeals", desc := "(II)I" } : Jvm.MethodName)) ∈ lw_tbl := lw_at lw_m9 123 rfl
theorem q2137 : (Jvm.Cond.instanceMethod ({ cls := "SecondHelpingsModel", name := "drawMeals", desc := "(II)I" } : Jvm.MethodName)) ∈ lw_all := lw_g (lw_at lw_m9 124 rfl) rfl
theorem q2138 : (Jvm.Cond.code ({ cls := "SecondHelpingsModel", name := "drawMeals", desc := "(II)I" } : Jvm.MethodName) prog_25_method_98_code (7 : Nat) (Option.some Jvm.ClassFile.FieldType.int)) ∈ lw_all := lw_g (lw_at lw_m9 125 rfl) rfl
theorem q2139 : (Jvm.Cond.methodLink "SecondHelpingsModel" (355 : Nat) ({ cls := "SecondHelpingsModel", name := "draw", desc := "(I)I" } : Jvm.MethodName)) ∈ lw_all := lw_g (lw_at lw_m9 126 rfl) rfl
theorem q2140 : (Jvm.Cond.privateMethod ({ cls := "SecondHelpingsModel", name := "draw", desc := "(I)I" } : Jvm.MethodName)) ∈ lw_tbl := lw_at lw_m9 127 rfl
theorem q2141 : (Jvm.Cond.instanceMethod ({ cls := "SecondHelpingsModel", name := "draw", desc := "(I)I" } : Jvm.MethodName)) ∈ lw_all := lw_g (lw_at lw_m9 128 rfl) rfl
theorem q2142 : (Jvm.Cond.code ({ cls := "SecondHelpingsModel", name := "draw", desc := "(I)I" } : Jvm.MethodName) prog_25_method_97_code (2 : Nat) (Option.some Jvm.ClassFile.FieldType.int)) ∈ lw_all := lw_g (lw_at lw_m9 129 rfl) rfl
theorem q2143 : (Jvm.Cond.constant "SecondHelpingsModel" (354 : Nat) (1103515245 : Int32)) ∈ lw_all := lw_g (lw_at lw_m9 130 rfl) rfl
theorem q2145 : (Jvm.Cond.instanceMethod ({ cls := "SecondHelpingsModel", name := "odds", desc := "(III)I" } : Jvm.MethodName)) ∈ lw_all := lw_g (lw_at lw_m9 132 rfl) rfl
theorem q2146 : (Jvm.Cond.selects "SecondHelpingsModel" ({ cls := "SecondHelpingsModel", name := "odds", desc := "(III)I" } : Jvm.MethodName) ({ cls := "SecondHelpingsModel", name := "odds", desc := "(III)I" } : Jvm.MethodName)) ∈ lw_all := lw_g (lw_at lw_m9 133 rfl) rfl
theorem q2147 : (Jvm.Cond.code ({ cls := "SecondHelpingsModel", name := "odds", desc := "(III)I" } : Jvm.MethodName) prog_25_method_100_code (6 : Nat) (Option.some Jvm.ClassFile.FieldType.int)) ∈ lw_all := lw_g (lw_at lw_m9 134 rfl) rfl
theorem q2149 : (Jvm.Cond.instanceMethod ({ cls := "SecondHelpingsModel", name := "book", desc := "(I)I" } : Jvm.MethodName)) ∈ lw_all := lw_g (lw_at lw_m9 136 rfl) rfl
theorem q2150 : (Jvm.Cond.selects "SecondHelpingsModel" ({ cls := "SecondHelpingsModel", name := "book", desc := "(I)I" } : Jvm.MethodName) ({ cls := "SecondHelpingsModel", name := "book", desc := "(I)I" } : Jvm.MethodName)) ∈ lw_all := lw_g (lw_at lw_m9 137 rfl) rfl
theorem q2151 : (Jvm.Cond.code ({ cls := "SecondHelpingsModel", name := "book", desc := "(I)I" } : Jvm.MethodName) prog_25_method_104_code (4 : Nat) (Option.some Jvm.ClassFile.FieldType.int)) ∈ lw_all := lw_g (lw_at lw_m9 138 rfl) rfl
theorem q2152 : (Jvm.Cond.methodLink "SecondHelpingsModel" (367 : Nat) ({ cls := "SecondHelpingsModel", name := "readBookLine", desc := "()Z" } : Jvm.MethodName)) ∈ lw_all := lw_g (lw_at lw_m9 139 rfl) rfl
theorem q2153 : (Jvm.Cond.privateMethod ({ cls := "SecondHelpingsModel", name := "readBookLine", desc := "()Z" } : Jvm.MethodName)) ∈ lw_tbl := lw_at lw_m9 140 rfl
theorem q2154 : (Jvm.Cond.instanceMethod ({ cls := "SecondHelpingsModel", name := "readBookLine", desc := "()Z" } : Jvm.MethodName)) ∈ lw_all := lw_g (lw_at lw_m9 141 rfl) rfl
theorem q2155 : (Jvm.Cond.code ({ cls := "SecondHelpingsModel", name := "readBookLine", desc := "()Z" } : Jvm.MethodName) prog_25_method_102_code (3 : Nat) (Option.some Jvm.ClassFile.FieldType.boolean)) ∈ lw_all := lw_g (lw_at lw_m9 142 rfl) rfl
theorem q2156 : (Jvm.Cond.methodLink "SecondHelpingsModel" (364 : Nat) ({ cls := "SecondHelpingsModel", name := "readDoes", desc := "(I)Z" } : Jvm.MethodName)) ∈ lw_all := lw_g (lw_at lw_m9 143 rfl) rfl
theorem q2157 : (Jvm.Cond.privateMethod ({ cls := "SecondHelpingsModel", name := "readDoes", desc := "(I)Z" } : Jvm.MethodName)) ∈ lw_tbl := lw_at lw_m9 144 rfl
theorem q2158 : (Jvm.Cond.instanceMethod ({ cls := "SecondHelpingsModel", name := "readDoes", desc := "(I)Z" } : Jvm.MethodName)) ∈ lw_all := lw_g (lw_at lw_m9 145 rfl) rfl
theorem q2159 : (Jvm.Cond.code ({ cls := "SecondHelpingsModel", name := "readDoes", desc := "(I)Z" } : Jvm.MethodName) prog_25_method_101_code (3 : Nat) (Option.some Jvm.ClassFile.FieldType.boolean)) ∈ lw_all := lw_g (lw_at lw_m9 146 rfl) rfl
theorem q2160 : (Jvm.Cond.methodLink "SecondHelpingsModel" (370 : Nat) ({ cls := "SecondHelpingsModel", name := "goBy", desc := "(I)I" } : Jvm.MethodName)) ∈ lw_all := lw_g (lw_at lw_m9 147 rfl) rfl
theorem q2161 : (Jvm.Cond.privateMethod ({ cls := "SecondHelpingsModel", name := "goBy", desc := "(I)I" } : Jvm.MethodName)) ∈ lw_tbl := lw_at lw_m9 148 rfl
theorem q2162 : (Jvm.Cond.instanceMethod ({ cls := "SecondHelpingsModel", name := "goBy", desc := "(I)I" } : Jvm.MethodName)) ∈ lw_all := lw_g (lw_at lw_m9 149 rfl) rfl
theorem q2163 : (Jvm.Cond.code ({ cls := "SecondHelpingsModel", name := "goBy", desc := "(I)I" } : Jvm.MethodName) prog_25_method_103_code (4 : Nat) (Option.some Jvm.ClassFile.FieldType.int)) ∈ lw_all := lw_g (lw_at lw_m9 150 rfl) rfl
theorem q2164 : (Jvm.Cond.methodLink "SecondHelpingsModel" (376 : Nat) ({ cls := "SecondHelpingsModel", name := "stay", desc := "(Z)V" } : Jvm.MethodName)) ∈ lw_all := lw_g (lw_at lw_m9 151 rfl) rfl
theorem q2165 : (Jvm.Cond.privateMethod ({ cls := "SecondHelpingsModel", name := "stay", desc := "(Z)V" } : Jvm.MethodName)) ∈ lw_tbl := lw_at lw_m9 152 rfl
theorem q2166 : (Jvm.Cond.instanceMethod ({ cls := "SecondHelpingsModel", name := "stay", desc := "(Z)V" } : Jvm.MethodName)) ∈ lw_all := lw_g (lw_at lw_m9 153 rfl) rfl
theorem q2167 : (Jvm.Cond.code ({ cls := "SecondHelpingsModel", name := "stay", desc := "(Z)V" } : Jvm.MethodName) prog_25_method_105_code (4 : Nat) (Option.none : Option Jvm.ClassFile.FieldType)) ∈ lw_all := lw_g (lw_at lw_m9 154 rfl) rfl
theorem q2169 : (Jvm.Cond.instanceMethod ({ cls := "SecondHelpingsModel", name := "told", desc := "(I)I" } : Jvm.MethodName)) ∈ lw_all := lw_g (lw_at lw_m9 156 rfl) rfl
theorem q2170 : (Jvm.Cond.selects "SecondHelpingsModel" ({ cls := "SecondHelpingsModel", name := "told", desc := "(I)I" } : Jvm.MethodName) ({ cls := "SecondHelpingsModel", name := "told", desc := "(I)I" } : Jvm.MethodName)) ∈ lw_all := lw_g (lw_at lw_m9 157 rfl) rfl
theorem q2171 : (Jvm.Cond.code ({ cls := "SecondHelpingsModel", name := "told", desc := "(I)I" } : Jvm.MethodName) prog_25_method_106_code (2 : Nat) (Option.some Jvm.ClassFile.FieldType.int)) ∈ lw_all := lw_g (lw_at lw_m9 158 rfl) rfl
theorem q2173 : (Jvm.Cond.instanceMethod ({ cls := "SecondHelpingsModel", name := "sentence", desc := "()I" } : Jvm.MethodName)) ∈ lw_all := lw_g (lw_at lw_m9 160 rfl) rfl
theorem q2174 : (Jvm.Cond.selects "SecondHelpingsModel" ({ cls := "SecondHelpingsModel", name := "sentence", desc := "()I" } : Jvm.MethodName) ({ cls := "SecondHelpingsModel", name := "sentence", desc := "()I" } : Jvm.MethodName)) ∈ lw_all := lw_g (lw_at lw_m9 161 rfl) rfl
theorem q2175 : (Jvm.Cond.code ({ cls := "SecondHelpingsModel", name := "sentence", desc := "()I" } : Jvm.MethodName) prog_25_method_116_code (2 : Nat) (Option.some Jvm.ClassFile.FieldType.int)) ∈ lw_all := lw_g (lw_at lw_m9 162 rfl) rfl
theorem q2176 : (Jvm.Cond.methodLink "SecondHelpingsModel" (413 : Nat) ({ cls := "SecondHelpingsModel", name := "readOr", desc := "()Z" } : Jvm.MethodName)) ∈ lw_all := lw_g (lw_at lw_m9 163 rfl) rfl
theorem q2177 : (Jvm.Cond.privateMethod ({ cls := "SecondHelpingsModel", name := "readOr", desc := "()Z" } : Jvm.MethodName)) ∈ lw_tbl := lw_at lw_m9 164 rfl
theorem q2178 : (Jvm.Cond.instanceMethod ({ cls := "SecondHelpingsModel", name := "readOr", desc := "()Z" } : Jvm.MethodName)) ∈ lw_all := lw_g (lw_at lw_m9 165 rfl) rfl
theorem q2179 : (Jvm.Cond.code ({ cls := "SecondHelpingsModel", name := "readOr", desc := "()Z" } : Jvm.MethodName) prog_25_method_109_code (2 : Nat) (Option.some Jvm.ClassFile.FieldType.boolean)) ∈ lw_all := lw_g (lw_at lw_m9 166 rfl) rfl
theorem q2180 : (Jvm.Cond.methodLink "SecondHelpingsModel" (383 : Nat) ({ cls := "SecondHelpingsModel", name := "readAnd", desc := "()Z" } : Jvm.MethodName)) ∈ lw_all := lw_g (lw_at lw_m9 167 rfl) rfl
theorem q2181 : (Jvm.Cond.privateMethod ({ cls := "SecondHelpingsModel", name := "readAnd", desc := "()Z" } : Jvm.MethodName)) ∈ lw_tbl := lw_at lw_m9 168 rfl
theorem q2182 : (Jvm.Cond.instanceMethod ({ cls := "SecondHelpingsModel", name := "readAnd", desc := "()Z" } : Jvm.MethodName)) ∈ lw_all := lw_g (lw_at lw_m9 169 rfl) rfl
theorem q2183 : (Jvm.Cond.code ({ cls := "SecondHelpingsModel", name := "readAnd", desc := "()Z" } : Jvm.MethodName) prog_25_method_110_code (2 : Nat) (Option.some Jvm.ClassFile.FieldType.boolean)) ∈ lw_all := lw_g (lw_at lw_m9 170 rfl) rfl
theorem q2184 : (Jvm.Cond.methodLink "SecondHelpingsModel" (392 : Nat) ({ cls := "SecondHelpingsModel", name := "readSaid", desc := "()Z" } : Jvm.MethodName)) ∈ lw_all := lw_g (lw_at lw_m9 171 rfl) rfl
theorem q2185 : (Jvm.Cond.privateMethod ({ cls := "SecondHelpingsModel", name := "readSaid", desc := "()Z" } : Jvm.MethodName)) ∈ lw_tbl := lw_at lw_m9 172 rfl
theorem q2186 : (Jvm.Cond.instanceMethod ({ cls := "SecondHelpingsModel", name := "readSaid", desc := "()Z" } : Jvm.MethodName)) ∈ lw_all := lw_g (lw_at lw_m9 173 rfl) rfl
theorem q2187 : (Jvm.Cond.code ({ cls := "SecondHelpingsModel", name := "readSaid", desc := "()Z" } : Jvm.MethodName) prog_25_method_111_code (4 : Nat) (Option.some Jvm.ClassFile.FieldType.boolean)) ∈ lw_all := lw_g (lw_at lw_m9 174 rfl) rfl
theorem q2188 : (Jvm.Cond.methodLink "SecondHelpingsModel" (401 : Nat) ({ cls := "SecondHelpingsModel", name := "readBracket", desc := "()Z" } : Jvm.MethodName)) ∈ lw_all := lw_g (lw_at lw_m9 175 rfl) rfl
theorem q2189 : (Jvm.Cond.privateMethod ({ cls := "SecondHelpingsModel", name := "readBracket", desc := "()Z" } : Jvm.MethodName)) ∈ lw_tbl := lw_at lw_m9 176 rfl
theorem q2190 : (Jvm.Cond.instanceMethod ({ cls := "SecondHelpingsModel", name := "readBracket", desc := "()Z" } : Jvm.MethodName)) ∈ lw_all := lw_g (lw_at lw_m9 177 rfl) rfl
theorem q2191 : (Jvm.Cond.code ({ cls := "SecondHelpingsModel", name := "readBracket", desc := "()Z" } : Jvm.MethodName) prog_25_method_113_code (1 : Nat) (Option.some Jvm.ClassFile.FieldType.boolean)) ∈ lw_all := lw_g (lw_at lw_m9 178 rfl) rfl
theorem q2192 : (Jvm.Cond.methodLink "SecondHelpingsModel" (404 : Nat) ({ cls := "SecondHelpingsModel", name := "readNot", desc := "()Z" } : Jvm.MethodName)) ∈ lw_all := lw_g (lw_at lw_m9 179 rfl) rfl
theorem q2193 : (Jvm.Cond.privateMethod ({ cls := "SecondHelpingsModel", name := "readNot", desc := "()Z" } : Jvm.MethodName)) ∈ lw_tbl := lw_at lw_m9 180 rfl
theorem q2194 : (Jvm.Cond.instanceMethod ({ cls := "SecondHelpingsModel", name := "readNot", desc := "()Z" } : Jvm.MethodName)) ∈ lw_all := lw_g (lw_at lw_m9 181 rfl) rfl
theorem q2195 : (Jvm.Cond.code ({ cls := "SecondHelpingsModel", name := "readNot", desc := "()Z" } : Jvm.MethodName) prog_25_method_112_code (1 : Nat) (Option.some Jvm.ClassFile.FieldType.boolean)) ∈ lw_all := lw_g (lw_at lw_m9 182 rfl) rfl
theorem q2196 : (Jvm.Cond.methodLink "SecondHelpingsModel" (389 : Nat) ({ cls := "SecondHelpingsModel", name := "saysOne", desc := "(IIII)I" } : Jvm.MethodName)) ∈ lw_all := lw_g (lw_at lw_m9 183 rfl) rfl
theorem q2197 : (Jvm.Cond.privateMethod ({ cls := "SecondHelpingsModel", name := "saysOne", desc := "(IIII)I" } : Jvm.MethodName)) ∈ lw_tbl := lw_at lw_m9 184 rfl
theorem q2198 : (Jvm.Cond.instanceMethod ({ cls := "SecondHelpingsModel", name := "saysOne", desc := "(IIII)I" } : Jvm.MethodName)) ∈ lw_all := lw_g (lw_at lw_m9 185 rfl) rfl
theorem q2199 : (Jvm.Cond.code ({ cls := "SecondHelpingsModel", name := "saysOne", desc := "(IIII)I" } : Jvm.MethodName) prog_25_method_108_code (6 : Nat) (Option.some Jvm.ClassFile.FieldType.int)) ∈ lw_all := lw_g (lw_at lw_m9 186 rfl) rfl
theorem q2200 : (Jvm.Cond.methodLink "SecondHelpingsModel" (407 : Nat) ({ cls := "SecondHelpingsModel", name := "readOf", desc := "(I)Z" } : Jvm.MethodName)) ∈ lw_all := lw_g (lw_at lw_m9 187 rfl) rfl
theorem q2201 : (Jvm.Cond.privateMethod ({ cls := "SecondHelpingsModel", name := "readOf", desc := "(I)Z" } : Jvm.MethodName)) ∈ lw_tbl := lw_at lw_m9 188 rfl
theorem q2202 : (Jvm.Cond.instanceMethod ({ cls := "SecondHelpingsModel", name := "readOf", desc := "(I)Z" } : Jvm.MethodName)) ∈ lw_all := lw_g (lw_at lw_m9 189 rfl) rfl
theorem q2203 : (Jvm.Cond.code ({ cls := "SecondHelpingsModel", name := "readOf", desc := "(I)Z" } : Jvm.MethodName) prog_25_method_114_code (2 : Nat) (Option.some Jvm.ClassFile.FieldType.boolean)) ∈ lw_all := lw_g (lw_at lw_m9 190 rfl) rfl
theorem q2204 : (Jvm.Cond.methodLink "SecondHelpingsModel" (416 : Nat) ({ cls := "SecondHelpingsModel", name := "readNamed", desc := "(II)Z" } : Jvm.MethodName)) ∈ lw_all := lw_g (lw_at lw_m9 191 rfl) rfl
theorem q2205 : (Jvm.Cond.privateMethod ({ cls := "SecondHelpingsModel", name := "readNamed", desc := "(II)Z" } : Jvm.MethodName)) ∈ lw_tbl := lw_at lw_m9 192 rfl
theorem q2206 : (Jvm.Cond.instanceMethod ({ cls := "SecondHelpingsModel", name := "readNamed", desc := "(II)Z" } : Jvm.MethodName)) ∈ lw_all := lw_g (lw_at lw_m9 193 rfl) rfl
theorem q2207 : (Jvm.Cond.code ({ cls := "SecondHelpingsModel", name := "readNamed", desc := "(II)Z" } : Jvm.MethodName) prog_25_method_107_code (3 : Nat) (Option.some Jvm.ClassFile.FieldType.boolean)) ∈ lw_all := lw_g (lw_at lw_m9 194 rfl) rfl
theorem q2208 : (Jvm.Cond.methodLink "SecondHelpingsModel" (410 : Nat) ({ cls := "SecondHelpingsModel", name := "readCompare", desc := "(I)Z" } : Jvm.MethodName)) ∈ lw_all := lw_g (lw_at lw_m9 195 rfl) rfl
theorem q2209 : (Jvm.Cond.privateMethod ({ cls := "SecondHelpingsModel", name := "readCompare", desc := "(I)Z" } : Jvm.MethodName)) ∈ lw_tbl := lw_at lw_m9 196 rfl
theorem q2210 : (Jvm.Cond.instanceMethod ({ cls := "SecondHelpingsModel", name := "readCompare", desc := "(I)Z" } : Jvm.MethodName)) ∈ lw_all := lw_g (lw_at lw_m9 197 rfl) rfl
theorem q2211 : (Jvm.Cond.code ({ cls := "SecondHelpingsModel", name := "readCompare", desc := "(I)Z" } : Jvm.MethodName) prog_25_method_115_code (3 : Nat) (Option.some Jvm.ClassFile.FieldType.boolean)) ∈ lw_all := lw_g (lw_at lw_m9 198 rfl) rfl
theorem q2213 : (Jvm.Cond.instanceMethod ({ cls := "SecondHelpingsModel", name := "said", desc := "(I)I" } : Jvm.MethodName)) ∈ lw_all := lw_g (lw_at lw_m9 200 rfl) rfl
theorem q2214 : (Jvm.Cond.selects "SecondHelpingsModel" ({ cls := "SecondHelpingsModel", name := "said", desc := "(I)I" } : Jvm.MethodName) ({ cls := "SecondHelpingsModel", name := "said", desc := "(I)I" } : Jvm.MethodName)) ∈ lw_all := lw_g (lw_at lw_m9 201 rfl) rfl
theorem q2215 : (Jvm.Cond.code ({ cls := "SecondHelpingsModel", name := "said", desc := "(I)I" } : Jvm.MethodName) prog_25_method_118_code (4 : Nat) (Option.some Jvm.ClassFile.FieldType.int)) ∈ lw_all := lw_g (lw_at lw_m9 202 rfl) rfl
theorem q2216 : (Jvm.Cond.methodLink "SecondHelpingsModel" (419 : Nat) ({ cls := "SecondHelpingsModel", name := "holds", desc := "(II)Z" } : Jvm.MethodName)) ∈ lw_all := lw_g (lw_at lw_m9 203 rfl) rfl
theorem q2217 : (Jvm.Cond.privateMethod ({ cls := "SecondHelpingsModel", name := "holds", desc := "(II)Z" } : Jvm.MethodName)) ∈ lw_tbl := lw_at lw_m9 204 rfl
theorem q2218 : (Jvm.Cond.instanceMethod ({ cls := "SecondHelpingsModel", name := "holds", desc := "(II)Z" } : Jvm.MethodName)) ∈ lw_all := lw_g (lw_at lw_m9 205 rfl) rfl
theorem q2219 : (Jvm.Cond.code ({ cls := "SecondHelpingsModel", name := "holds", desc := "(II)Z" } : Jvm.MethodName) prog_25_method_117_code (8 : Nat) (Option.some Jvm.ClassFile.FieldType.boolean)) ∈ lw_all := lw_g (lw_at lw_m9 206 rfl) rfl
theorem q2221 : (Jvm.Cond.instanceMethod ({ cls := "SecondHelpingsModel", name := "image", desc := "(I)Z" } : Jvm.MethodName)) ∈ lw_all := lw_g (lw_at lw_m9 208 rfl) rfl
theorem q2222 : (Jvm.Cond.selects "SecondHelpingsModel" ({ cls := "SecondHelpingsModel", name := "image", desc := "(I)Z" } : Jvm.MethodName) ({ cls := "SecondHelpingsModel", name := "image", desc := "(I)Z" } : Jvm.MethodName)) ∈ lw_all := lw_g (lw_at lw_m9 209 rfl) rfl
theorem q2223 : (Jvm.Cond.code ({ cls := "SecondHelpingsModel", name := "image", desc := "(I)Z" } : Jvm.MethodName) prog_25_method_119_code (3 : Nat) (Option.some Jvm.ClassFile.FieldType.boolean)) ∈ lw_all := lw_g (lw_at lw_m9 210 rfl) rfl
theorem q2225 : (Jvm.Cond.instanceMethod ({ cls := "SecondHelpingsModel", name := "restore", desc := "(I)Z" } : Jvm.MethodName)) ∈ lw_all := lw_g (lw_at lw_m9 212 rfl) rfl
theorem q2226 : (Jvm.Cond.selects "SecondHelpingsModel" ({ cls := "SecondHelpingsModel", name := "restore", desc := "(I)Z" } : Jvm.MethodName) ({ cls := "SecondHelpingsModel", name := "restore", desc := "(I)Z" } : Jvm.MethodName)) ∈ lw_all := lw_g (lw_at lw_m9 213 rfl) rfl
theorem q2227 : (Jvm.Cond.code ({ cls := "SecondHelpingsModel", name := "restore", desc := "(I)Z" } : Jvm.MethodName) prog_25_method_120_code (3 : Nat) (Option.some Jvm.ClassFile.FieldType.boolean)) ∈ lw_all := lw_g (lw_at lw_m9 214 rfl) rfl
theorem q2229 : (Jvm.Cond.instanceMethod ({ cls := "SecondHelpingsModel", name := "count", desc := "(I)I" } : Jvm.MethodName)) ∈ lw_all := lw_g (lw_at lw_m9 216 rfl) rfl
theorem q2230 : (Jvm.Cond.selects "SecondHelpingsModel" ({ cls := "SecondHelpingsModel", name := "count", desc := "(I)I" } : Jvm.MethodName) ({ cls := "SecondHelpingsModel", name := "count", desc := "(I)I" } : Jvm.MethodName)) ∈ lw_all := lw_g (lw_at lw_m9 217 rfl) rfl
theorem q2231 : (Jvm.Cond.code ({ cls := "SecondHelpingsModel", name := "count", desc := "(I)I" } : Jvm.MethodName) prog_25_method_121_code (2 : Nat) (Option.some Jvm.ClassFile.FieldType.int)) ∈ lw_all := lw_g (lw_at lw_m9 218 rfl) rfl
theorem q2260 : (Jvm.Cond.castable "SecondHelpingsModel" "java/lang/Object") ∈ lw_tbl := lw_at lw_m10 7 rfl
theorem in_X9 : ∀ w ∈ wsX90, w ∈ lw_all := lw_in wsX90 [1658, 1660, 1662, 1664, 1666, 1668, 1670, 1672, 1674, 1676, 1678, 1680, 1682, 1684, 1686, 1688, 1690, 1692, 1694, 1696, 1698, 1700, 1702, 1704, 1706, 1708, 1710, 1712, 1714, 1716, 1718, 1720, 1722, 1724, 1726, 1728, 1730, 1732, 1734, 1736, 1738, 1740, 1742, 1744, 1746, 1748, 1750, 1752, 1754, 1756, 1758] (by decide +kernel) (by decide +kernel)
